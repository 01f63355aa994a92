/-! the string made of a StringBuilder -/
theorem fit_c : ∀ c, c < 128 → fits .byte (.int (Int32.ofNat c)) = true := by decide
section PF
variable {E : gE} {N b : Nat} {A : FA} {S S0 : GS} {M : MS} {q cap v : Nat} {w : List Nat}
theorem gcln_n {β : Type} {n : Nat} {f : Nat → Int32} (hb : b + 111 ≤ S.2.1) (h : Cel b S v (.inl (0, n, .inl f))) (hf : gFitB n f = true) (K : Nat → GS → Option β) : gcln (put b A S) (some v) K = K S.2.1 (put b A (gpush S (.inl (0, n, .inl f)) n)) := by
  have e := h.at A
  unfold gcln garr
  simp only [e]
  rw [if_pos ⟨trivial, hf⟩, gpush_put hb]
  rfl
theorem gcb_n {β : Type} {x : vp_A} (h : Cel b S v (.inl (0, x))) (K : Option β) : gcb (put b A S) (some v) K = K := by
  have e := h.at A
  unfold gcb garr
  simp only [e]
  rw [if_pos trivial]
/-- a part of bytes, from the first -/
theorem c_cor (hE : E.1 ≤ b) (hb : b + 111 ≤ S.2.1) {f : Nat → Int32} (h : Cel b S v (.inl (0, cap, .inl f))) (hc : cap ≤ 1000) (hl : w.length ≤ cap) (h128 : ∀ c, c ∈ w → c < 128) (hf : ∀ i c, w[i]? = some c → f i = Int32.ofNat c) : ∃ S' F, Ext S S' ∧ S'.2 = (S.2.1 + 1, S.2.2.1 + 1, S.2.2.2 + w.length) ∧ Cel b S' S.2.1 (.inl (0, w.length, .inl F)) ∧ (∀ i c, w[i]? = some c → F i = Int32.ofNat c) ∧ fJ3_copyOfRange E N (put b A S) (some v) (Int32.ofNat 0) (Int32.ofNat w.length) = some (some S.2.1, put b A S') := by
  have rl : ∀ {β : Type} (K : Int32 → Option β), gal (put b A S) (some v) K = K (Int32.ofNat cap) := fun K => gal_at (h.at A) (by omega) K
  have hby : ∀ i, i < w.length → ∃ c, c < 128 ∧ f i = Int32.ofNat c := fun i hi => ⟨w[i], h128 _ (List.getElem_mem hi), hf i _ (List.getElem?_eq_getElem hi)⟩
  by_cases y : w.length = cap
  · have hfit : gFitB cap f = true := by
      unfold gFitB
      rw [List.all_eq_true]
      intro i hi
      obtain ⟨c, c1, c2⟩ := hby i (by rw [y]; exact List.mem_range.mp hi)
      rw [c2]
      exact fit_c c c1
    have n1 : Cel b (gpush S (.inl (0, cap, .inl f)) cap) S.2.1 (.inl (0, cap, .inl f)) := Cel.push hb _ _
    refine ⟨gpush S (.inl (0, cap, .inl f)) cap, f, Ext.push _ _ _, by rw [y]; rfl, by rw [y]; exact n1, hf, ?_⟩
    rw [y]
    simp only [fJ3_copyOfRange, bJ3_copyOfRange_0, bJ3_copyOfRange_21, pq_lit]
    simp (disch := omega) only [↓rl, ↓gcln_n hb h hfit, gcb_n n1, pq_lit, pq_add, pq_le, pq_lt, pq_eq, pq_en, pq_ne, pq_nle, pq_nlt, pq_len, pq_ltn, pB_z, pB_o, mzt_0, mzt_1, mzt_B, ↓gbd_s, gbd_s, ↓gnn_s, ↓grf_s, eq_self, ↓reduceIte, Nat.reduceEqDiff, Nat.reduceLeDiff, Nat.reduceLT, Nat.reduceMul, Nat.reduceAdd, not_true_eq_false, not_false_eq_true, Bool.false_eq_true]
  · obtain ⟨S1, hS1⟩ : ∃ S1, S1 = gpush S (.inl (0, w.length, gdfa 0)) w.length := ⟨_, rfl⟩
    have xp : Ext S S1 := by rw [hS1]; exact Ext.push _ _ _
    have n1 : Cel b S1 S.2.1 (.inl (0, w.length, .inl (fun _ => Int32.ofNat 0))) := by rw [hS1]; exact Cel.push hb _ _
    have h' := h.ext xp
    have rl1 : ∀ {β : Type} (K : Int32 → Option β), gal (put b A S1) (some v) K = K (Int32.ofNat cap) := fun K => gal_at (h'.at A) (by omega) K
    obtain ⟨F, hF⟩ : ∃ F, F = va_cpy f (fun _ => Int32.ofNat 0) 0 0 w.length := ⟨_, rfl⟩
    have cp : ∀ {β : Type} (K : GS → Option β), gcp E (put b A S1) (some v) (Int32.ofNat 0) (some S.2.1) (Int32.ofNat 0) (Int32.ofNat w.length) K = K (put b A (gup S1 S.2.1 (.inl (0, w.length, .inl F)))) := by
      intro β K
      rw [gcp_g (h'.at A) (n1.at A) (Or.inr ⟨rfl, fun i hi => by
        obtain ⟨c, c1, c2⟩ := hby i hi
        rw [Nat.zero_add, c2]; exact by_c c c1⟩) (by omega) (by omega) (by omega) (by omega) (by omega), gup_o n1.2.1, ← hF]
    refine ⟨gup S1 S.2.1 (.inl (0, w.length, .inl F)), F, xp.gup (Nat.le_refl _), by rw [hS1]; rfl, n1.up _, fun i c hi => ?_, ?_⟩
    · have hil : i < w.length := (List.getElem?_eq_some_iff.mp hi).1
      rw [hF]
      unfold va_cpy
      rw [if_pos (by omega), Nat.zero_add, Nat.sub_zero]
      exact hf i c hi
    · have e1 : Int32.ofNat w.length - Int32.ofNat 0 = Int32.ofNat w.length := pq_sub (by omega)
      have e2 : Int32.ofNat cap - Int32.ofNat 0 = Int32.ofNat cap := pq_sub (by omega)
      have z1 : w.length < cap := by omega
      have z2 : 0 ≤ w.length := by omega
      have ck : fJ3_checkLength E N (put b A S) (Int32.ofNat 0) (Int32.ofNat w.length) = some (Int32.ofNat 0, put b A S) := by
        simp only [fJ3_checkLength, bJ3_checkLength_0, pq_lit]
        simp (disch := omega) only [z2, pq_lit, pq_add, pq_le, pq_lt, pq_eq, pq_en, pq_ne, pq_nle, pq_nlt, pq_len, pq_ltn, pB_z, pB_o, mzt_0, mzt_1, mzt_B, ↓gbd_s, gbd_s, ↓gnn_s, ↓grf_s, eq_self, ↓reduceIte, Nat.reduceEqDiff, Nat.reduceLeDiff, Nat.reduceLT, Nat.reduceMul, Nat.reduceAdd, not_true_eq_false, not_false_eq_true, Bool.false_eq_true]
      simp only [fJ3_copyOfRange, bJ3_copyOfRange_0, bJ3_copyOfRange_10, bJ3_copyOfRange_16, fJ3_copyOfRangeByte, bJ3_copyOfRangeByte_0, bJ3_copyOfRangeByte_5, bJ3_copyOfRangeByte_12, bJ3_copyOfRangeByte_27, bJ3_copyOfRangeByte_30, pq_lit]
      simp (disch := omega) only [↓rl, y, ↓gbd_h (ck), ck, e1, ↓gna_n hb, ← hS1, ↓rl1, e2, z1, ↓cp, pq_lit, pq_add, pq_le, pq_lt, pq_eq, pq_en, pq_ne, pq_nle, pq_nlt, pq_len, pq_ltn, pB_z, pB_o, mzt_0, mzt_1, mzt_B, ↓gbd_s, gbd_s, ↓gnn_s, ↓grf_s, eq_self, ↓reduceIte, Nat.reduceEqDiff, Nat.reduceLeDiff, Nat.reduceLT, Nat.reduceMul, Nat.reduceAdd, not_true_eq_false, not_false_eq_true, Bool.false_eq_true]
theorem sb_str (hb : b + 111 ≤ S0.2.1) (hE : E.1 ≤ b) (h : SbAt b S0 S q w cap) : ∃ S', Ext S S' ∧ StrAt b S' S.2.1 w ∧ S'.2 = (S.2.1 + 2, S.2.2.1 + 2, S.2.2.2 + 4 + w.length) ∧ vjava_lang_StringBuilder_toString___Ljava_lang_String_ E N (put b A S) (some q) = some (some S.2.1, put b A S') := by
  obtain ⟨x0, hq, hl, hcap, h128, v, f, z, hv, hvq, c1, c2, hby, hf⟩ := h
  have hs1 : b + 111 ≤ S.2.1 := Nat.le_trans hb x0.1
  obtain ⟨S1, hS1⟩ : ∃ S1, S1 = gpush S (.inr (26, gdf 26)) (gdf 26).length := ⟨_, rfl⟩
  have xp : Ext S S1 := by rw [hS1]; exact Ext.push _ _ _
  have n1 : Cel b S1 S.2.1 (.inr (26, [.null, .int (Int32.ofNat 0), .int (Int32.ofNat 0), .int (Int32.ofNat 0)])) := by rw [hS1]; exact Cel.push hs1 _ _
  have hql : q < S.2.1 := c1.2.2
  have hvl : v < S.2.1 := c2.2.2
  have hS12 : S1.2 = (S.2.1 + 1, S.2.2.1 + 1, S.2.2.2 + 4) := by rw [hS1]; rfl
  obtain ⟨S2, hS2⟩ : ∃ S2, S2 = gup S1 S.2.1 (.inr (26, [.null, .int (Int32.ofNat 0), .int (Int32.ofNat 0), .int (Int32.ofNat 0)])) := ⟨_, rfl⟩
  have x2 : Ext S S2 := by rw [hS2]; exact xp.gup (Nat.le_refl _)
  have c1' := c1.ext xp
  have c2' := c2.ext x2
  have n2 : Cel b S2 S.2.1 (.inr (26, [.null, .int (Int32.ofNat 0), .int (Int32.ofNat 0), .int (Int32.ofNat 0)])) := by rw [hS2]; exact n1.up _
  have hS22 : S2.2 = (S.2.1 + 1, S.2.2.1 + 1, S.2.2.2 + 4) := by rw [hS2]; exact hS12
  obtain ⟨S3, F, x3, s3, n3, f3, cr⟩ := c_cor (E := E) (N := N) (A := A) (w := w) hE (show b + 111 ≤ S2.2.1 by rw [hS22]; exact Nat.le_succ_of_le hs1) c2' hcap hl h128 hf
  have e21 : S2.2.1 = S.2.1 + 1 := by rw [hS22]
  rw [e21] at n3 cr
  have n2' := n2.ext x3
  have q13 := fun {β : Type} (K : Option Nat → Option β) => r25_113 c1' A K
  have q14 := fun {β : Type} (K : Int32 → Option β) => r25_114 c1' A K
  have q16 := fun {β : Type} (K : Int32 → Option β) => r25_116 c1' A K
  have hEs : E.1 ≤ S.2.1 := by omega
  refine ⟨gup S3 S.2.1 (.inr (26, [.ref (S.2.1 + 1), .int (Int32.ofNat 0), .int (Int32.ofNat 0), .int (Int32.ofNat 0)])), (x2.tr x3).gup (Nat.le_refl _), ⟨S.2.1 + 1, Or.inl ⟨Int32.ofNat 0, Int32.ofNat 0, n2'.up _⟩, by omega, h128, F, n3.uo (by omega) _, f3⟩, ?_, ?_⟩
  · show S3.2 = _
    rw [s3, hS22]
  · have gv : vjava_lang_AbstractStringBuilder_getValue____B E N (put b A S1) (some q) = some (some v, put b A S1) := by
      simp only [vjava_lang_AbstractStringBuilder_getValue____B]
      rw [kc c1']
      simp only [fJ6_getValue, bJ6_getValue_0, pq_lit]
      simp (disch := omega) only [↓q13, pq_lit, pq_add, pq_le, pq_lt, pq_eq, pq_en, pq_ne, pq_nle, pq_nlt, pq_len, pq_ltn, pB_z, pB_o, mzt_0, mzt_1, mzt_B, ↓gbd_s, gbd_s, ↓gnn_s, ↓grf_s, eq_self, ↓reduceIte, Nat.reduceEqDiff, Nat.reduceLeDiff, Nat.reduceLT, Nat.reduceMul, Nat.reduceAdd, not_true_eq_false, not_false_eq_true, Bool.false_eq_true]
    have ln : vjava_lang_AbstractStringBuilder_length___I E N (put b A S1) (some q) = some (Int32.ofNat w.length, put b A S1) := by
      simp only [vjava_lang_AbstractStringBuilder_length___I]
      rw [kc c1']
      simp only [fJ7_length, bJ7_length_0, vS_java_lang_StringBuilder_length___I, pq_lit]
      rw [kc c1']
      simp only [fJ6_length, bJ6_length_0, pq_lit]
      simp (disch := omega) only [↓q16, pq_lit, pq_add, pq_le, pq_lt, pq_eq, pq_en, pq_ne, pq_nle, pq_nlt, pq_len, pq_ltn, pB_z, pB_o, mzt_0, mzt_1, mzt_B, ↓gbd_s, gbd_s, ↓gnn_s, ↓grf_s, eq_self, ↓reduceIte, Nat.reduceEqDiff, Nat.reduceLeDiff, Nat.reduceLT, Nat.reduceMul, Nat.reduceAdd, not_true_eq_false, not_false_eq_true, Bool.false_eq_true]
    have la : vjava_lang_AbstractStringBuilder_isLatin1___Z E N (put b A S1) (some q) = some (Int32.ofNat 1, put b A S1) := by
      simp only [vjava_lang_AbstractStringBuilder_isLatin1___Z, fJ6_isLatin1, bJ6_isLatin1_0, bJ6_isLatin1_18, bJ6_isLatin1_17, pq_lit]
      rw [kc c1']
      simp (disch := omega) only [↓q14, mzt_1, pq_lit, pq_add, pq_le, pq_lt, pq_eq, pq_en, pq_ne, pq_nle, pq_nlt, pq_len, pq_ltn, pB_z, pB_o, mzt_0, mzt_1, mzt_B, ↓gbd_s, gbd_s, ↓gnn_s, ↓grf_s, eq_self, ↓reduceIte, Nat.reduceEqDiff, Nat.reduceLeDiff, Nat.reduceLT, Nat.reduceMul, Nat.reduceAdd, not_true_eq_false, not_false_eq_true, Bool.false_eq_true]
    simp only [vjava_lang_StringBuilder_toString___Ljava_lang_String_]
    rw [kc c1]
    simp only [fJ7_toString, bJ7_toString_0, bJ7_toString_3, bJ7_toString_8, fJ8_init, bJ8_init_0, bJ8_init_6, fJ8_init_2, bJ8_init_2_0, bJ8_init_2_4, bJ8_init_2_8, bJ8_init_2_13, bJ8_init_2_19, bJ8_init_2_35, bJ8_init_2_97, pq_lit]
    simp (disch := omega) only [↓gnw_n hs1, ← hS1, ↓gbd_h (gv), gv, ↓gbd_h (ln), ln, ↓gbd_h (la), la, gnt_y nc_0, ↓w26_118 n1 hEs, ← hS2, ↓gbd_h (cr), cr, ↓w26_117 n2' hEs, g_rfs, pq_lit, pq_add, pq_le, pq_lt, pq_eq, pq_en, pq_ne, pq_nle, pq_nlt, pq_len, pq_ltn, pB_z, pB_o, mzt_0, mzt_1, mzt_B, ↓gbd_s, gbd_s, ↓gnn_s, ↓grf_s, eq_self, ↓reduceIte, Nat.reduceEqDiff, Nat.reduceLeDiff, Nat.reduceLT, Nat.reduceMul, Nat.reduceAdd, not_true_eq_false, not_false_eq_true, Bool.false_eq_true]
end PF
