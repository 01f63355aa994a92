/-! a StringBuilder -/
theorem gcp_g {β : Type} {E : gE} {S : GS} {a0 a κ n0 n1 n p o : Nat} {f g : Nat → Int32} (h0 : S.1 a0 = some (.inl (κ, n0, .inl f))) (h1 : S.1 a = some (.inl (κ, n1, .inl g))) (hκ : κ = 1 ∨ (κ = 0 ∧ ∀ i, i < n → vp_nar .byte (f (p + i)) = f (p + i))) (hE : E.1 ≤ a) (hn0 : p + n ≤ n0) (hn1 : o + n ≤ n1) (l0 : n0 ≤ 65536) (l1 : n1 ≤ 65536) (K : GS → Option β) : gcp E S (some a0) (Int32.ofNat p) (some a) (Int32.ofNat o) (Int32.ofNat n) K = K (gup S a (.inl (κ, n1, .inl (va_cpy f g p o n)))) := by
  have ep : (Int32.ofNat p).toNatClampNeg = p := pq_tn (by omega)
  have eo : (Int32.ofNat o).toNatClampNeg = o := pq_tn (by omega)
  have en : (Int32.ofNat n).toNatClampNeg = n := pq_tn (by omega)
  have z : ∀ k, k ≤ 65536 → ¬ Int32.ofNat k < 0 := by
    intro k hk
    show ¬ Int32.ofNat k < Int32.ofNat 0
    rw [pq_lt (by omega) (by omega)]; omega
  refine gcp_eq ⟨a0, a, κ, n0, n1, .inl f, .inl g, .inl (va_cpy f g p o n), rfl, rfl, h0, h1, hE, z p (by omega), z o (by omega), z n (by omega), ?_, ?_, ?_, rfl⟩ K
  · rw [ep, en]; omega
  · rw [eo, en]; omega
  · rw [ep, eo, en]; exact ⟨hκ, rfl⟩
/-- built since S0, at q, of the letters w -/
def SbAt (b : Nat) (S0 S : GS) (q : Nat) (w : List Nat) (cap : Nat) : Prop := Ext S0 S ∧ S0.2.1 ≤ q ∧ w.length ≤ cap ∧ cap ≤ 1000 ∧ (∀ c, c ∈ w → c < 128) ∧ ∃ v f z, S0.2.1 ≤ v ∧ v ≠ q ∧ Cel b S q (.inr (25, [.ref v, .int (Int32.ofNat 0), .int z, .int (Int32.ofNat w.length)])) ∧ Cel b S v (.inl (0, cap, .inl f)) ∧ (∀ i, i < cap → vp_nar .byte (f i) = f i) ∧ ∀ i c, w[i]? = some c → f i = Int32.ofNat c
theorem sh_l (n : Nat) : Int32.ofNat n <<< (Int32.ofNat 0 &&& Int32.ofNat 31) = Int32.ofNat n := by
  rw [← Int32.toBitVec_inj]
  simp [Int32.toBitVec_shiftLeft]
theorem by_c : ∀ c, c < 128 → vp_nar .byte (Int32.ofNat c) = Int32.ofNat c := by decide
section PA
variable {E : gE} {N b : Nat} {A : FA} {S S0 : GS} {M : MS} {q cap : Nat} {w : List Nat}
theorem sb_new (hb : b + 111 ≤ S.2.1) (hE : E.1 ≤ b) : ∃ S', SbAt b S S' S.2.1 [] 16 ∧ S'.2 = (S.2.1 + 2, S.2.2.1 + 2, S.2.2.2 + 20) ∧ fJ7_init E N (put b A (gpush S (.inr (25, gdf 25)) (gdf 25).length)) S.2.1 = some (Int32.ofNat 0, put b A S') := by
  have h1 : Cel b (gpush S (.inr (25, gdf 25)) (gdf 25).length) S.2.1 (.inr (25, [.null, .int 0, .int 0, .int 0])) := Cel.push hb _ _
  have h2 : Cel b (gpush (gpush S (.inr (25, gdf 25)) (gdf 25).length) (.inl (0, 16, gdfa 0)) 16) S.2.1 (.inr (25, [.null, .int 0, .int 0, .int 0])) := h1.ext (Ext.push _ _ _)
  have x1 : Ext S (gpush (gpush S (.inr (25, gdf 25)) (gdf 25).length) (.inl (0, 16, gdfa 0)) 16) := (Ext.push _ _ _).tr (Ext.push _ _ _)
  have hb2 : b + 111 ≤ (gpush S (.inr (25, gdf 25)) (gdf 25).length).2.1 := by rw [gpush_2]; omega
  have h3 : Cel b (gpush (gpush S (.inr (25, gdf 25)) (gdf 25).length) (.inl (0, 16, gdfa 0)) 16) (S.2.1 + 1) (.inl (0, 16, gdfa 0)) := Cel.push hb2 _ _
  have hg : E.1 ≤ S.2.1 := by omega
  have e1 : (gpush S (.inr (25, gdf 25)) (gdf 25).length).2.1 = S.2.1 + 1 := rfl
  refine ⟨gup (gpush (gpush S (.inr (25, gdf 25)) (gdf 25).length) (.inl (0, 16, gdfa 0)) 16) S.2.1 (.inr (25, [.ref (S.2.1 + 1), .int (Int32.ofNat 0), .int 0, .int (Int32.ofNat 0)])), ⟨x1.gup (Nat.le_refl _), Nat.le_refl _, Nat.zero_le _, by omega, by simp, S.2.1 + 1, fun _ => Int32.ofNat 0, 0, by omega, by omega, h2.up _, h3.uo (by omega) _, fun i _ => nc_0, fun i c hi => by simp at hi⟩, rfl, ?_⟩
  simp only [fJ7_init, bJ7_init_0, bJ7_init_6, fJ6_init, bJ6_init_0, bJ6_init_4, bJ6_init_14, pq_lit]
  simp (disch := omega) only [↓gna_n hb2, ↓w25_113 h2 hg, gnt_y nc_0, ↓w25_114 (h2.up _) hg, gup_gup, pq_lit, pq_add, pq_le, pq_lt, pq_eq, pq_en, pq_ne, pq_nle, pq_nlt, pq_len, pq_ltn, pB_z, pB_o, mzt_0, mzt_1, mzt_B, ↓gbd_s, gbd_s, ↓gnn_s, ↓grf_s, eq_self, ↓reduceIte, Nat.reduceEqDiff, Nat.reduceLeDiff, Nat.reduceLT, Nat.reduceMul, Nat.reduceAdd, not_true_eq_false, not_false_eq_true, Bool.false_eq_true, g_rfs, e1]
theorem sb_ens (hb : b + 111 ≤ S0.2.1) (hE : E.1 ≤ b) (h : SbAt b S0 S q w cap) {n : Nat} (hn : n ≤ 400) (hc : cap ≤ 400) : ∃ S' cap', SbAt b S0 S' q w cap' ∧ n ≤ cap' ∧ (cap' = cap ∨ (cap < n ∧ cap' ≤ max n (2 * cap + 2))) ∧ S'.2.2.1 ≤ S.2.2.1 + 1 ∧ S'.2.2.2 ≤ S.2.2.2 + cap' ∧ fJ6_ensureCapacityInternal E N (put b A S) q (Int32.ofNat n) = some (Int32.ofNat 0, put b A S') := by
  have hh := h
  obtain ⟨x0, hq, hl, hcap, h128, v, f, z, hv, hvq, c1, c2, hby, hf⟩ := h
  have r13 := fun {β : Type} (K : Option Nat → Option β) => r25_113 c1 A K
  have r14 := fun {β : Type} (K : Int32 → Option β) => r25_114 c1 A K
  have rl : ∀ {β : Type} (K : Int32 → Option β), gal (put b A S) (some v) K = K (Int32.ofNat cap) := fun K => gal_at (c2.at A) (by omega) K
  have s0 := sh_0 cap
  have hs1 : b + 111 ≤ S.2.1 := Nat.le_trans hb x0.1
  by_cases y : n ≤ cap
  · refine ⟨S, cap, hh, y, Or.inl rfl, by omega, by omega, ?_⟩
    have e : (Int32.ofNat n - Int32.ofNat cap ≤ Int32.ofNat 0) = True := by
      apply eq_true
      rw [Int32.le_iff_toInt_le, Int32.toInt_sub, pq_toInt (by omega), pq_toInt (by omega), pq_toInt (by omega)]
      have : (n : Int) - cap ≤ 0 := by omega
      rw [Int.bmod_eq_of_le (by omega) (by omega)]
      omega
    simp only [fJ6_ensureCapacityInternal, bJ6_ensureCapacityInternal_0, bJ6_ensureCapacityInternal_38, pq_lit]
    simp (disch := omega) only [↓r13, ↓rl, ↓r14, s0, e, pq_lit, pq_add, pq_le, pq_lt, pq_eq, pq_en, pq_ne, pq_nle, pq_nlt, pq_len, pq_ltn, pB_z, pB_o, mzt_0, mzt_1, mzt_B, ↓gbd_s, gbd_s, ↓gnn_s, ↓grf_s, eq_self, ↓reduceIte, Nat.reduceEqDiff, Nat.reduceLeDiff, Nat.reduceLT, Nat.reduceMul, Nat.reduceAdd, not_true_eq_false, not_false_eq_true, Bool.false_eq_true]
  · obtain ⟨k, hk⟩ : ∃ k, k = if n - cap < cap + 2 then cap + 2 else n - cap := ⟨_, rfl⟩
    have hk1 : n - cap ≤ k ∧ k ≤ max (n - cap) (cap + 2) ∧ cap + 2 ≤ k := by rw [hk]; split <;> omega
    obtain ⟨C, hC⟩ : ∃ C, C = cap + k := ⟨_, rfl⟩
    have e : ¬ n - cap ≤ 0 := by omega
    have es : Int32.ofNat n - Int32.ofNat cap = Int32.ofNat (n - cap) := pq_sub (by omega)
    have ek : (if n - cap < cap + 2 then Int32.ofNat (cap + 2) else Int32.ofNat (n - cap)) = Int32.ofNat k := by rw [hk]; split <;> rfl
    have nl : fJ10_newLength E N (put b A S) (Int32.ofNat cap) (Int32.ofNat (n - cap)) (Int32.ofNat (cap + 2)) = some (Int32.ofNat C, put b A S) := by
      have z1 : ¬ C ≤ 0 := by omega
      have z2 : ¬ 2147483639 < C := by omega
      simp only [fJ10_newLength, bJ10_newLength_0, pq_lit]
      simp (disch := omega) only [ek, ← hC, z1, z2, pq_lit, pq_add, pq_le, pq_lt, pq_eq, pq_en, pq_ne, pq_nle, pq_nlt, pq_len, pq_ltn, pB_z, pB_o, mzt_0, mzt_1, mzt_B, ↓gbd_s, gbd_s, ↓gnn_s, ↓grf_s, eq_self, ↓reduceIte, Nat.reduceEqDiff, Nat.reduceLeDiff, Nat.reduceLT, Nat.reduceMul, Nat.reduceAdd, not_true_eq_false, not_false_eq_true, Bool.false_eq_true]
    have nc : vjava_lang_AbstractStringBuilder_newCapacity__I_I E N (put b A S) (some q) (Int32.ofNat n) = some (Int32.ofNat C, put b A S) := by
      have z3 : ¬ C = 2147483647 := by omega
      have s1 := sh_l n
      have s2 := sh_l 2
      have s3 := sh_0 C
      simp only [vjava_lang_AbstractStringBuilder_newCapacity__I_I, fJ6_newCapacity, bJ6_newCapacity_0, pq_lit]
      rw [kc c1]
      simp (disch := omega) only [↓r13, ↓rl, ↓r14, s1, s2, s3, es, ↓gbd_h (nl), nl, z3, pq_lit, pq_add, pq_le, pq_lt, pq_eq, pq_en, pq_ne, pq_nle, pq_nlt, pq_len, pq_ltn, pB_z, pB_o, mzt_0, mzt_1, mzt_B, ↓gbd_s, gbd_s, ↓gnn_s, ↓grf_s, eq_self, ↓reduceIte, Nat.reduceEqDiff, Nat.reduceLeDiff, Nat.reduceLT, Nat.reduceMul, Nat.reduceAdd, not_true_eq_false, not_false_eq_true, Bool.false_eq_true]
    obtain ⟨S1, hS1⟩ : ∃ S1, S1 = gpush S (.inl (0, C, gdfa 0)) C := ⟨_, rfl⟩
    have xp : Ext S S1 := by rw [hS1]; exact Ext.push _ _ _
    have n1 : Cel b S1 S.2.1 (.inl (0, C, .inl (fun _ => Int32.ofNat 0))) := by rw [hS1]; exact Cel.push hs1 _ _
    have c2' := c2.ext xp
    have c1' := c1.ext xp
    have hvl : v < S.2.1 := c2.2.2
    have hql : q < S.2.1 := c1.2.2
    have rl1 : ∀ {β : Type} (K : Int32 → Option β), gal (put b A S1) (some v) K = K (Int32.ofNat cap) := fun K => gal_at (c2'.at A) (by omega) K
    obtain ⟨F, hF⟩ : ∃ F, F = va_cpy f (fun _ => Int32.ofNat 0) 0 0 cap := ⟨_, rfl⟩
    obtain ⟨S2, hS2⟩ : ∃ S2, S2 = gup S1 S.2.1 (.inl (0, C, .inl F)) := ⟨_, rfl⟩
    have cp : ∀ {β : Type} (K : GS → Option β), gcp E (put b A S1) (some v) (Int32.ofNat 0) (some S.2.1) (Int32.ofNat 0) (Int32.ofNat cap) K = K (put b A S2) := by
      intro β K
      rw [gcp_g (c2'.at A) (n1.at A) (Or.inr ⟨rfl, fun i hi => by rw [Nat.zero_add]; exact hby i hi⟩) (by omega) (by omega) (by omega) (by omega) (by omega), gup_o n1.2.1, ← hF, ← hS2]
    have co : fJ3_copyOf E N (put b A S) (some v) (Int32.ofNat C) = some (some S.2.1, put b A S2) := by
      have z4 : ¬ C = cap := by omega
      have z5 : ¬ C < cap := by omega
      simp only [fJ3_copyOf, bJ3_copyOf_0, bJ3_copyOf_17, bJ3_copyOf_28, bJ3_copyOf_31, pq_lit]
      simp (disch := omega) only [↓rl, z4, ↓gna_n hs1, ← hS1, ↓rl1, z5, ↓cp, pq_lit, pq_add, pq_le, pq_lt, pq_eq, pq_en, pq_ne, pq_nle, pq_nlt, pq_len, pq_ltn, pB_z, pB_o, mzt_0, mzt_1, mzt_B, ↓gbd_s, gbd_s, ↓gnn_s, ↓grf_s, eq_self, ↓reduceIte, Nat.reduceEqDiff, Nat.reduceLeDiff, Nat.reduceLT, Nat.reduceMul, Nat.reduceAdd, not_true_eq_false, not_false_eq_true, Bool.false_eq_true]
    have c1'' : Cel b S2 q (.inr (25, [.ref v, .int (Int32.ofNat 0), .int z, .int (Int32.ofNat w.length)])) := by rw [hS2]; exact c1'.uo (by omega) _
    have n2 : Cel b S2 S.2.1 (.inl (0, C, .inl F)) := by rw [hS2]; exact n1.up _
    refine ⟨gup S2 q (.inr (25, [.ref S.2.1, .int (Int32.ofNat 0), .int z, .int (Int32.ofNat w.length)])), C, ⟨?_, hq, by omega, by omega, h128, S.2.1, F, z, x0.1, by omega, c1''.up _, n2.uo (by omega) _, fun i hi => ?_, fun i c hi => ?_⟩, by omega, Or.inr ⟨by omega, by omega⟩, ?_, ?_, ?_⟩
    · rw [hS2]; exact ((x0.tr xp).gup x0.1).gup hq
    · rw [hF]
      unfold va_cpy
      split
      · rw [Nat.zero_add, Nat.sub_zero]; exact hby i (by omega)
      · exact nc_0
    · have hil : i < w.length := (List.getElem?_eq_some_iff.mp hi).1
      rw [hF]
      unfold va_cpy
      rw [if_pos (by omega), Nat.zero_add, Nat.sub_zero]
      exact hf i c hi
    · rw [hS2, hS1]; exact Nat.le_refl _
    · rw [hS2, hS1]; exact Nat.le_refl _
    · have s3 := sh_l C
      simp only [fJ6_ensureCapacityInternal, bJ6_ensureCapacityInternal_0, bJ6_ensureCapacityInternal_38, bJ6_ensureCapacityInternal_27, bJ6_ensureCapacityInternal_35, pq_lit]
      simp (disch := omega) only [↓r13, ↓rl, ↓r14, s0, es, e, ↓gbd_h (nc), nc, s3, ↓gbd_h (co), co, g_rfs, ↓w25_113 c1'' (show E.1 ≤ q by omega), pq_lit, pq_add, pq_le, pq_lt, pq_eq, pq_en, pq_ne, pq_nle, pq_nlt, pq_len, pq_ltn, pB_z, pB_o, mzt_0, mzt_1, mzt_B, ↓gbd_s, gbd_s, ↓gnn_s, ↓grf_s, eq_self, ↓reduceIte, Nat.reduceEqDiff, Nat.reduceLeDiff, Nat.reduceLT, Nat.reduceMul, Nat.reduceAdd, not_true_eq_false, not_false_eq_true, Bool.false_eq_true]
end PA
