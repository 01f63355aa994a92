/-! appending to a StringBuilder -/
section PB
variable {E : gE} {N b : Nat} {A : FA} {S S0 : GS} {M : MS} {q cap r : Nat} {w u : List Nat}
/-- one write of bytes behind those that are there -/
theorem SbAt.put {F : Nat → Int32} {v z : Nat} (x0 : Ext S0 S) (hq : S0.2.1 ≤ q) (hc : cap ≤ 1000) (hw : ∀ c, c ∈ w → c < 128) (hu : ∀ c, c ∈ u → c < 128) (hl : w.length + u.length ≤ cap) {f : Nat → Int32} {zz n0 : Int32} (hv : S0.2.1 ≤ v) (hvq : v ≠ q) (c1 : Cel b S q (.inr (25, [.ref v, .int (Int32.ofNat 0), .int zz, .int n0]))) (c2 : Cel b S v (.inl (0, cap, .inl f))) (hF : ∀ i, i < cap → vp_nar .byte (F i) = F i) (hf : ∀ i c, (w ++ u)[i]? = some c → F i = Int32.ofNat c) : SbAt b S0 (gup (gup S v (.inl (0, cap, .inl F))) q (.inr (25, [.ref v, .int (Int32.ofNat 0), .int zz, .int (Int32.ofNat (w.length + u.length))]))) q (w ++ u) cap := by
  refine ⟨(x0.gup hv).gup hq, hq, by rw [List.length_append]; exact hl, hc, fun c hc' => ?_, v, F, zz, hv, hvq, ?_, ?_, hF, hf⟩
  · rcases List.mem_append.mp hc' with h | h
    · exact hw c h
    · exact hu c h
  · rw [List.length_append]
    exact (c1.uo (Ne.symm hvq) _).up _
  · exact (c2.up _).uo hvq _
theorem sb_app (hb : b + 111 ≤ S0.2.1) (hE : E.1 ≤ b) (h : SbAt b S0 S q w cap) (hs : StrAt b S0 r u) (hn : w.length + u.length ≤ 400) (hc : cap ≤ 400) : ∃ S' cap', SbAt b S0 S' q (w ++ u) cap' ∧ (cap' = cap ∨ (cap < w.length + u.length ∧ cap' ≤ max (w.length + u.length) (2 * cap + 2))) ∧ S'.2.2.1 ≤ S.2.2.1 + 1 ∧ S'.2.2.2 ≤ S.2.2.2 + cap' ∧ vjava_lang_StringBuilder_append__Ljava_lang_String__Ljava_lang_StringBuilder_ E N (put b A S) (some q) (some r) = some (some q, put b A S') := by
  have hh := h
  obtain ⟨S1, cap', h1, g1, g2, g3, g4, en⟩ := sb_ens (E := E) (N := N) (A := A) hb hE h hn hc
  have hc1 : cap' ≤ 1000 := h1.2.2.2.1
  obtain ⟨x0, hq, hl, hcap, h128, v0, f0, z0, hv0, hvq0, c10, c20, hby0, hf0⟩ := h
  obtain ⟨y0, _, hl1, hcap1, _, v, f, z, hv, hvq, c1, c2, hby, hf⟩ := h1
  have hsS := hs.ext x0
  have hs1 := hs.ext y0
  have cl := c_slen (E := E) (N := N) (A := A) hsS
  have cd := c_cod (E := E) (N := N) (A := A) hs1
  obtain ⟨ci, fs, vs, fu, hci, hcs, gf1, gf2, es1, es2, hvs, hul, hu128, hfu⟩ := hs1.op
  have hsl : vs < S0.2.1 := by
    obtain ⟨_, _, vs', fu', _, hcs', _, _, es1', _, hvs', _⟩ := hs.op
    have e := (hcs'.ext y0).1.symm.trans hcs.1
    injection e with e
    injection e with e
    injection e with e e'
    rw [e', es1] at es1'
    injection es1' with es1'
    injection es1' with es1'
    rw [es1']
    exact hvs'.2.2
  have r16 := fun {β : Type} (K : Int32 → Option β) => r25_116 c10 A K
  have q13 := fun {β : Type} (K : Option Nat → Option β) => r25_113 c1 A K
  have q14 := fun {β : Type} (K : Int32 → Option β) => r25_114 c1 A K
  have q16 := fun {β : Type} (K : Int32 → Option β) => r25_116 c1 A K
  have s7 : ∀ {β : Type} (K : Option Nat → Option β), ggr (put b A S1) (some r) 117 K = K (some vs) := fun K => ggr_as (hcs.at A) gf1 es1 K
  have sl : ∀ {β : Type} (K : Int32 → Option β), gal (put b A S1) (some vs) K = K (Int32.ofNat u.length) := fun K => gal_at (hvs.at A) (by omega) K
  have hbu : ∀ i, i < u.length → fu i = Int32.ofNat (u.getD i 0) ∧ u.getD i 0 < 128 := fun i hi => by
    have e : u[i]? = some u[i] := List.getElem?_eq_getElem hi
    have e2 : u.getD i 0 = u[i] := by rw [List.getD_eq_getElem?_getD, e]; rfl
    rw [e2]
    exact ⟨hfu i _ e, hu128 _ (List.mem_of_getElem? e)⟩
  obtain ⟨F, hF⟩ : ∃ F, F = va_cpy fu f 0 w.length u.length := ⟨_, rfl⟩
  obtain ⟨S2, hS2⟩ : ∃ S2, S2 = gup S1 v (.inl (0, cap', .inl F)) := ⟨_, rfl⟩
  have cp : ∀ {β : Type} (K : GS → Option β), gcp E (put b A S1) (some vs) (Int32.ofNat 0) (some v) (Int32.ofNat w.length) (Int32.ofNat u.length) K = K (put b A S2) := by
    intro β K
    rw [gcp_g (hvs.at A) (c2.at A) (Or.inr ⟨rfl, fun i hi => by rw [Nat.zero_add, (hbu i hi).1]; exact by_c _ (hbu i hi).2⟩) (by omega) (by omega) (by omega) (by omega) (by omega), gup_o c2.2.1, ← hF, ← hS2]
  have c1' : Cel b S2 q (.inr (25, [.ref v, .int (Int32.ofNat 0), .int z, .int (Int32.ofNat w.length)])) := by rw [hS2]; exact c1.uo (Ne.symm hvq) _
  have p16 := fun {β : Type} (K : Int32 → Option β) => r25_116 c1' A K
  refine ⟨gup S2 q (.inr (25, [.ref v, .int (Int32.ofNat 0), .int z, .int (Int32.ofNat (w.length + u.length))])), cap', ?_, g2, ?_, ?_, ?_⟩
  · rw [hS2]
    refine SbAt.put (z := 0) y0 hq hc1 h128 hu128 g1 hv hvq c1 c2 (fun i hi => ?_) (fun i c hi => ?_)
    · rw [hF]
      unfold va_cpy
      split
      · rw [Nat.zero_add, (hbu (i - w.length) (by omega)).1]; exact by_c _ (hbu (i - w.length) (by omega)).2
      · exact hby i hi
    · have hil : i < w.length + u.length := by
        have := (List.getElem?_eq_some_iff.mp hi).1
        rw [List.length_append] at this
        exact this
      rw [hF]
      unfold va_cpy
      by_cases e : i < w.length
      · rw [if_neg (by omega)]
        rw [List.getElem?_append_left e] at hi
        exact hf i c hi
      · rw [if_pos (by omega), Nat.zero_add]
        rw [List.getElem?_append_right (by omega)] at hi
        exact hfu _ c hi
  · rw [hS2]; exact g3
  · rw [hS2]; exact g4
  · have sw := sh_l w.length
    have hgb : vjava_lang_String_getBytes___BIB_V E N (put b A S1) (some r) (some v) (Int32.ofNat w.length) (Int32.ofNat 0) = some (Int32.ofNat 0, put b A S2) := by
      rcases hci with rfl | rfl <;>
      · simp only [vjava_lang_String_getBytes___BIB_V, fJ8_getBytes, bJ8_getBytes_0, bJ8_getBytes_43, pq_lit]
        rw [kc hcs]
        simp (disch := omega) only [↓gbd_h (cd), cd, ↓s7, ↓sl, sw, ↓cp, pq_lit, pq_add, pq_le, pq_lt, pq_eq, pq_en, pq_ne, pq_nle, pq_nlt, pq_len, pq_ltn, pB_z, pB_o, mzt_0, mzt_1, mzt_B, ↓gbd_s, gbd_s, ↓gnn_s, ↓grf_s, eq_self, ↓reduceIte, Nat.reduceEqDiff, Nat.reduceLeDiff, Nat.reduceLT, Nat.reduceMul, Nat.reduceAdd, not_true_eq_false, not_false_eq_true, Bool.false_eq_true]
    have hif : vjava_lang_AbstractStringBuilder_inflateIfNeededFor__Ljava_lang_String__V E N (put b A S1) (some q) (some r) = some (Int32.ofNat 0, put b A S1) := by
      simp only [vjava_lang_AbstractStringBuilder_inflateIfNeededFor__Ljava_lang_String__V, fJ6_inflateIfNeededFor, bJ6_inflateIfNeededFor_0, bJ6_inflateIfNeededFor_21, pq_lit]
      rw [kc c1]
      simp (disch := omega) only [↓q14, ↓gbd_h (cd), cd, pq_lit, pq_add, pq_le, pq_lt, pq_eq, pq_en, pq_ne, pq_nle, pq_nlt, pq_len, pq_ltn, pB_z, pB_o, mzt_0, mzt_1, mzt_B, ↓gbd_s, gbd_s, ↓gnn_s, ↓grf_s, eq_self, ↓reduceIte, Nat.reduceEqDiff, Nat.reduceLeDiff, Nat.reduceLT, Nat.reduceMul, Nat.reduceAdd, not_true_eq_false, not_false_eq_true, Bool.false_eq_true]
    have hps : vjava_lang_AbstractStringBuilder_putStringAt__ILjava_lang_String__V E N (put b A S1) (some q) (Int32.ofNat w.length) (some r) = some (Int32.ofNat 0, put b A S2) := by
      simp only [vjava_lang_AbstractStringBuilder_putStringAt__ILjava_lang_String__V, fJ6_putStringAt, bJ6_putStringAt_0, pq_lit]
      rw [kc c1]
      simp (disch := omega) only [↓gbd_h (hif), hif, ↓q13, ↓q14, ↓gbd_h (hgb), hgb, pq_lit, pq_add, pq_le, pq_lt, pq_eq, pq_en, pq_ne, pq_nle, pq_nlt, pq_len, pq_ltn, pB_z, pB_o, mzt_0, mzt_1, mzt_B, ↓gbd_s, gbd_s, ↓gnn_s, ↓grf_s, eq_self, ↓reduceIte, Nat.reduceEqDiff, Nat.reduceLeDiff, Nat.reduceLT, Nat.reduceMul, Nat.reduceAdd, not_true_eq_false, not_false_eq_true, Bool.false_eq_true]
    have hen : vjava_lang_AbstractStringBuilder_ensureCapacityInternal__I_V E N (put b A S) (some q) (Int32.ofNat (w.length + u.length)) = some (Int32.ofNat 0, put b A S1) := by
      simp only [vjava_lang_AbstractStringBuilder_ensureCapacityInternal__I_V]
      rw [kc c10]
      exact en
    simp only [vjava_lang_StringBuilder_append__Ljava_lang_String__Ljava_lang_StringBuilder_]
    rw [kc c10]
    simp only [fJ7_append_2, bJ7_append_2_0, bJ7_append_2_5, vS_java_lang_StringBuilder_append__Ljava_lang_String__Ljava_lang_AbstractStringBuilder_, pq_lit]
    rw [kc c10]
    simp only [fJ6_append_2, bJ6_append_2_0, bJ6_append_2_13, bJ6_append_2_24, bJ6_append_2_33, bJ6_append_2_8, pq_lit]
    simp (disch := omega) only [↓gbd_h (cl), cl, ↓r16, ↓gbd_h (hen), hen, ↓q16, ↓gbd_h (hps), hps, ↓p16, ↓w25_116 c1' (show E.1 ≤ q by omega), reduceCtorEq, pq_lit, pq_add, pq_le, pq_lt, pq_eq, pq_en, pq_ne, pq_nle, pq_nlt, pq_len, pq_ltn, pB_z, pB_o, mzt_0, mzt_1, mzt_B, ↓gbd_s, gbd_s, ↓gnn_s, ↓grf_s, eq_self, ↓reduceIte, Nat.reduceEqDiff, Nat.reduceLeDiff, Nat.reduceLT, Nat.reduceMul, Nat.reduceAdd, not_true_eq_false, not_false_eq_true, Bool.false_eq_true]
end PB
