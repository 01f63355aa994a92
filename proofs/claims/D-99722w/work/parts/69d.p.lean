/-! a number appended, and the string made -/
section PE
variable {E : gE} {N b : Nat} {A : FA} {S S0 : GS} {M : MS} {q cap : Nat} {w : List Nat}
theorem dec_l (n : Nat) : 1 ≤ (dec n).length ∧ (dec n).length ≤ 3 := by
  unfold dec
  split
  · exact ⟨by simp, by simp⟩
  · split
    · exact ⟨by simp, by simp⟩
    · exact ⟨by simp, by simp⟩
theorem dec_c {n : Nat} (hn : n < 1000) : ∀ c, c ∈ dec n → c < 128 := by
  unfold dec
  intro c
  split
  · intro h; simp at h; omega
  · split
    · intro h; simp at h; omega
    · intro h; simp at h; omega
theorem sb_num (hN : 1000 ≤ N) (kok : KOk E b S0) (h : SbAt b S0 S q w cap) {n : Nat} (hn : n < 1000) (hw : w.length ≤ 390) (hc : cap ≤ 400) : ∃ S' cap', SbAt b S0 S' q (w ++ dec n) cap' ∧ (cap' = cap ∨ (cap < w.length + (dec n).length ∧ cap' ≤ max (w.length + (dec n).length) (2 * cap + 2))) ∧ S'.2.2.1 ≤ S.2.2.1 + 1 ∧ S'.2.2.2 ≤ S.2.2.2 + cap' ∧ vjava_lang_StringBuilder_append__I_Ljava_lang_StringBuilder_ E N (put b A S) (some q) (Int32.ofNat n) = some (some q, put b A S') := by
  have hE := kok.1
  have hb := kok.2.1
  have hd := dec_l n
  obtain ⟨S1, cap', h1, g1, g2, g3, g4, en⟩ := sb_ens (E := E) (N := N) (A := A) hb hE h (n := w.length + (dec n).length) (by omega) hc
  have hc1 : cap' ≤ 1000 := h1.2.2.2.1
  obtain ⟨x0, hq, hl, hcap, h128, v0, f0, z0, hv0, hvq0, c10, c20, hby0, hf0⟩ := h
  obtain ⟨y0, _, hl1, hcap1, _, v, f, z, hv, hvq, c1, c2, hby, hf⟩ := h1
  have gc := c_gch (E := E) (N := N) (A := A) hN (k := w.length) hn kok y0 hv c2 hc1 g1
  obtain ⟨F, hF⟩ : ∃ F, F = dwr f w.length (dec n) := ⟨_, rfl⟩
  obtain ⟨S2, hS2⟩ : ∃ S2, S2 = gup S1 v (.inl (0, cap', .inl F)) := ⟨_, rfl⟩
  rw [← hF, ← hS2] at gc
  have r16 := fun {β : Type} (K : Int32 → Option β) => r25_116 c10 A K
  have q13 := fun {β : Type} (K : Option Nat → Option β) => r25_113 c1 A K
  have q14 := fun {β : Type} (K : Int32 → Option β) => r25_114 c1 A K
  have c1' : Cel b S2 q (.inr (25, [.ref v, .int (Int32.ofNat 0), .int z, .int (Int32.ofNat w.length)])) := by rw [hS2]; exact c1.uo (Ne.symm hvq) _
  have ss := fun S => c_ssz (E := E) (N := N) (S := S) hN hn
  refine ⟨gup S2 q (.inr (25, [.ref v, .int (Int32.ofNat 0), .int z, .int (Int32.ofNat (w.length + (dec n).length))])), cap', ?_, g2, ?_, ?_, ?_⟩
  · rw [hS2]
    refine SbAt.put (z := 0) y0 hq hc1 h128 (dec_c hn) g1 hv hvq c1 c2 (fun i hi => ?_) (fun i c hi => ?_)
    · rw [hF]
      unfold dwr
      split
      · refine by_c _ ?_
        rw [List.getD_eq_getElem?_getD]
        cases e : (dec n)[i - w.length]? with
        | none => simp
        | some x => exact dec_c hn x (List.mem_of_getElem? e)
      · exact hby i hi
    · have hil : i < w.length + (dec n).length := by
        have := (List.getElem?_eq_some_iff.mp hi).1
        rw [List.length_append] at this
        exact this
      rw [hF]
      unfold dwr
      by_cases e : i < w.length
      · rw [if_neg (by omega)]
        rw [List.getElem?_append_left e] at hi
        exact hf i c hi
      · rw [if_pos (by omega)]
        rw [List.getElem?_append_right (by omega)] at hi
        rw [List.getD_eq_getElem?_getD, hi]
        rfl
  · rw [hS2]; exact g3
  · rw [hS2]; exact g4
  · have hen : vjava_lang_AbstractStringBuilder_ensureCapacityInternal__I_V E N (put b A S) (some q) (Int32.ofNat (w.length + (dec n).length)) = some (Int32.ofNat 0, put b A S1) := by
      simp only [vjava_lang_AbstractStringBuilder_ensureCapacityInternal__I_V]
      rw [kc c10]
      exact en
    have hla : vjava_lang_AbstractStringBuilder_isLatin1___Z E N (put b A S1) (some q) = some (Int32.ofNat 1, put b A S1) := by
      simp only [vjava_lang_AbstractStringBuilder_isLatin1___Z, fJ6_isLatin1, bJ6_isLatin1_0, bJ6_isLatin1_18, bJ6_isLatin1_17, pq_lit]
      rw [kc c1]
      simp (disch := omega) only [↓q14, mzt_1, pq_lit, pq_add, pq_le, pq_lt, pq_eq, pq_en, pq_ne, pq_nle, pq_nlt, pq_len, pq_ltn, pB_z, pB_o, mzt_0, mzt_1, mzt_B, ↓gbd_s, gbd_s, ↓gnn_s, ↓grf_s, eq_self, ↓reduceIte, Nat.reduceEqDiff, Nat.reduceLeDiff, Nat.reduceLT, Nat.reduceMul, Nat.reduceAdd, not_true_eq_false, not_false_eq_true, Bool.false_eq_true]
    simp only [vjava_lang_StringBuilder_append__I_Ljava_lang_StringBuilder_]
    rw [kc c10]
    simp only [fJ7_append_3, bJ7_append_3_0, bJ7_append_3_5, vS_java_lang_StringBuilder_append__I_Ljava_lang_AbstractStringBuilder_, pq_lit]
    rw [kc c10]
    simp only [fJ6_append_3, bJ6_append_3_0, bJ6_append_3_10, bJ6_append_3_17, bJ6_append_3_21, bJ6_append_3_33, pq_lit]
    simp (disch := omega) only [↓r16, ↓gbd_h (ss _), ss _, ↓gbd_h (hen), hen, ↓gbd_h (hla), hla, ↓q13, ↓gbd_h (gc), gc, ↓w25_116 c1' (show E.1 ≤ q by omega), pq_lit, pq_add, pq_le, pq_lt, pq_eq, pq_en, pq_ne, pq_nle, pq_nlt, pq_len, pq_ltn, pB_z, pB_o, mzt_0, mzt_1, mzt_B, ↓gbd_s, gbd_s, ↓gnn_s, ↓grf_s, eq_self, ↓reduceIte, Nat.reduceEqDiff, Nat.reduceLeDiff, Nat.reduceLT, Nat.reduceMul, Nat.reduceAdd, not_true_eq_false, not_false_eq_true, Bool.false_eq_true]
end PE
