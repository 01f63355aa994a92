/-! pass: the model -/
section PJ
variable {N : Nat} {M : MS}
theorem of_e : (28518 : Int64) = enc [111, 102] ∧ (26990 : Int64) = enc [105, 110] := by decide
theorem wd_of : Wd [111, 102] ∧ Wd [105, 110] := by unfold Wd; decide
def psT (a h l : List Nat) (n : Nat) : List Nat := a ++ [32] ++ [111, 102] ++ [32] ++ h ++ [32] ++ [105, 110] ++ [32] ++ l ++ [32] ++ dec n
theorem m_pass (hN : 100 ≤ N) {s : St} {p n : Nat} {a h l : List Nat} (h6 : M.2.2.1 6 = s) (hI : IvS s) (hp : p < nP s) (ha : Wd a) (hh : Wd h) (hl : Wd l) (ea : M.2.2.2 9 (7 + p) = enc a) (eh : M.2.2.2 9 (hm s p) = enc h) (el : M.2.2.2 9 (wh s p) = enc l) (hn : n < 1000) (en : s (114 + p) = Int32.ofNat n) : ∃ M', mSm [0, 44, 45] M M' ∧ TxtIn M' (psT a h l n) ∧ fX5_pass N M (Int32.ofNat p) = some (Int32.ofNat (psT a h l n).length, M') := by
  have h6' := hI.p6
  have h7 := hI.l7
  have la := ha.2.1
  have lh := hh.2.1
  have ll := hl.2.1
  have hhl := hI.hl hp
  have hwl := (hI.2.2.2.2.2.2 p hp).2.2.2
  have T0 : TxtIn (mF (mF M 0 (Int32.ofNat 0)) 45 (Int32.ofNat 0)) [] := ⟨mF_e _ _ _, fun i c hi => by simp at hi⟩
  obtain ⟨M1, s1, t1, c1⟩ := m_spell (N := N) hN ha T0 (by simp; omega)
  obtain ⟨M2, s2, t2, c2⟩ := m_say (N := N) hN wd_of.1 t1 (by simp; omega)
  obtain ⟨M3, s3, t3, c3⟩ := m_say (N := N) hN hh t2 (by simp; omega)
  obtain ⟨M4, s4, t4, c4⟩ := m_say (N := N) hN wd_of.2 t3 (by simp; omega)
  obtain ⟨M5, s5, t5, c5⟩ := m_say (N := N) hN hl t4 (by simp; omega)
  obtain ⟨M6, s6, t6, c6⟩ := m_lay (N := N) (c := 32) t5 (by simp; omega) (by omega)
  obtain ⟨M7, s7, t7, c7⟩ := m_num (N := N) hn t6 (by simp; omega)
  rw [← of_e.1] at c2
  rw [← of_e.2] at c4
  have g2 := s1.tr s2
  have g4 := (g2.tr s3).tr s4
  have g6 := (g4.tr s5).tr s6
  have i6 : ∀ M', mSm [44, 45] (mF (mF M 0 (Int32.ofNat 0)) 45 (Int32.ofNat 0)) M' → M'.2.2.1 6 = s ∧ M'.2.2.2 = M.2.2.2 := fun M' g => ⟨((g.2 6 (by decide)).2).trans h6, g.1⟩
  have a2 := i6 M2 g2
  have a4 := i6 M4 g4
  have a6 := i6 M6 g6
  have mi := m_isPerson (N := N) (S := mF M 0 (Int32.ofNat 0)) (by rw [mF_a, h6]; exact hI) (Int32.ofNat p)
  have ip : inN (Int32.ofNat p) (nP s) = true := (inN_i (by omega)).mpr ⟨p, hp, rfl⟩
  rw [mF_a, h6, pB_t ip] at mi
  have o1 := hI.ho hp
  have o2 := hI.wo hp
  refine ⟨M7, ?_, by simpa [psT] using t7, ?_⟩
  · exact (((mSm.rf (ks := [0, 44, 45])).mF _ (by decide)).mF _ (by decide)).tr ((g6.tr s7).su (by decide))
  · have eL : (psT a h l n).length = ([] ++ a ++ [32] ++ [111, 102] ++ [32] ++ h ++ [32] ++ [105, 110] ++ [32] ++ l ++ [32] ++ dec n).length := by simp [psT]
    rw [eL, ← c7]
    simp only [fX5_pass, bX5_pass_0, pq_lit]
    have e9 : (mF (mF M 0 (Int32.ofNat 0)) 45 (Int32.ofNat 0)).2.2.2 9 (7 + p) = enc a := ea
    simp (disch := omega) only [↓mpt, ↓mbd_h (mi), mi, pq_add, ↓mrdL_n, mrdL_n, e9, ↓mbd_h (c1), c1, ↓mbd_h (c2), c2, ↓mrd_n, mrd_n, a2.1, a2.2, o1, eh, ↓mbd_h (c3), c3, ↓mbd_h (c4), c4, a4.1, a4.2, o2, el, ↓mbd_h (c5), c5, ↓mbd_h (c6), c6, a6.1, en, mbd_s, eq_self, ↓reduceIte, Nat.reduceEqDiff, Nat.reduceLeDiff, Nat.reduceLT, Nat.reduceMul, Nat.reduceAdd, not_true_eq_false, not_false_eq_true, Bool.false_eq_true, pq_lit, pq_add, pq_le, pq_lt, pq_eq, pq_en, pq_ne, pq_nle, pq_nlt, pq_len, pq_ltn, pB_z, pB_o, mzt_0, mzt_1, mzt_B]
end PJ
