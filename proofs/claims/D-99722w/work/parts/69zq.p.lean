/-! maps: how the times begin; roads, persons -/
def begF (h g : St) : St := fun k => if k < 91 then h k else if 94 ≤ k ∧ k < 101 then h (k - 77) else if 101 ≤ k ∧ k < 120 then h (k - 29) else if k < 319 then Int32.ofNat 0 else g k
theorem begF_lo {h g : St} {k : Nat} (hk : k < 91) : begF h g k = h k := if_pos hk
theorem begF_94 {h g : St} {l : Nat} (hl : l < 7) : begF h g (94 + l) = h (17 + l) := by
  unfold begF
  rw [if_neg (by omega), if_pos (by omega), show 94 + l - 77 = 17 + l by omega]
theorem begF_101 {h g : St} {l : Nat} (hl : l < 7) : begF h g (101 + l) = h (72 + l) := by
  unfold begF
  rw [if_neg (by omega), if_neg (by omega), if_pos (by omega), show 101 + l - 29 = 72 + l by omega]
theorem begF_108 {h g : St} {l : Nat} (hl : l < 6) : begF h g (108 + l) = h (79 + l) := by
  unfold begF
  rw [if_neg (by omega), if_neg (by omega), if_pos (by omega), show 108 + l - 29 = 79 + l by omega]
theorem begF_114 {h g : St} {l : Nat} (hl : l < 6) : begF h g (114 + l) = h (85 + l) := by
  unfold begF
  rw [if_neg (by omega), if_neg (by omega), if_pos (by omega), show 114 + l - 29 = 85 + l by omega]
theorem begF_z {h g : St} {k : Nat} (hk : (91 ≤ k ∧ k < 94) ∨ (120 ≤ k ∧ k < 319)) : begF h g k = Int32.ofNat 0 := by
  unfold begF
  rw [if_neg (by omega), if_neg (by omega), if_neg (by omega), if_pos (by omega)]
theorem begF_hi {h g : St} {k : Nat} (hk : 319 ≤ k) : begF h g k = g k := by
  unfold begF
  rw [if_neg (by omega), if_neg (by omega), if_neg (by omega), if_neg (by omega)]
theorem VB.iv {h : St} {w : Int32} (z : VB h w) (g : St) : nL (begF h g) = nL h ∧ nR (begF h g) = nR h ∧ nP (begF h g) = nP h ∧ IvA (begF h g) := by
  have n1 : nL (begF h g) = nL h := by unfold nL; rw [begF_lo (by omega)]
  have n2 : nR (begF h g) = nR h := by unfold nR; rw [begF_lo (by omega)]
  have n3 : nP (begF h g) = nP h := by unfold nP; rw [begF_lo (by omega)]
  obtain ⟨⟨a1, a2, a3, a4, a5, a6⟩, z2, z3, z4, z5⟩ := z
  refine ⟨n1, n2, n3, ⟨by rw [n1, begF_lo (by omega)]; exact a1, by omega, by rw [n2, begF_lo (by omega)]; exact a3, by omega, by rw [n3, begF_lo (by omega)]; exact a5, by omega, fun p hp => ?_⟩, ⟨0, by omega, begF_z (by omega)⟩, ⟨fun l h1 h2 => ?_, fun p h1 h2 => ?_⟩, ?_, ⟨fun l hl => ?_, 0, Nat.two_pow_pos _, begF_z (by omega)⟩, fun l hl => ?_, fun r h1 h2 => ?_⟩
  · rw [n3] at hp
    obtain ⟨x, x1, x2⟩ := (z4 p (by omega)).2.2 hp
    have e1 : hm (begF h g) p = x := by unfold hm; rw [begF_lo (by omega), x2, pq_tn (by omega)]
    have e2 : wh (begF h g) p = x := by unfold wh; rw [begF_108 (by omega), x2, pq_tn (by omega)]
    rw [e1, e2, n1, begF_lo (by omega), begF_108 (by omega)]
    exact ⟨x2, x1, x2, x1⟩
  · rw [n1] at h1
    rw [begF_94 h2, begF_101 h2]
    exact (z2 l h2).2.2.2.2 h1
  · rw [n3] at h1
    rw [begF_114 h2]
    exact ((z4 p h2).2.1 h1).2
  · have b1 : ∀ i, i < 7 → begF h g (ix i) = Int32.ofNat (begF h g (ix i)).toNatClampNeg ∧ (begF h g (ix i)).toNatClampNeg ≤ 99 := fun i hi => by
      obtain ⟨v, v1, v2⟩ := (z2 i hi).2.2.1
      rw [show ix i = 94 + i from if_pos hi, begF_94 hi, v2, pq_tn (by omega)]
      exact ⟨rfl, v1⟩
    have b2 : ∀ i, 7 ≤ i → i < 13 → begF h g (ix i) = Int32.ofNat (begF h g (ix i)).toNatClampNeg ∧ (begF h g (ix i)).toNatClampNeg ≤ 240 := fun i h1 hi => by
      obtain ⟨v, v1, v2⟩ := (z4 (i - 7) (by omega)).1
      rw [show ix i = 114 + (i - 7) by unfold ix; rw [if_neg (by omega)]; omega, begF_114 (by omega), v2, pq_tn (by omega)]
      exact ⟨rfl, v1⟩
    refine ⟨fun i => (begF h g (ix i)).toNatClampNeg, fun i hi => ?_, ?_, fun p hp => (b2 (7 + p) (by omega) (by omega)).2⟩
    · by_cases q : i < 7
      · exact (b1 i q).1
      · exact (b2 i (by omega) hi).1
    · have := (b1 0 (by omega)).2
      have := (b1 1 (by omega)).2
      have := (b1 2 (by omega)).2
      have := (b1 3 (by omega)).2
      have := (b1 4 (by omega)).2
      have := (b1 5 (by omega)).2
      have := (b1 6 (by omega)).2
      have := (b2 7 (by omega) (by omega)).2
      have := (b2 8 (by omega) (by omega)).2
      have := (b2 9 (by omega) (by omega)).2
      have := (b2 10 (by omega) (by omega)).2
      have := (b2 11 (by omega) (by omega)).2
      have := (b2 12 (by omega) (by omega)).2
      simp only [sF]
      omega
  · rw [begF_101 hl]
    exact (z2 l hl).2.2.2.1
  · rw [begF_lo (by omega), begF_lo (by omega)]
    exact ⟨(z2 l hl).1, (z2 l hl).2.1⟩
  · rw [n2] at h1
    rw [n1, begF_lo (by omega), begF_lo (by omega)]
    exact z3 r h1
theorem roadF_c {s s' : St} {x y : Int32} : ∀ (k r : Nat), r + k ≤ 12 → (∀ i, i < 60 → s' i = s i) → roadF s' x y r k = roadF s x y r k
  | 0, r, _, _ => rfl
  | k + 1, r, h, e => by
    unfold roadF
    rw [e (24 + r) (by omega), e (36 + r) (by omega), roadF_c k (r + 1) (by omega) e]
section MG
variable {E : gE} {N b : Nat} {A : FA} {S0 S S' : GS} {M M' : MS} {q a n lim fr : Nat} {d : AD} {ee : Ee} {t : Tk}
theorem MB.ats (z : MB E b S0 S M a d ee) {s : St} (e : ∀ k, k < 91 → s k = M.2.2.1 7 k) : AtD b S a s d := by
  have vb := z.2.2.2.2.2.2.2.2.1
  obtain ⟨h1, h2, h3, h4, h5, h6, h7⟩ := z.at
  have n1 : nL s = nL (M.2.2.1 7) := by unfold nL; rw [e 0 (by omega)]
  have n2 : nR s = nR (M.2.2.1 7) := by unfold nR; rw [e 1 (by omega)]
  have n3 : nP s = nP (M.2.2.1 7) := by unfold nP; rw [e 2 (by omega)]
  refine ⟨h1, by rw [n1]; exact h2, by rw [n2]; exact h3, by rw [n3]; exact h4, fun l hl => ?_, fun r hr => ?_, fun p hp => ?_⟩
  · rw [n1] at hl
    have := vb.2.1
    rw [e _ (by omega), e _ (by omega), e _ (by omega), e _ (by omega)]; exact h5 l hl
  · rw [n2] at hr
    have := vb.2.2.2.1
    rw [e _ (by omega), e _ (by omega), e _ (by omega), e _ (by omega)]; exact h6 r hr
  · rw [n3] at hp
    have := vb.2.2.2.2.2
    rw [e _ (by omega), e _ (by omega)]; exact h7 p hp
/-- the model's look for a road already told -/
theorem m_78 {nr x y : Nat} (hn : nr ≤ 12) (hx : x < 7) (hy : y < 7) (h18 : M.1 18 = Int32.ofNat y) : ∀ (k r m : Nat), r + k = nr → k < m → bX5_readRoad_78L N m M (Int32.ofNat nr) (Int32.ofNat x) (Int32.ofNat r) = if roadF (M.2.2.1 7) (Int32.ofNat x) (Int32.ofNat y) r k = none then bX5_readRoad_78 N (fun _ _ _ _ => none) M (Int32.ofNat nr) (Int32.ofNat x) (Int32.ofNat nr) else bX5_readRoad_141 N M
  | k, r, 0, _, h => by omega
  | 0, r, m + 1, h1, h2 => by
    have e1 : r = nr := by omega
    subst e1
    rw [if_pos (show roadF (M.2.2.1 7) (Int32.ofNat x) (Int32.ofNat y) r 0 = none from rfl)]
    show bX5_readRoad_78 N (bX5_readRoad_78L N m) M (Int32.ofNat r) (Int32.ofNat x) (Int32.ofNat r) = _
    unfold bX5_readRoad_78
    have le : Int32.ofNat r ≤ Int32.ofNat r := by rw [pq_le (by omega) (by omega)]; omega
    rw [if_pos le, if_pos le]
  | k + 1, r, m + 1, h1, h2 => by
    have ih := m_78 hn hx hy h18 k (r + 1) m (by omega) (by omega)
    have e1 : ¬ nr ≤ r := by omega
    unfold roadF
    by_cases q1 : M.2.2.1 7 (24 + r) = Int32.ofNat x ∧ M.2.2.1 7 (36 + r) = Int32.ofNat y
    · rw [if_pos (Or.inl q1), if_neg (by simp)]
      simp only [bX5_readRoad_78L, bX5_readRoad_78, pq_lit]
      simp (disch := omega) only [e1, pq_add, ↓mrd_n, mrd_n, q1.1, q1.2, h18, eq_self, ↓reduceIte, Nat.reduceEqDiff, Nat.reduceLeDiff, Nat.reduceLT, Nat.reduceMul, Nat.reduceAdd, not_true_eq_false, not_false_eq_true, Bool.false_eq_true, pq_lit, pq_add, pq_le, pq_lt, pq_eq, pq_en, pq_ne, pq_nle, pq_nlt, pq_len, pq_ltn, pB_z, pB_o, mzt_0, mzt_1, mzt_B]
    · by_cases q2 : M.2.2.1 7 (24 + r) = Int32.ofNat y ∧ M.2.2.1 7 (36 + r) = Int32.ofNat x
      · rw [if_pos (Or.inr q2), if_neg (by simp)]
        by_cases q3 : y = x
        · subst q3; exact absurd q2 q1
        · simp only [bX5_readRoad_78L, bX5_readRoad_78, bX5_readRoad_112, pq_lit]
          simp (disch := omega) only [e1, pq_add, ↓mrd_n, mrd_n, q2.1, q2.2, h18, q3, eq_self, ↓reduceIte, Nat.reduceEqDiff, Nat.reduceLeDiff, Nat.reduceLT, Nat.reduceMul, Nat.reduceAdd, not_true_eq_false, not_false_eq_true, Bool.false_eq_true, pq_lit, pq_add, pq_le, pq_lt, pq_eq, pq_en, pq_ne, pq_nle, pq_nlt, pq_len, pq_ltn, pB_z, pB_o, mzt_0, mzt_1, mzt_B]
      · rw [if_neg (c := _ ∨ _) (fun q => q.elim q1 q2), ← ih]
        simp only [bX5_readRoad_78L, bX5_readRoad_78, bX5_readRoad_112, bX5_readRoad_147, pq_lit]
        by_cases q3 : M.2.2.1 7 (24 + r) = Int32.ofNat x
        · have q4 : ¬ M.2.2.1 7 (36 + r) = Int32.ofNat y := fun q => q1 ⟨q3, q⟩
          by_cases q5 : x = y
          · subst q5
            simp (disch := omega) only [e1, pq_add, ↓mrd_n, mrd_n, q3, q4, h18, eq_self, ↓reduceIte, Nat.reduceEqDiff, Nat.reduceLeDiff, Nat.reduceLT, Nat.reduceMul, Nat.reduceAdd, not_true_eq_false, not_false_eq_true, Bool.false_eq_true, pq_lit, pq_add, pq_le, pq_lt, pq_eq, pq_en, pq_ne, pq_nle, pq_nlt, pq_len, pq_ltn, pB_z, pB_o, mzt_0, mzt_1, mzt_B]
          · simp (disch := omega) only [e1, pq_add, ↓mrd_n, mrd_n, q3, q4, q5, h18, eq_self, ↓reduceIte, Nat.reduceEqDiff, Nat.reduceLeDiff, Nat.reduceLT, Nat.reduceMul, Nat.reduceAdd, not_true_eq_false, not_false_eq_true, Bool.false_eq_true, pq_lit, pq_add, pq_le, pq_lt, pq_eq, pq_en, pq_ne, pq_nle, pq_nlt, pq_len, pq_ltn, pB_z, pB_o, mzt_0, mzt_1, mzt_B]
        · by_cases q5 : M.2.2.1 7 (24 + r) = Int32.ofNat y
          · have q6 : ¬ M.2.2.1 7 (36 + r) = Int32.ofNat x := fun q => q2 ⟨q5, q⟩
            have q7 : ¬ y = x := fun q => q3 (by rw [q5, q])
            simp (disch := omega) only [e1, pq_add, ↓mrd_n, mrd_n, q5, q6, q7, h18, eq_self, ↓reduceIte, Nat.reduceEqDiff, Nat.reduceLeDiff, Nat.reduceLT, Nat.reduceMul, Nat.reduceAdd, not_true_eq_false, not_false_eq_true, Bool.false_eq_true, pq_lit, pq_add, pq_le, pq_lt, pq_eq, pq_en, pq_ne, pq_nle, pq_nlt, pq_len, pq_ltn, pB_z, pB_o, mzt_0, mzt_1, mzt_B]
          · simp (disch := omega) only [e1, pq_add, ↓mrd_n, mrd_n, q3, q5, h18, eq_self, ↓reduceIte, Nat.reduceEqDiff, Nat.reduceLeDiff, Nat.reduceLT, Nat.reduceMul, Nat.reduceAdd, not_true_eq_false, not_false_eq_true, Bool.false_eq_true, pq_lit, pq_add, pq_le, pq_lt, pq_eq, pq_en, pq_ne, pq_nle, pq_nlt, pq_len, pq_ltn, pB_z, pB_o, mzt_0, mzt_1, mzt_B]
end MG
