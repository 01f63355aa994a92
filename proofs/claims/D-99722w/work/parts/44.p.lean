/-! what is asked: fault, land, road, now, count; ways, told .. by place; the tape -/
section OE
variable {E : gE} {N b : Nat} {A : FA} {S : GS} {M : MS}
theorem o_fault (h : Rel E b A S M) : Op E b S 0 0 (fX1_fault E N (put b A S) b) (fX5_fault N M) := by
  refine ⟨M.1 15, A, S, mF M 0 (Int32.ofNat 0), ?_, ?_, h.m0 _, Nat.le_refl _, Nat.le_refl _⟩
  · simp only [bX1_fault_0, fX1_fault, ↓f_2, h.2.1.2.2]
  · simp (disch := omega) only [bX5_fault_0, fX5_fault, ↓mpt, pq_lit, mF_ne]
theorem o_spared (h : Rel E b A S M) : Op E b S 0 0 (fX1_spared E N (put b A S) b) (fX5_spared N M) := by
  refine ⟨aI A 13, A, S, mF M 0 (Int32.ofNat 0), ?_, ?_, h.m0 _, Nat.le_refl _, Nat.le_refl _⟩
  · simp only [bX1_spared_0, fX1_spared, ↓f_13]
  · simp only [bX5_spared_20, bX5_spared_0, fX5_spared, pq_lit]
    rcases h.2.2.2.2.2.1 with ⟨q1, q2⟩ | ⟨q1, q2⟩
    · simp (disch := omega) only [↓mpt, mF_ne, q1, q2, eq_self, ↓reduceIte, Nat.reduceEqDiff, Nat.reduceLeDiff, Nat.reduceLT, Nat.reduceMul, Nat.reduceAdd, not_true_eq_false, not_false_eq_true, Bool.false_eq_true, pq_lit, pq_add, pq_le, pq_lt, pq_eq, pq_en, pq_ne, pq_nle, pq_nlt, pq_len, pq_ltn, pB_z, pB_o, mzt_0, mzt_1, mzt_B]
    · simp (disch := omega) only [↓mpt, mF_ne, q1, q2, eq_self, ↓reduceIte, Nat.reduceEqDiff, Nat.reduceLeDiff, Nat.reduceLT, Nat.reduceMul, Nat.reduceAdd, not_true_eq_false, not_false_eq_true, Bool.false_eq_true, pq_lit, pq_add, pq_le, pq_lt, pq_eq, pq_en, pq_ne, pq_nle, pq_nlt, pq_len, pq_ltn, pB_z, pB_o, mzt_0, mzt_1, mzt_B]
theorem o_parting (h : Rel E b A S M) : Op E b S 0 0 (fX1_parting E N (put b A S) b) (fX5_parting N M) := by
  refine ⟨aI A 20, A, S, mF M 0 (Int32.ofNat 0), ?_, ?_, h.m0 _, Nat.le_refl _, Nat.le_refl _⟩
  · simp only [bX1_parting_0, fX1_parting, ↓f_20]
  · simp only [bX5_parting_20, bX5_parting_0, fX5_parting, pq_lit]
    rcases h.2.2.2.2.2.2.2.1 with ⟨q1, q2⟩ | ⟨q1, q2⟩
    · simp (disch := omega) only [↓mpt, mF_ne, q1, q2, eq_self, ↓reduceIte, Nat.reduceEqDiff, Nat.reduceLeDiff, Nat.reduceLT, Nat.reduceMul, Nat.reduceAdd, not_true_eq_false, not_false_eq_true, Bool.false_eq_true, pq_lit, pq_add, pq_le, pq_lt, pq_eq, pq_en, pq_ne, pq_nle, pq_nlt, pq_len, pq_ltn, pB_z, pB_o, mzt_0, mzt_1, mzt_B]
    · simp (disch := omega) only [↓mpt, mF_ne, q1, q2, eq_self, ↓reduceIte, Nat.reduceEqDiff, Nat.reduceLeDiff, Nat.reduceLT, Nat.reduceMul, Nat.reduceAdd, not_true_eq_false, not_false_eq_true, Bool.false_eq_true, pq_lit, pq_add, pq_le, pq_lt, pq_eq, pq_en, pq_ne, pq_nle, pq_nlt, pq_len, pq_ltn, pB_z, pB_o, mzt_0, mzt_1, mzt_B]
theorem o_likely (h : Rel E b A S M) : Op E b S 0 0 (fX1_likely E N (put b A S) b) (fX5_likely N M) := by
  refine ⟨aI A 14, A, S, mF M 0 (Int32.ofNat 0), ?_, ?_, h.m0 _, Nat.le_refl _, Nat.le_refl _⟩
  · simp only [bX1_likely_0, fX1_likely, ↓f_14]
  · simp only [bX5_likely_20, bX5_likely_0, fX5_likely, pq_lit]
    rcases h.2.2.2.2.1 with ⟨q1, q2, q3⟩ | ⟨w, w1, w2, q1, q2, q3, q4⟩
    · have e : (-Int32.ofNat 1 ≤ Int32.ofNat 0) = True := by simp [pq_len]
      simp (disch := omega) only [↓mpt, mF_ne, q2, q3, e, eq_self, ↓reduceIte, Nat.reduceEqDiff, Nat.reduceLeDiff, Nat.reduceLT, Nat.reduceMul, Nat.reduceAdd, not_true_eq_false, not_false_eq_true, Bool.false_eq_true, pq_lit, pq_add, pq_le, pq_lt, pq_eq, pq_en, pq_ne, pq_nle, pq_nlt, pq_len, pq_ltn, pB_z, pB_o, mzt_0, mzt_1, mzt_B]
    · have e : ¬ w ≤ 0 := by omega
      simp (disch := omega) only [↓mpt, mF_ne, q2, q3, e, eq_self, ↓reduceIte, Nat.reduceEqDiff, Nat.reduceLeDiff, Nat.reduceLT, Nat.reduceMul, Nat.reduceAdd, not_true_eq_false, not_false_eq_true, Bool.false_eq_true, pq_lit, pq_add, pq_le, pq_lt, pq_eq, pq_en, pq_ne, pq_nle, pq_nlt, pq_len, pq_ltn, pB_z, pB_o, mzt_0, mzt_1, mzt_B]
/-- one of a row, by place -/
theorem pl_in {x v : Int32} {w : Nat} (hw : w < 1000) (hv : v = Int32.ofNat w ∨ (w = 0 ∧ v = -Int32.ofNat 1)) : (Int32.ofNat 0 ≤ x ∧ x ≤ v - Int32.ofNat 1) ↔ ∃ k, k < w ∧ x = Int32.ofNat k := by
  rcases hv with rfl | ⟨rfl, rfl⟩
  · exact pq_isIn (by omega) x
  · constructor
    · rintro ⟨q1, q2⟩
      have := Int32.le_trans q1 q2
      exact absurd this (by decide)
    · rintro ⟨k, hk, -⟩
      omega
theorem o_wayAt (h : Rel E b A S M) (x : Int32) : Op E b S 0 0 (fX1_wayAt E N (put b A S) b x) (fX5_wayAt N M x) := by
  obtain ⟨w, w1, w2, w3, w4⟩ := h.2.2.2.1
  by_cases e : ∃ k, k < w ∧ x = Int32.ofNat k
  · have e1 := (pl_in (by omega) (Or.inl w2)).mpr e
    have e2 := (pl_in (by omega) w3).mpr e
    obtain ⟨k, hk, rfl⟩ := e
    refine ⟨aV A 9 k, A, S, mF M 0 (Int32.ofNat 0), ?_, ?_, h.m0 _, Nat.le_refl _, Nat.le_refl _⟩
    · simp only [bX1_wayAt_24, bX1_wayAt_0, fX1_wayAt, pq_lit]
      simp (disch := omega) only [↓f_11, ↓gbd_h (c_isIn _ _ _), c_isIn _ _ _, e1, and_self, ↓f_9, ↓f_g9, f_g9, pq_lit, pq_add, pq_le, pq_lt, pq_eq, pq_en, pq_ne, pq_nle, pq_nlt, pq_len, pq_ltn, pB_z, pB_o, mzt_0, mzt_1, mzt_B, ↓gbd_s, gbd_s, ↓gnn_s, ↓grf_s, eq_self, ↓reduceIte, Nat.reduceEqDiff, Nat.reduceLeDiff, Nat.reduceLT, Nat.reduceMul, Nat.reduceAdd, not_true_eq_false, not_false_eq_true, Bool.false_eq_true]
    · simp only [bX5_wayAt_29, bX5_wayAt_0, fX5_wayAt, pq_lit]
      simp (disch := omega) only [↓mpt, mF_ne, mF_a, ↓mbd_h (m_isIn _ _ _), m_isIn _ _ _, e2, and_self, ↓mrd_n, mrd_n, w4, eq_self, ↓reduceIte, Nat.reduceEqDiff, Nat.reduceLeDiff, Nat.reduceLT, Nat.reduceMul, Nat.reduceAdd, not_true_eq_false, not_false_eq_true, Bool.false_eq_true, pq_lit, pq_add, pq_le, pq_lt, pq_eq, pq_en, pq_ne, pq_nle, pq_nlt, pq_len, pq_ltn, pB_z, pB_o, mzt_0, mzt_1, mzt_B]
  · have e1 : ¬ _ := fun q => e ((pl_in (x := x) (by omega) (Or.inl w2)).mp q)
    have e2 : ¬ _ := fun q => e ((pl_in (x := x) (by omega) w3).mp q)
    refine ⟨-Int32.ofNat 1, A, S, mF M 0 (Int32.ofNat 0), ?_, ?_, h.m0 _, Nat.le_refl _, Nat.le_refl _⟩
    · simp only [bX1_wayAt_24, bX1_wayAt_0, fX1_wayAt, pq_lit]
      simp (disch := omega) only [↓f_11, ↓gbd_h (c_isIn _ _ _), c_isIn _ _ _, e1, pq_lit, pq_add, pq_le, pq_lt, pq_eq, pq_en, pq_ne, pq_nle, pq_nlt, pq_len, pq_ltn, pB_z, pB_o, mzt_0, mzt_1, mzt_B, ↓gbd_s, gbd_s, ↓gnn_s, ↓grf_s, eq_self, ↓reduceIte, Nat.reduceEqDiff, Nat.reduceLeDiff, Nat.reduceLT, Nat.reduceMul, Nat.reduceAdd, not_true_eq_false, not_false_eq_true, Bool.false_eq_true]
    · simp only [bX5_wayAt_29, bX5_wayAt_0, fX5_wayAt, pq_lit]
      simp (disch := omega) only [↓mpt, mF_ne, mF_a, ↓mbd_h (m_isIn _ _ _), m_isIn _ _ _, e2, eq_self, ↓reduceIte, Nat.reduceEqDiff, Nat.reduceLeDiff, Nat.reduceLT, Nat.reduceMul, Nat.reduceAdd, not_true_eq_false, not_false_eq_true, Bool.false_eq_true, pq_lit, pq_add, pq_le, pq_lt, pq_eq, pq_en, pq_ne, pq_nle, pq_nlt, pq_len, pq_ltn, pB_z, pB_o, mzt_0, mzt_1, mzt_B]
theorem o_caravanAt (h : Rel E b A S M) (x : Int32) : Op E b S 0 0 (fX1_caravanAt E N (put b A S) b x) (fX5_caravanAt N M x) := by
  obtain ⟨w, w1, w2, w3, w4⟩ := h.2.2.2.2.2.2.1
  by_cases e : ∃ k, k < w ∧ x = Int32.ofNat k
  · have e1 := (pl_in (by omega) (Or.inl w2)).mpr e
    have e2 := (pl_in (by omega) w3).mpr e
    obtain ⟨k, hk, rfl⟩ := e
    refine ⟨aV A 16 k, A, S, mF M 0 (Int32.ofNat 0), ?_, ?_, h.m0 _, Nat.le_refl _, Nat.le_refl _⟩
    · simp only [bX1_caravanAt_24, bX1_caravanAt_0, fX1_caravanAt, pq_lit]
      simp (disch := omega) only [↓f_18, ↓gbd_h (c_isIn _ _ _), c_isIn _ _ _, e1, and_self, ↓f_16, ↓f_g16, f_g16, pq_lit, pq_add, pq_le, pq_lt, pq_eq, pq_en, pq_ne, pq_nle, pq_nlt, pq_len, pq_ltn, pB_z, pB_o, mzt_0, mzt_1, mzt_B, ↓gbd_s, gbd_s, ↓gnn_s, ↓grf_s, eq_self, ↓reduceIte, Nat.reduceEqDiff, Nat.reduceLeDiff, Nat.reduceLT, Nat.reduceMul, Nat.reduceAdd, not_true_eq_false, not_false_eq_true, Bool.false_eq_true]
    · simp only [bX5_caravanAt_29, bX5_caravanAt_0, fX5_caravanAt, pq_lit]
      simp (disch := omega) only [↓mpt, mF_ne, mF_a, ↓mbd_h (m_isIn _ _ _), m_isIn _ _ _, e2, and_self, ↓mrd_n, mrd_n, w4, eq_self, ↓reduceIte, Nat.reduceEqDiff, Nat.reduceLeDiff, Nat.reduceLT, Nat.reduceMul, Nat.reduceAdd, not_true_eq_false, not_false_eq_true, Bool.false_eq_true, pq_lit, pq_add, pq_le, pq_lt, pq_eq, pq_en, pq_ne, pq_nle, pq_nlt, pq_len, pq_ltn, pB_z, pB_o, mzt_0, mzt_1, mzt_B]
  · have e1 : ¬ _ := fun q => e ((pl_in (x := x) (by omega) (Or.inl w2)).mp q)
    have e2 : ¬ _ := fun q => e ((pl_in (x := x) (by omega) w3).mp q)
    refine ⟨-Int32.ofNat 1, A, S, mF M 0 (Int32.ofNat 0), ?_, ?_, h.m0 _, Nat.le_refl _, Nat.le_refl _⟩
    · simp only [bX1_caravanAt_24, bX1_caravanAt_0, fX1_caravanAt, pq_lit]
      simp (disch := omega) only [↓f_18, ↓gbd_h (c_isIn _ _ _), c_isIn _ _ _, e1, pq_lit, pq_add, pq_le, pq_lt, pq_eq, pq_en, pq_ne, pq_nle, pq_nlt, pq_len, pq_ltn, pB_z, pB_o, mzt_0, mzt_1, mzt_B, ↓gbd_s, gbd_s, ↓gnn_s, ↓grf_s, eq_self, ↓reduceIte, Nat.reduceEqDiff, Nat.reduceLeDiff, Nat.reduceLT, Nat.reduceMul, Nat.reduceAdd, not_true_eq_false, not_false_eq_true, Bool.false_eq_true]
    · simp only [bX5_caravanAt_29, bX5_caravanAt_0, fX5_caravanAt, pq_lit]
      simp (disch := omega) only [↓mpt, mF_ne, mF_a, ↓mbd_h (m_isIn _ _ _), m_isIn _ _ _, e2, eq_self, ↓reduceIte, Nat.reduceEqDiff, Nat.reduceLeDiff, Nat.reduceLT, Nat.reduceMul, Nat.reduceAdd, not_true_eq_false, not_false_eq_true, Bool.false_eq_true, pq_lit, pq_add, pq_le, pq_lt, pq_eq, pq_en, pq_ne, pq_nle, pq_nlt, pq_len, pq_ltn, pB_z, pB_o, mzt_0, mzt_1, mzt_B]
theorem o_madeAt (h : Rel E b A S M) (x : Int32) : Op E b S 0 0 (fX1_madeAt E N (put b A S) b x) (fX5_madeAt N M x) := by
  have hw : ∃ w, w ≤ 4 ∧ aI A 12 = Int32.ofNat w ∧ (M.1 35 = Int32.ofNat w ∨ (w = 0 ∧ M.1 35 = -Int32.ofNat 1)) ∧ ∀ i, i < w → aV A 10 i = M.2.2.1 32 i := by
    rcases h.2.2.2.2.1 with ⟨q1, q2, q3⟩ | ⟨w, w1, w2, q1, q2, q3, q4⟩
    · exact ⟨0, by omega, q1, Or.inr ⟨rfl, q3⟩, fun i hi => by omega⟩
    · exact ⟨w, w2, q1, Or.inl q2, q4⟩
  obtain ⟨w, w1, w2, w3, w4⟩ := hw
  by_cases e : ∃ k, k < w ∧ x = Int32.ofNat k
  · have e1 := (pl_in (by omega) (Or.inl w2)).mpr e
    have e2 := (pl_in (by omega) w3).mpr e
    obtain ⟨k, hk, rfl⟩ := e
    refine ⟨aV A 10 k, A, S, mF M 0 (Int32.ofNat 0), ?_, ?_, h.m0 _, Nat.le_refl _, Nat.le_refl _⟩
    · simp only [bX1_madeAt_24, bX1_madeAt_0, fX1_madeAt, pq_lit]
      simp (disch := omega) only [↓f_12, ↓gbd_h (c_isIn _ _ _), c_isIn _ _ _, e1, and_self, ↓f_10, ↓f_g10, f_g10, pq_lit, pq_add, pq_le, pq_lt, pq_eq, pq_en, pq_ne, pq_nle, pq_nlt, pq_len, pq_ltn, pB_z, pB_o, mzt_0, mzt_1, mzt_B, ↓gbd_s, gbd_s, ↓gnn_s, ↓grf_s, eq_self, ↓reduceIte, Nat.reduceEqDiff, Nat.reduceLeDiff, Nat.reduceLT, Nat.reduceMul, Nat.reduceAdd, not_true_eq_false, not_false_eq_true, Bool.false_eq_true]
    · simp only [bX5_madeAt_29, bX5_madeAt_0, fX5_madeAt, pq_lit]
      simp (disch := omega) only [↓mpt, mF_ne, mF_a, ↓mbd_h (m_isIn _ _ _), m_isIn _ _ _, e2, and_self, ↓mrd_n, mrd_n, w4, eq_self, ↓reduceIte, Nat.reduceEqDiff, Nat.reduceLeDiff, Nat.reduceLT, Nat.reduceMul, Nat.reduceAdd, not_true_eq_false, not_false_eq_true, Bool.false_eq_true, pq_lit, pq_add, pq_le, pq_lt, pq_eq, pq_en, pq_ne, pq_nle, pq_nlt, pq_len, pq_ltn, pB_z, pB_o, mzt_0, mzt_1, mzt_B]
  · have e1 : ¬ _ := fun q => e ((pl_in (x := x) (by omega) (Or.inl w2)).mp q)
    have e2 : ¬ _ := fun q => e ((pl_in (x := x) (by omega) w3).mp q)
    refine ⟨-Int32.ofNat 1, A, S, mF M 0 (Int32.ofNat 0), ?_, ?_, h.m0 _, Nat.le_refl _, Nat.le_refl _⟩
    · simp only [bX1_madeAt_24, bX1_madeAt_0, fX1_madeAt, pq_lit]
      simp (disch := omega) only [↓f_12, ↓gbd_h (c_isIn _ _ _), c_isIn _ _ _, e1, pq_lit, pq_add, pq_le, pq_lt, pq_eq, pq_en, pq_ne, pq_nle, pq_nlt, pq_len, pq_ltn, pB_z, pB_o, mzt_0, mzt_1, mzt_B, ↓gbd_s, gbd_s, ↓gnn_s, ↓grf_s, eq_self, ↓reduceIte, Nat.reduceEqDiff, Nat.reduceLeDiff, Nat.reduceLT, Nat.reduceMul, Nat.reduceAdd, not_true_eq_false, not_false_eq_true, Bool.false_eq_true]
    · simp only [bX5_madeAt_29, bX5_madeAt_0, fX5_madeAt, pq_lit]
      simp (disch := omega) only [↓mpt, mF_ne, mF_a, ↓mbd_h (m_isIn _ _ _), m_isIn _ _ _, e2, eq_self, ↓reduceIte, Nat.reduceEqDiff, Nat.reduceLeDiff, Nat.reduceLT, Nat.reduceMul, Nat.reduceAdd, not_true_eq_false, not_false_eq_true, Bool.false_eq_true, pq_lit, pq_add, pq_le, pq_lt, pq_eq, pq_en, pq_ne, pq_nle, pq_nlt, pq_len, pq_ltn, pB_z, pB_o, mzt_0, mzt_1, mzt_B]
theorem o_told (h : Rel E b A S M) (x : Int32) : Op E b S 0 0 (fX1_told E N (put b A S) b x) (fX5_told N M x) := by
  have hT : TolR A M := h.2.2.2.2.2.2.2.2.2.1
  by_cases e : Int32.ofNat 0 ≤ x ∧ x ≤ Int32.ofNat 3
  · have e0 := e
    obtain ⟨k, hk, rfl⟩ := pq_ofle e.1 e.2 (by omega)
    refine ⟨aV A 22 k, A, S, mF M 0 (Int32.ofNat 0), ?_, ?_, h.m0 _, Nat.le_refl _, Nat.le_refl _⟩
    · simp only [bX1_told_19, bX1_told_0, fX1_told, pq_lit]
      simp (disch := omega) only [↓gbd_h (c_isIn _ _ _), c_isIn _ _ _, e0, and_self, ↓f_22, ↓f_g22, f_g22, pq_lit, pq_add, pq_le, pq_lt, pq_eq, pq_en, pq_ne, pq_nle, pq_nlt, pq_len, pq_ltn, pB_z, pB_o, mzt_0, mzt_1, mzt_B, ↓gbd_s, gbd_s, ↓gnn_s, ↓grf_s, eq_self, ↓reduceIte, Nat.reduceEqDiff, Nat.reduceLeDiff, Nat.reduceLT, Nat.reduceMul, Nat.reduceAdd, not_true_eq_false, not_false_eq_true, Bool.false_eq_true]
    · simp only [bX5_told_31, bX5_told_30, bX5_told_0, fX5_told, pq_lit]
      rcases hT with ⟨q1, q2⟩ | ⟨q1, q2⟩
      · simp (disch := omega) only [↓mpt, mF_ne, q1, q2, eq_self, ↓reduceIte, Nat.reduceEqDiff, Nat.reduceLeDiff, Nat.reduceLT, Nat.reduceMul, Nat.reduceAdd, not_true_eq_false, not_false_eq_true, Bool.false_eq_true, pq_lit, pq_add, pq_le, pq_lt, pq_eq, pq_en, pq_ne, pq_nle, pq_nlt, pq_len, pq_ltn, pB_z, pB_o, mzt_0, mzt_1, mzt_B]
      · simp (disch := omega) only [↓mpt, mF_ne, mF_a, q1, ↓mbd_h (m_isIn _ _ _), m_isIn _ _ _, e0, and_self, ↓mrd_n, mrd_n, q2, eq_self, ↓reduceIte, Nat.reduceEqDiff, Nat.reduceLeDiff, Nat.reduceLT, Nat.reduceMul, Nat.reduceAdd, not_true_eq_false, not_false_eq_true, Bool.false_eq_true, pq_lit, pq_add, pq_le, pq_lt, pq_eq, pq_en, pq_ne, pq_nle, pq_nlt, pq_len, pq_ltn, pB_z, pB_o, mzt_0, mzt_1, mzt_B]
  · refine ⟨-Int32.ofNat 1, A, S, mF M 0 (Int32.ofNat 0), ?_, ?_, h.m0 _, Nat.le_refl _, Nat.le_refl _⟩
    · simp only [bX1_told_19, bX1_told_0, fX1_told, pq_lit]
      simp (disch := omega) only [↓gbd_h (c_isIn _ _ _), c_isIn _ _ _, e, pq_lit, pq_add, pq_le, pq_lt, pq_eq, pq_en, pq_ne, pq_nle, pq_nlt, pq_len, pq_ltn, pB_z, pB_o, mzt_0, mzt_1, mzt_B, ↓gbd_s, gbd_s, ↓gnn_s, ↓grf_s, eq_self, ↓reduceIte, Nat.reduceEqDiff, Nat.reduceLeDiff, Nat.reduceLT, Nat.reduceMul, Nat.reduceAdd, not_true_eq_false, not_false_eq_true, Bool.false_eq_true]
    · simp only [bX5_told_31, bX5_told_30, bX5_told_0, fX5_told, pq_lit]
      rcases hT with ⟨q1, q2⟩ | ⟨q1, q2⟩
      · simp (disch := omega) only [↓mpt, mF_ne, q1, eq_self, ↓reduceIte, Nat.reduceEqDiff, Nat.reduceLeDiff, Nat.reduceLT, Nat.reduceMul, Nat.reduceAdd, not_true_eq_false, not_false_eq_true, Bool.false_eq_true, pq_lit, pq_add, pq_le, pq_lt, pq_eq, pq_en, pq_ne, pq_nle, pq_nlt, pq_len, pq_ltn, pB_z, pB_o, mzt_0, mzt_1, mzt_B]
      · simp (disch := omega) only [↓mpt, mF_ne, mF_a, q1, ↓mbd_h (m_isIn _ _ _), m_isIn _ _ _, e, eq_self, ↓reduceIte, Nat.reduceEqDiff, Nat.reduceLeDiff, Nat.reduceLT, Nat.reduceMul, Nat.reduceAdd, not_true_eq_false, not_false_eq_true, Bool.false_eq_true, pq_lit, pq_add, pq_le, pq_lt, pq_eq, pq_en, pq_ne, pq_nle, pq_nlt, pq_len, pq_ltn, pB_z, pB_o, mzt_0, mzt_1, mzt_B]
theorem o_count (h : Rel E b A S M) (x : Int32) : Op E b S 0 0 (fX1_count E N (put b A S) b x) (fX5_count N M x) := by
  obtain ⟨a, d, u, h3, h0, hs, hW, hU⟩ := h.2.2.1
  have hI := hW.2.2.2.1
  obtain ⟨t, t1, t2, t3⟩ := h.2.1.2.1
  by_cases e : Int32.ofNat 0 ≤ x ∧ x ≤ Int32.ofNat 3
  · have e0 := e
    obtain ⟨k, hk, rfl⟩ := pq_ofle e.1 e.2 (by omega)
    match k, hk with
    | 0, _ =>
      refine ⟨Int32.ofNat (nL (M.2.2.1 6)), A, S, mF M 0 (Int32.ofNat 0), ?_, ?_, h.m0 _, Nat.le_refl _, Nat.le_refl _⟩
      · simp only [bX1_count_0, fX1_count, pq_lit]
        simp (disch := omega) only [↓gbd_h (k_lands h3 hW.1), k_lands h3 hW.1, pq_lit, pq_add, pq_le, pq_lt, pq_eq, pq_en, pq_ne, pq_nle, pq_nlt, pq_len, pq_ltn, pB_z, pB_o, mzt_0, mzt_1, mzt_B, ↓gbd_s, gbd_s, ↓gnn_s, ↓grf_s, eq_self, ↓reduceIte, Nat.reduceEqDiff, Nat.reduceLeDiff, Nat.reduceLT, Nat.reduceMul, Nat.reduceAdd, not_true_eq_false, not_false_eq_true, Bool.false_eq_true]
      · simp only [bX5_count_36, bX5_count_0, fX5_count, pq_lit]
        simp (disch := omega) only [↓mpt, mF_a, ↓mbd_h (m_isIn _ _ _), m_isIn _ _ _, Nat.le_refl, Nat.zero_le, and_self, ↓mrd_n, mrd_n, hI.c0, eq_self, ↓reduceIte, Nat.reduceEqDiff, Nat.reduceLeDiff, Nat.reduceLT, Nat.reduceMul, Nat.reduceAdd, not_true_eq_false, not_false_eq_true, Bool.false_eq_true, pq_lit, pq_add, pq_le, pq_lt, pq_eq, pq_en, pq_ne, pq_nle, pq_nlt, pq_len, pq_ltn, pB_z, pB_o, mzt_0, mzt_1, mzt_B]
    | 1, _ =>
      refine ⟨Int32.ofNat (nR (M.2.2.1 6)), A, S, mF M 0 (Int32.ofNat 0), ?_, ?_, h.m0 _, Nat.le_refl _, Nat.le_refl _⟩
      · simp only [bX1_count_0, fX1_count, pq_lit]
        simp (disch := omega) only [↓f_3, h3, ↓a_26 hW.1, ↓gbd_h (a_sR hW.1), a_sR hW.1, pq_lit, pq_add, pq_le, pq_lt, pq_eq, pq_en, pq_ne, pq_nle, pq_nlt, pq_len, pq_ltn, pB_z, pB_o, mzt_0, mzt_1, mzt_B, ↓gbd_s, gbd_s, ↓gnn_s, ↓grf_s, eq_self, ↓reduceIte, Nat.reduceEqDiff, Nat.reduceLeDiff, Nat.reduceLT, Nat.reduceMul, Nat.reduceAdd, not_true_eq_false, not_false_eq_true, Bool.false_eq_true]
      · simp only [bX5_count_36, bX5_count_0, fX5_count, pq_lit]
        simp (disch := omega) only [↓mpt, mF_a, ↓mbd_h (m_isIn _ _ _), m_isIn _ _ _, Nat.le_refl, Nat.zero_le, and_self, ↓mrd_n, mrd_n, hI.c1, eq_self, ↓reduceIte, Nat.reduceEqDiff, Nat.reduceLeDiff, Nat.reduceLT, Nat.reduceMul, Nat.reduceAdd, not_true_eq_false, not_false_eq_true, Bool.false_eq_true, pq_lit, pq_add, pq_le, pq_lt, pq_eq, pq_en, pq_ne, pq_nle, pq_nlt, pq_len, pq_ltn, pB_z, pB_o, mzt_0, mzt_1, mzt_B]
    | 2, _ =>
      refine ⟨Int32.ofNat (nP (M.2.2.1 6)), A, S, mF M 0 (Int32.ofNat 0), ?_, ?_, h.m0 _, Nat.le_refl _, Nat.le_refl _⟩
      · simp only [bX1_count_0, fX1_count, pq_lit]
        simp (disch := omega) only [↓gbd_h (k_persons h3 hW.1), k_persons h3 hW.1, pq_lit, pq_add, pq_le, pq_lt, pq_eq, pq_en, pq_ne, pq_nle, pq_nlt, pq_len, pq_ltn, pB_z, pB_o, mzt_0, mzt_1, mzt_B, ↓gbd_s, gbd_s, ↓gnn_s, ↓grf_s, eq_self, ↓reduceIte, Nat.reduceEqDiff, Nat.reduceLeDiff, Nat.reduceLT, Nat.reduceMul, Nat.reduceAdd, not_true_eq_false, not_false_eq_true, Bool.false_eq_true]
      · simp only [bX5_count_36, bX5_count_0, fX5_count, pq_lit]
        simp (disch := omega) only [↓mpt, mF_a, ↓mbd_h (m_isIn _ _ _), m_isIn _ _ _, Nat.le_refl, Nat.zero_le, and_self, ↓mrd_n, mrd_n, hI.c2, eq_self, ↓reduceIte, Nat.reduceEqDiff, Nat.reduceLeDiff, Nat.reduceLT, Nat.reduceMul, Nat.reduceAdd, not_true_eq_false, not_false_eq_true, Bool.false_eq_true, pq_lit, pq_add, pq_le, pq_lt, pq_eq, pq_en, pq_ne, pq_nle, pq_nlt, pq_len, pq_ltn, pB_z, pB_o, mzt_0, mzt_1, mzt_B]
    | 3, _ =>
      refine ⟨Int32.ofNat t, A, S, mF M 0 (Int32.ofNat 0), ?_, ?_, h.m0 _, Nat.le_refl _, Nat.le_refl _⟩
      · simp only [bX1_count_0, fX1_count, pq_lit]
        simp (disch := omega) only [↓f_1, t2, pq_lit, pq_add, pq_le, pq_lt, pq_eq, pq_en, pq_ne, pq_nle, pq_nlt, pq_len, pq_ltn, pB_z, pB_o, mzt_0, mzt_1, mzt_B, ↓gbd_s, gbd_s, ↓gnn_s, ↓grf_s, eq_self, ↓reduceIte, Nat.reduceEqDiff, Nat.reduceLeDiff, Nat.reduceLT, Nat.reduceMul, Nat.reduceAdd, not_true_eq_false, not_false_eq_true, Bool.false_eq_true]
      · simp only [bX5_count_36, bX5_count_0, fX5_count, pq_lit]
        simp (disch := omega) only [↓mpt, mF_ne, t3, eq_self, ↓reduceIte, Nat.reduceEqDiff, Nat.reduceLeDiff, Nat.reduceLT, Nat.reduceMul, Nat.reduceAdd, not_true_eq_false, not_false_eq_true, Bool.false_eq_true, pq_lit, pq_add, pq_le, pq_lt, pq_eq, pq_en, pq_ne, pq_nle, pq_nlt, pq_len, pq_ltn, pB_z, pB_o, mzt_0, mzt_1, mzt_B]
  · have n3 : ¬ x = Int32.ofNat 3 := by rintro rfl; exact e (by decide)
    have n2 : ¬ x = Int32.ofNat 2 := by rintro rfl; exact e (by decide)
    have n1 : ¬ x = Int32.ofNat 1 := by rintro rfl; exact e (by decide)
    have n0 : ¬ x = Int32.ofNat 0 := by rintro rfl; exact e (by decide)
    have e2 : ¬ (Int32.ofNat 0 ≤ x ∧ x ≤ Int32.ofNat 2) := fun q => e ⟨q.1, Int32.le_trans q.2 (by decide)⟩
    refine ⟨-Int32.ofNat 1, A, S, mF M 0 (Int32.ofNat 0), ?_, ?_, h.m0 _, Nat.le_refl _, Nat.le_refl _⟩
    · simp only [bX1_count_0, fX1_count, pq_lit]
      simp (disch := omega) only [n0, n1, n2, n3, pq_lit, pq_add, pq_le, pq_lt, pq_eq, pq_en, pq_ne, pq_nle, pq_nlt, pq_len, pq_ltn, pB_z, pB_o, mzt_0, mzt_1, mzt_B, ↓gbd_s, gbd_s, ↓gnn_s, ↓grf_s, eq_self, ↓reduceIte, Nat.reduceEqDiff, Nat.reduceLeDiff, Nat.reduceLT, Nat.reduceMul, Nat.reduceAdd, not_true_eq_false, not_false_eq_true, Bool.false_eq_true]
    · simp only [bX5_count_36, bX5_count_0, fX5_count, pq_lit]
      simp (disch := omega) only [↓mpt, n3, ↓mbd_h (m_isIn _ _ _), m_isIn _ _ _, e2, eq_self, ↓reduceIte, Nat.reduceEqDiff, Nat.reduceLeDiff, Nat.reduceLT, Nat.reduceMul, Nat.reduceAdd, not_true_eq_false, not_false_eq_true, Bool.false_eq_true, pq_lit, pq_add, pq_le, pq_lt, pq_eq, pq_en, pq_ne, pq_nle, pq_nlt, pq_len, pq_ltn, pB_z, pB_o, mzt_0, mzt_1, mzt_B]
end OE
