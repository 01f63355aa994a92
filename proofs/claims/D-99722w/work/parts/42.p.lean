/-! days, undo, days drawn, rests, odds -/
theorem TA.sn {b : Nat} {S : GS} {A : FA} {a : Nat} {d : AD} (h : TA b S A 0 a d) (u : Nat) : TA b S (snA A u) 0 a d := by
  unfold TA tS
  rw [sn_T (by omega)]
  exact h
theorem Rel.kq {E : gE} {b : Nat} {A : FA} {S : GS} {M M' : MS} {ks : List Nat} {a u : Nat} {d : AD} (h : Rel E b A S M) (h3 : aR A 3 = some a) (h0 : (aT A 0).1 = some a) (hs : tS A 0 = M.2.2.1 6) (hW : World b S a (aR A 6) (M.2.2.1 6) (M.2.2.2 9) d) (hU : UndR A M a u) {s' : St} {sd : Int32} (m23 : M'.1 23 = Int32.ofNat (kpN u)) (m21 : M'.2.2.1 21 = kpF (M.2.2.1 21) (M.2.2.1 6) u) (e6 : M'.2.2.1 6 = s') (m6 : Sm (M.2.2.1 6) s') (i6 : IvA s') (hm : mSm ks M M') (hk : ∀ k, k ∈ [31, 32, 34, 35, 36, 37, 38, 40, 41, 42, 43, 44, 45, 48, 49, 57, 59, 1, 2, 15] → k ∉ ks) : Rel E b (sT (snA A u) 0 ((aT A 0).1, sd, s')) S M' := by
  subst e6
  obtain ⟨r1, r2, r3, r4, r5, r6⟩ := sn_Rst (A := A) (u := u)
  refine h.kp h3 h0 hs hW hU ⟨r1, r2, r3, r4, ?_, ?_⟩ sn_V ⟨sn_I (by omega), sn_I (by omega)⟩ (fun k => sn_R) rfl rfl (fun j hj => aT_sTo _ _ (by omega)) ?_ ?_ m23 m21 m6 i6 hm hk
  · rw [aT_sTo _ _ (by omega)]; exact r5
  · rw [aT_sTo _ _ (by omega)]; exact r6
  · rw [aT_sT]; exact h0
  · unfold tS; rw [aT_sT]
section OC
variable {E : gE} {N b : Nat} {A : FA} {S : GS} {M : MS}
theorem IvD.over {s : St} (h : IvD s) : (s 91 = Int32.ofNat 400) = ¬ s 91 < Int32.ofNat 400 := by
  obtain ⟨k, hk, e⟩ := h
  rw [e, pq_eq (by omega) (by omega), pq_lt (by omega) (by omega)]
  apply propext
  omega
theorem o_days (h : Rel E b A S M) (hN : 1000 ≤ N) (x : Int32) : Op E b S 0 0 (fX1_days E N (put b A S) b x) (fX5_days N M x) := by
  obtain ⟨a, d, u, h3, h0, hs, hW, hU⟩ := h.2.2.1
  have hI := hW.2.2.2.1
  have hE := h.1.1
  have hI0 : IvS ((mF M 0 (Int32.ofNat 0)).2.2.1 6) := hI
  have hT : TA b S A 0 a d := ⟨by omega, h0, by rw [hs]; exact hW.1, by rw [hs]; exact hI⟩
  have hD : IvD (tS A 0) := by rw [hs]; exact hW.2.2.2.2.1
  have hov := hW.2.2.2.2.1.over
  have m2 := m_keep (N := N) (S := mF M 0 (Int32.ofNat 0)) hN hU.1 hU.2.2.1
  by_cases e1 : Int32.ofNat 1 ≤ x ∧ x ≤ Int32.ofNat 60
  · obtain ⟨n, hn, rfl⟩ := pq_ofle (Int32.le_trans (by decide) e1.1) e1.2 (by omega)
    by_cases e2 : M.2.2.1 6 91 < Int32.ofNat 400
    · have g := c_go (N := N) (hT.sn u) hE hN (by unfold tS; rw [sn_T (by omega)]; exact hD) (show n < 1000 by omega)
      have g2 := m_go (N := N) (S := mR (mF (mF M 0 (Int32.ofNat 0)) 23 (Int32.ofNat (kpN u))) 21 (kpF (M.2.2.1 21) (M.2.2.1 6) u)) hI0 hN (show n < 1000 by omega)
      have et : tS (snA A u) 0 = M.2.2.1 6 := by unfold tS; rw [sn_T (by omega)]; exact hs
      rw [et] at g
      refine ⟨Int32.ofNat (goF n 0 (M.2.2.1 6)).1, sS (snA A u) 0 (goF n 0 (M.2.2.1 6)).2, S, mR (mR (mF (mF M 0 (Int32.ofNat 0)) 23 (Int32.ofNat (kpN u))) 21 (kpF (M.2.2.1 21) (M.2.2.1 6) u)) 6 (goF n 0 (M.2.2.1 6)).2, ?_, ?_, ?_, Nat.le_refl _, Nat.le_refl _⟩
      · simp only [bX1_days_0, fX1_days, vInchBorders_Times_passAll__I_I, pq_lit]
        simp (disch := omega) only [↓gbd_h (c_isIn _ _ _), c_isIn _ _ _, e1, and_self, ↓f_4, ↓gbd_h (c_over hT hD), c_over hT hD, hs, e2, ↓gbd_h (c_snap hE (show 100 ≤ N by omega) hU.1 hU.2.1), c_snap hE (show 100 ≤ N by omega) hU.1 hU.2.1, ↓t_cls, t_cls, ↓gbd_h (g), g, pq_lit, pq_add, pq_le, pq_lt, pq_eq, pq_en, pq_ne, pq_nle, pq_nlt, pq_len, pq_ltn, pB_z, pB_o, mzt_0, mzt_1, mzt_B, ↓gbd_s, gbd_s, ↓gnn_s, ↓grf_s, eq_self, ↓reduceIte, Nat.reduceEqDiff, Nat.reduceLeDiff, Nat.reduceLT, Nat.reduceMul, Nat.reduceAdd, not_true_eq_false, not_false_eq_true, Bool.false_eq_true]
      · simp only [bX5_days_0, fX5_days, pq_lit]
        have e3 : ¬ M.2.2.1 6 91 = Int32.ofNat 400 := by rw [hov]; exact fun w => w e2
        simp (disch := omega) only [↓mpt, ↓mbd_h (m_isIn _ _ _), m_isIn _ _ _, e1, and_self, mF_a, ↓mrd_n, mrd_n, e3, ↓mbd_h (m2), m2, ↓mbd_h (g2), g2, mA_n, eq_self, ↓reduceIte, Nat.reduceEqDiff, Nat.reduceLeDiff, Nat.reduceLT, Nat.reduceMul, Nat.reduceAdd, not_true_eq_false, not_false_eq_true, Bool.false_eq_true, pq_lit, pq_add, pq_le, pq_lt, pq_eq, pq_en, pq_ne, pq_nle, pq_nlt, pq_len, pq_ltn, pB_z, pB_o, mzt_0, mzt_1, mzt_B, ↓mbd_s, mbd_s]
      · have r := h.kq (ks := [0, 23, 21, 6]) h3 h0 hs hW hU (sd := (aT (snA A u) 0).2.1) (s' := (goF n 0 (M.2.2.1 6)).2) (M' := mR (mR (mF (mF M 0 (Int32.ofNat 0)) 23 (Int32.ofNat (kpN u))) 21 (kpF (M.2.2.1 21) (M.2.2.1 6) u)) 6 (goF n 0 (M.2.2.1 6)).2) rfl (by rw [mA_n _ _ (by omega), mA_e]) (mA_e _ _ _) (sm_go n 0 hI) (IvA.go n 0 hW.2.2.2) ((((mSm.rf.mF _ (by decide)).mF _ (by decide)).mR _ (by decide)).mR _ (by decide)) (by decide)
        have ea : (aT A 0).1 = (aT (snA A u) 0).1 := by rw [sn_T (by omega)]
        rw [ea] at r
        exact r
    · refine ⟨Int32.ofNat 0, A, S, mF M 0 (Int32.ofNat 0), ?_, ?_, h.m0 _, Nat.le_refl _, Nat.le_refl _⟩
      · simp only [bX1_days_0, fX1_days, pq_lit]
        simp (disch := omega) only [↓gbd_h (c_isIn _ _ _), c_isIn _ _ _, e1, and_self, ↓f_4, ↓gbd_h (c_over hT hD), c_over hT hD, hs, e2, pq_lit, pq_add, pq_le, pq_lt, pq_eq, pq_en, pq_ne, pq_nle, pq_nlt, pq_len, pq_ltn, pB_z, pB_o, mzt_0, mzt_1, mzt_B, ↓gbd_s, gbd_s, ↓gnn_s, ↓grf_s, eq_self, ↓reduceIte, Nat.reduceEqDiff, Nat.reduceLeDiff, Nat.reduceLT, Nat.reduceMul, Nat.reduceAdd, not_true_eq_false, not_false_eq_true, Bool.false_eq_true]
      · simp only [bX5_days_0, fX5_days, pq_lit]
        have e3 : M.2.2.1 6 91 = Int32.ofNat 400 := by rw [hov]; exact e2
        simp (disch := omega) only [↓mpt, ↓mbd_h (m_isIn _ _ _), m_isIn _ _ _, e1, and_self, mF_a, ↓mrd_n, mrd_n, e3, eq_self, ↓reduceIte, Nat.reduceEqDiff, Nat.reduceLeDiff, Nat.reduceLT, Nat.reduceMul, Nat.reduceAdd, not_true_eq_false, not_false_eq_true, Bool.false_eq_true, pq_lit, pq_add, pq_le, pq_lt, pq_eq, pq_en, pq_ne, pq_nle, pq_nlt, pq_len, pq_ltn, pB_z, pB_o, mzt_0, mzt_1, mzt_B, ↓mbd_s, mbd_s]
  · refine ⟨-Int32.ofNat 1, A, S, mF M 0 (Int32.ofNat 0), ?_, ?_, h.m0 _, Nat.le_refl _, Nat.le_refl _⟩
    · simp only [bX1_days_0, fX1_days, pq_lit]
      simp (disch := omega) only [↓gbd_h (c_isIn _ _ _), c_isIn _ _ _, e1, pq_lit, pq_add, pq_le, pq_lt, pq_eq, pq_en, pq_ne, pq_nle, pq_nlt, pq_len, pq_ltn, pB_z, pB_o, mzt_0, mzt_1, mzt_B, ↓gbd_s, gbd_s, ↓gnn_s, ↓grf_s, eq_self, ↓reduceIte, Nat.reduceEqDiff, Nat.reduceLeDiff, Nat.reduceLT, Nat.reduceMul, Nat.reduceAdd, not_true_eq_false, not_false_eq_true, Bool.false_eq_true]
    · simp only [bX5_days_0, fX5_days, pq_lit]
      simp (disch := omega) only [↓mpt, ↓mbd_h (m_isIn _ _ _), m_isIn _ _ _, e1, eq_self, ↓reduceIte, Nat.reduceEqDiff, Nat.reduceLeDiff, Nat.reduceLT, Nat.reduceMul, Nat.reduceAdd, not_true_eq_false, not_false_eq_true, Bool.false_eq_true, pq_lit, pq_add, pq_le, pq_lt, pq_eq, pq_en, pq_ne, pq_nle, pq_nlt, pq_len, pq_ltn, pB_z, pB_o, mzt_0, mzt_1, mzt_B, ↓mbd_s, mbd_s]
theorem o_drawn (h : Rel E b A S M) (hN : 1000 ≤ N) (x y : Int32) : Op E b S 0 0 (fX1_drawn E N (put b A S) b x y) (fX5_drawn N M x y) := by
  obtain ⟨a, d, u, h3, h0, hs, hW, hU⟩ := h.2.2.1
  have hI := hW.2.2.2.1
  have h7 := hI.l7
  have hE := h.1.1
  have hI0 : IvS ((mF M 0 (Int32.ofNat 0)).2.2.1 6) := hI
  have hT : TA b S A 0 a d := ⟨by omega, h0, by rw [hs]; exact hW.1, by rw [hs]; exact hI⟩
  have hD : IvD (tS A 0) := by rw [hs]; exact hW.2.2.2.2.1
  have hov := hW.2.2.2.2.1.over
  have m2 := m_keep (N := N) (S := mF M 0 (Int32.ofNat 0)) hN hU.1 hU.2.2.1
  have bad : ¬ ((Int32.ofNat 1 ≤ x ∧ x ≤ Int32.ofNat 60) ∧ 0 < nL (M.2.2.1 6)) → Op E b S 0 0 (fX1_drawn E N (put b A S) b x y) (fX5_drawn N M x y) := by
    intro hn
    refine ⟨-Int32.ofNat 1, A, S, mF M 0 (Int32.ofNat 0), ?_, ?_, h.m0 _, Nat.le_refl _, Nat.le_refl _⟩
    · simp only [bX1_drawn_17, bX1_drawn_0, fX1_drawn, pq_lit]
      by_cases e1 : Int32.ofNat 1 ≤ x ∧ x ≤ Int32.ofNat 60
      · have e2 : nL (M.2.2.1 6) = 0 := by
          by_cases q : 0 < nL (M.2.2.1 6)
          · exact absurd ⟨e1, q⟩ hn
          · omega
        simp (disch := omega) only [↓gbd_h (c_isIn _ _ _), c_isIn _ _ _, e1, and_self, ↓gbd_h (k_lands h3 hW.1), k_lands h3 hW.1, e2, pq_lit, pq_add, pq_le, pq_lt, pq_eq, pq_en, pq_ne, pq_nle, pq_nlt, pq_len, pq_ltn, pB_z, pB_o, mzt_0, mzt_1, mzt_B, ↓gbd_s, gbd_s, ↓gnn_s, ↓grf_s, eq_self, ↓reduceIte, Nat.reduceEqDiff, Nat.reduceLeDiff, Nat.reduceLT, Nat.reduceMul, Nat.reduceAdd, not_true_eq_false, not_false_eq_true, Bool.false_eq_true]
      · simp (disch := omega) only [↓gbd_h (c_isIn _ _ _), c_isIn _ _ _, e1, pq_lit, pq_add, pq_le, pq_lt, pq_eq, pq_en, pq_ne, pq_nle, pq_nlt, pq_len, pq_ltn, pB_z, pB_o, mzt_0, mzt_1, mzt_B, ↓gbd_s, gbd_s, ↓gnn_s, ↓grf_s, eq_self, ↓reduceIte, Nat.reduceEqDiff, Nat.reduceLeDiff, Nat.reduceLT, Nat.reduceMul, Nat.reduceAdd, not_true_eq_false, not_false_eq_true, Bool.false_eq_true]
    · simp only [bX5_drawn_24, bX5_drawn_43, bX5_drawn_0, fX5_drawn, pq_lit]
      by_cases e1 : Int32.ofNat 1 ≤ x ∧ x ≤ Int32.ofNat 60
      · have e2 : nL (M.2.2.1 6) = 0 := by
          by_cases q : 0 < nL (M.2.2.1 6)
          · exact absurd ⟨e1, q⟩ hn
          · omega
        simp (disch := omega) only [↓mpt, ↓mbd_h (m_isIn _ _ _), m_isIn _ _ _, e1, and_self, mF_a, ↓mrd_n, mrd_n, hI.c0, e2, eq_self, ↓reduceIte, Nat.reduceEqDiff, Nat.reduceLeDiff, Nat.reduceLT, Nat.reduceMul, Nat.reduceAdd, not_true_eq_false, not_false_eq_true, Bool.false_eq_true, pq_lit, pq_add, pq_le, pq_lt, pq_eq, pq_en, pq_ne, pq_nle, pq_nlt, pq_len, pq_ltn, pB_z, pB_o, mzt_0, mzt_1, mzt_B, ↓mbd_s, mbd_s]
      · simp (disch := omega) only [↓mpt, ↓mbd_h (m_isIn _ _ _), m_isIn _ _ _, e1, eq_self, ↓reduceIte, Nat.reduceEqDiff, Nat.reduceLeDiff, Nat.reduceLT, Nat.reduceMul, Nat.reduceAdd, not_true_eq_false, not_false_eq_true, Bool.false_eq_true, pq_lit, pq_add, pq_le, pq_lt, pq_eq, pq_en, pq_ne, pq_nle, pq_nlt, pq_len, pq_ltn, pB_z, pB_o, mzt_0, mzt_1, mzt_B, ↓mbd_s, mbd_s]
  by_cases e0 : (Int32.ofNat 1 ≤ x ∧ x ≤ Int32.ofNat 60) ∧ 0 < nL (M.2.2.1 6)
  · obtain ⟨e1, hl⟩ := e0
    have hl' : ¬ nL (M.2.2.1 6) = 0 := by omega
    obtain ⟨n, hn, rfl⟩ := pq_ofle (Int32.le_trans (by decide) e1.1) e1.2 (by omega)
    have n1 : 1 ≤ n := by
      have q := e1.1
      rw [pq_le (by omega) (by omega)] at q
      exact q
    by_cases e2 : M.2.2.1 6 91 < Int32.ofNat 400
    · have et : tS (snA A u) 0 = M.2.2.1 6 := by unfold tS; rw [sn_T (by omega)]; exact hs
      have g := c_dr (N := N) (hT.sn u) hE hN (by rw [et]; exact hW.2.2.2.2.1) (by rw [et]; exact hl) (show n < 1000 by omega) y
      have g2 := m_dr (N := N) (S := mR (mF (mF M 0 (Int32.ofNat 0)) 23 (Int32.ofNat (kpN u))) 21 (kpF (M.2.2.1 21) (M.2.2.1 6) u)) hI0 hN hl (show n < 1000 by omega) y
      rw [et] at g
      have e3 : ¬ Int32.ofNat 400 ≤ M.2.2.1 6 91 := Int32.not_le.mpr e2
      refine ⟨Int32.ofNat (drF n 0 y (M.2.2.1 6)).1, sT (snA A u) 0 ((aT (snA A u) 0).1, (drF n 0 y (M.2.2.1 6)).2.1, (drF n 0 y (M.2.2.1 6)).2.2), S, mR (mF (mR (mF (mF M 0 (Int32.ofNat 0)) 23 (Int32.ofNat (kpN u))) 21 (kpF (M.2.2.1 21) (M.2.2.1 6) u)) 46 (drF n 0 y (M.2.2.1 6)).2.1) 6 (drF n 0 y (M.2.2.1 6)).2.2, ?_, ?_, ?_, Nat.le_refl _, Nat.le_refl _⟩
      · simp only [bX1_drawn_17, bX1_drawn_0, fX1_drawn, vInchBorders_Times_drawn__II_I, pq_lit]
        simp (disch := omega) only [↓gbd_h (c_isIn _ _ _), c_isIn _ _ _, e1, and_self, ↓gbd_h (k_lands h3 hW.1), k_lands h3 hW.1, hl', ↓f_4, ↓gbd_h (c_over hT hD), c_over hT hD, hs, e2, ↓gbd_h (c_snap hE (show 100 ≤ N by omega) hU.1 hU.2.1), c_snap hE (show 100 ≤ N by omega) hU.1 hU.2.1, ↓t_cls, t_cls, ↓gbd_h (g), g, pq_lit, pq_add, pq_le, pq_lt, pq_eq, pq_en, pq_ne, pq_nle, pq_nlt, pq_len, pq_ltn, pB_z, pB_o, mzt_0, mzt_1, mzt_B, ↓gbd_s, gbd_s, ↓gnn_s, ↓grf_s, eq_self, ↓reduceIte, Nat.reduceEqDiff, Nat.reduceLeDiff, Nat.reduceLT, Nat.reduceMul, Nat.reduceAdd, not_true_eq_false, not_false_eq_true, Bool.false_eq_true]
      · simp only [bX5_drawn_24, bX5_drawn_43, bX5_drawn_0, fX5_drawn, pq_lit]
        simp (disch := omega) only [↓mpt, ↓mbd_h (m_isIn _ _ _), m_isIn _ _ _, e1, and_self, mF_a, ↓mrd_n, mrd_n, hI.c0, hl', e3, ↓mbd_h (m2), m2, ↓mbd_h (g2), g2, mA_n, eq_self, ↓reduceIte, Nat.reduceEqDiff, Nat.reduceLeDiff, Nat.reduceLT, Nat.reduceMul, Nat.reduceAdd, not_true_eq_false, not_false_eq_true, Bool.false_eq_true, pq_lit, pq_add, pq_le, pq_lt, pq_eq, pq_en, pq_ne, pq_nle, pq_nlt, pq_len, pq_ltn, pB_z, pB_o, mzt_0, mzt_1, mzt_B, ↓mbd_s, mbd_s]
      · have r := h.kq (ks := [0, 23, 21, 6, 46]) h3 h0 hs hW hU (sd := (drF n 0 y (M.2.2.1 6)).2.1) (s' := (drF n 0 y (M.2.2.1 6)).2.2) (M' := mR (mF (mR (mF (mF M 0 (Int32.ofNat 0)) 23 (Int32.ofNat (kpN u))) 21 (kpF (M.2.2.1 21) (M.2.2.1 6) u)) 46 (drF n 0 y (M.2.2.1 6)).2.1) 6 (drF n 0 y (M.2.2.1 6)).2.2) rfl (by rw [mA_n _ _ (by omega), mF_a, mA_e]) (mA_e _ _ _) (sm_dr n 0 y hI hl) (IvA.dr n 0 y hW.2.2.2 hl) (((((mSm.rf.mF _ (by decide)).mF _ (by decide)).mR _ (by decide)).mF _ (by decide)).mR _ (by decide)) (by decide)
        have ea : (aT A 0).1 = (aT (snA A u) 0).1 := by rw [sn_T (by omega)]
        rw [ea] at r
        exact r
    · have e3 : Int32.ofNat 400 ≤ M.2.2.1 6 91 := Int32.not_lt.mp e2
      obtain ⟨n', rfl⟩ : ∃ n', n = n' + 1 := ⟨n - 1, by omega⟩
      have g2 := m_dr (N := N) (S := mF M 0 (Int32.ofNat 0)) hI0 hN hl (show n' + 1 < 1000 by omega) y
      have ed : drF (n' + 1) 0 y (M.2.2.1 6) = (0, y, M.2.2.1 6) := if_neg e2
      rw [mF_a, ed] at g2
      refine ⟨Int32.ofNat 0, A, S, mR (mF (mF M 0 (Int32.ofNat 0)) 46 y) 6 (M.2.2.1 6), ?_, ?_, ?_, Nat.le_refl _, Nat.le_refl _⟩
      · simp only [bX1_drawn_17, bX1_drawn_0, fX1_drawn, pq_lit]
        simp (disch := omega) only [↓gbd_h (c_isIn _ _ _), c_isIn _ _ _, e1, and_self, ↓gbd_h (k_lands h3 hW.1), k_lands h3 hW.1, hl', ↓f_4, ↓gbd_h (c_over hT hD), c_over hT hD, hs, e2, pq_lit, pq_add, pq_le, pq_lt, pq_eq, pq_en, pq_ne, pq_nle, pq_nlt, pq_len, pq_ltn, pB_z, pB_o, mzt_0, mzt_1, mzt_B, ↓gbd_s, gbd_s, ↓gnn_s, ↓grf_s, eq_self, ↓reduceIte, Nat.reduceEqDiff, Nat.reduceLeDiff, Nat.reduceLT, Nat.reduceMul, Nat.reduceAdd, not_true_eq_false, not_false_eq_true, Bool.false_eq_true]
      · simp only [bX5_drawn_24, bX5_drawn_43, bX5_drawn_0, fX5_drawn, pq_lit]
        simp (disch := omega) only [↓mpt, ↓mbd_h (m_isIn _ _ _), m_isIn _ _ _, e1, and_self, mF_a, ↓mrd_n, mrd_n, hI.c0, hl', e3, ↓mbd_h (g2), g2, eq_self, ↓reduceIte, Nat.reduceEqDiff, Nat.reduceLeDiff, Nat.reduceLT, Nat.reduceMul, Nat.reduceAdd, not_true_eq_false, not_false_eq_true, Bool.false_eq_true, pq_lit, pq_add, pq_le, pq_lt, pq_eq, pq_en, pq_ne, pq_nle, pq_nlt, pq_len, pq_ltn, pB_z, pB_o, mzt_0, mzt_1, mzt_B, ↓mbd_s, mbd_s]
      · have e4 : mR (mF (mF M 0 (Int32.ofNat 0)) 46 y) 6 (M.2.2.1 6) = mF (mF M 0 (Int32.ofNat 0)) 46 y := mR_id (mF (mF M 0 (Int32.ofNat 0)) 46 y) 6
        rw [e4]
        exact h.mm (ks := [0, 46]) ((mSm.rf.mF _ (by decide)).mF _ (by decide)) (by decide)
  · exact bad e0
theorem o_undo (h : Rel E b A S M) (hN : 1000 ≤ N) : Op E b S 0 0 (fX1_undo E N (put b A S) b) (fX5_undo N M) := by
  obtain ⟨a, d, u, h3, h0, hs, hW, hU⟩ := h.2.2.1
  have hE := h.1.1
  have hu := hU.1
  have m := m_undo (N := N) hN hU.1 hU.2.2.1
  by_cases e : u = 0
  · rw [if_pos e] at m
    refine ⟨-Int32.ofNat 1, A, S, mF M 0 (Int32.ofNat 0), ?_, m, h.m0 _, Nat.le_refl _, Nat.le_refl _⟩
    simp only [bX1_undo_0, fX1_undo, pq_lit]
    simp (disch := omega) only [↓f_8, hU.2.1, e, pq_lit, pq_add, pq_le, pq_lt, pq_eq, pq_en, pq_ne, pq_nle, pq_nlt, pq_len, pq_ltn, pB_z, pB_o, mzt_0, mzt_1, mzt_B, ↓gbd_s, gbd_s, ↓gnn_s, ↓grf_s, eq_self, ↓reduceIte, Nat.reduceEqDiff, Nat.reduceLeDiff, Nat.reduceLT, Nat.reduceMul, Nat.reduceAdd, not_true_eq_false, not_false_eq_true, Bool.false_eq_true]
  · rw [if_neg e] at m
    have b1 := bi_ge (aC A) (u - 1)
    have b2 := bi_lt (aC A) (u - 1)
    obtain ⟨g1, g2, g3⟩ := hU.2.2.2 (u - 1) (by omega)
    have e9 : aI (sI A 8 (Int32.ofNat (u - 1))) 8 = Int32.ofNat (u - 1) := rfl
    refine ⟨Int32.ofNat (u - 1), sT (sI A 8 (Int32.ofNat (u - 1))) 0 (some a, (aT A 0).2.1, bk (M.2.2.1 6) (M.2.2.1 21) (47 * (u - 1))), S, _, ?_, m, ?_, Nat.le_refl _, Nat.le_refl _⟩
    · have p : put b (sT (sI A 8 (Int32.ofNat (u - 1))) 0 (some a, (aT A 0).2.1, bk (M.2.2.1 6) (M.2.2.1 21) (47 * (u - 1)))) S = put b (sT (sI A 8 (Int32.ofNat (u - 1))) 0 ((aT (sI A 8 (Int32.ofNat (u - 1))) (bi (aC A) (u - 1))).1, (aT (sI A 8 (Int32.ofNat (u - 1))) 0).2.1, (aT (sI A 8 (Int32.ofNat (u - 1))) (bi (aC A) (u - 1))).2.2)) S := by
        refine put_eq g1.symm rfl (fun k k1 k2 => ?_)
        show bk _ _ _ k = tS A (bi (aC A) (u - 1)) k
        rw [g2 k k1 k2]
        unfold bk cpF
        rw [if_pos (by omega)]
      rw [p]
      simp only [bX1_undo_0, fX1_undo, pq_lit]
      simp (disch := omega) only [↓f_8, hU.2.1, pq_sub, ↓f_p8, ↓f_4, ↓f_7, e9, ↓f_b, e, qCI, qIT, ↓gbd_h (c_asv hE (show 0 < 12 by omega) (show bi (aC A) (u - 1) < 12 by omega) (show bi (aC A) (u - 1) ≠ 0 by omega)), c_asv hE (show 0 < 12 by omega) (show bi (aC A) (u - 1) < 12 by omega) (show bi (aC A) (u - 1) ≠ 0 by omega), pq_lit, pq_add, pq_le, pq_lt, pq_eq, pq_en, pq_ne, pq_nle, pq_nlt, pq_len, pq_ltn, pB_z, pB_o, mzt_0, mzt_1, mzt_B, ↓gbd_s, gbd_s, ↓gnn_s, ↓grf_s, eq_self, ↓reduceIte, Nat.reduceEqDiff, Nat.reduceLeDiff, Nat.reduceLT, Nat.reduceMul, Nat.reduceAdd, not_true_eq_false, not_false_eq_true, Bool.false_eq_true]
    · obtain ⟨r1, r2, r3, r4⟩ := h
      have sm : Sm (M.2.2.1 6) (bk (M.2.2.1 6) (M.2.2.1 21) (47 * (u - 1))) := fun k hk => by
        unfold bk cpF
        rw [if_neg (by omega)]
      refine ⟨r1, r2, ⟨a, d, u - 1, h3, by rw [aT_sT], by unfold tS; rw [aT_sT, mA_e], ?_, ?_⟩, r4.eq Ext.rf ?_ (mRst.of (ks := [0, 23, 6]) (((mSm.rf.mF _ (by decide)).mF _ (by decide)).mR _ (by decide)) (by decide))⟩
      · rw [mA_e]
        exact hW.sm sm g3
      · refine ⟨by omega, rfl, rfl, fun i hi => ?_⟩
        have b3 := bi_ge (aC A) i
        obtain ⟨i1, i2, i3⟩ := hU.2.2.2 i (by omega)
        have et : aT (sT (sI A 8 (Int32.ofNat (u - 1))) 0 (some a, (aT A 0).2.1, bk (M.2.2.1 6) (M.2.2.1 21) (47 * (u - 1)))) (bi (aC A) i) = aT A (bi (aC A) i) := by
          rw [aT_sTo _ _ (by omega)]
          rfl
        unfold tS
        show (aT (sT (sI A 8 _) 0 _) (bi (aC A) i)).1 = some a ∧ _
        refine ⟨by rw [et]; exact i1, fun k k1 k2 => ?_, ?_⟩
        · show (aT (sT (sI A 8 _) 0 _) (bi (aC A) i)).2.2 k = _
          rw [et, mA_n _ _ (by omega)]
          exact i2 k k1 k2
        · rw [mA_e, mA_n _ _ (show 21 ≠ 6 by omega)]
          have e5 : bk (bk (M.2.2.1 6) (M.2.2.1 21) (47 * (u - 1))) (M.2.2.1 21) (47 * i) = bk (M.2.2.1 6) (M.2.2.1 21) (47 * i) := by
            funext k
            unfold bk cpF
            by_cases k1 : 91 ≤ k ∧ k < 91 + 47
            · rw [if_pos k1, if_pos k1]
            · rw [if_neg k1, if_neg k1, if_neg k1]
          show IvA (bk (bk (M.2.2.1 6) (M.2.2.1 21) (47 * (u - 1))) (M.2.2.1 21) (47 * i))
          rw [e5]
          exact i3
      · exact ⟨fun k hk => if_neg (by rintro rfl; revert hk; decide), fun _ _ => rfl, rfl, fun _ => rfl, aT_sTo _ _ (by omega), aT_sTo _ _ (by omega)⟩
end OC
