/-! image, restore -/
section OI
variable {E : gE} {N b : Nat} {A : FA} {S : GS} {M : MS}
theorem KepR.eq {k : Nat} {A' : FA} {M' : MS} (h : KepR b S A M k) (e1 : aK A' k = aK A k) (e2 : aT A' (10 + k) = aT A (10 + k)) (e3 : M'.2.2.1 59 k = M.2.2.1 59 k) (e4 : ∀ i, i < 319 → M'.2.2.1 57 (319 * k + i) = M.2.2.1 57 (319 * k + i)) (e5 : ∀ i, i < 13 → M'.2.2.2 58 (13 * k + i) = M.2.2.2 58 (13 * k + i)) : KepR b S A' M' k := by
  unfold KepR tS
  rw [e1, e2, e3]
  rcases h with q | ⟨q, a, d, q1, q2, q3, q4⟩
  · exact Or.inl q
  · refine Or.inr ⟨q, a, d, q1, q2, fun i i1 i2 => ?_, q4.cg (fun i hi => e4 i hi) (fun i hi => e5 i hi)⟩
    rw [e4 i (by omega)]
    exact q3 i i1 i2
theorem o_image (h : Rel E b A S M) (hN : 1000 ≤ N) (x : Int32) : Op E b S 0 0 (fX1_image E N (put b A S) b x) (fX5_image N M x) := by
  have hh := h
  obtain ⟨r1, r2, ⟨a, d, u, h3, h0, hs, hW, hU⟩, r4⟩ := h
  have hE := r1.1
  by_cases e : Int32.ofNat 0 ≤ x ∧ x ≤ Int32.ofNat 1
  · have e0 := e
    obtain ⟨k, hk, rfl⟩ := pq_ofle e.1 e.2 (by omega)
    have hk2 : k < 2 := by omega
    have g1 := m_imA (N := N) hN hk2 319 0 N (mF M 0 (Int32.ofNat 0)) (by omega) (by omega)
    rw [m_imB hN hk2 13 0 N _ (by omega) (by omega)] at g1
    obtain ⟨M', hM'⟩ : ∃ M', M' = mR (mQ (mR (mF M 0 (Int32.ofNat 0)) 57 (cpF ((mF M 0 (Int32.ofNat 0)).2.2.1 57) ((mF M 0 (Int32.ofNat 0)).2.2.1 6) (319 * k + 0) 0 319)) 58 (cpL ((mR (mF M 0 (Int32.ofNat 0)) 57 (cpF ((mF M 0 (Int32.ofNat 0)).2.2.1 57) ((mF M 0 (Int32.ofNat 0)).2.2.1 6) (319 * k + 0) 0 319)).2.2.2 58) ((mR (mF M 0 (Int32.ofNat 0)) 57 (cpF ((mF M 0 (Int32.ofNat 0)).2.2.1 57) ((mF M 0 (Int32.ofNat 0)).2.2.1 6) (319 * k + 0) 0 319)).2.2.2 9) (13 * k + 0) 0 13)) 59 (upd ((mR (mF M 0 (Int32.ofNat 0)) 57 (cpF ((mF M 0 (Int32.ofNat 0)).2.2.1 57) ((mF M 0 (Int32.ofNat 0)).2.2.1 6) (319 * k + 0) 0 319)).2.2.1 59) k (Int32.ofNat 1)) := ⟨_, rfl⟩
    rw [← hM'] at g1
    have m57 : M'.2.2.1 57 = cpF (M.2.2.1 57) (M.2.2.1 6) (319 * k) 0 319 := by rw [hM']; rfl
    have m58 : M'.2.2.2 58 = cpL (M.2.2.2 58) (M.2.2.2 9) (13 * k) 0 13 := by rw [hM']; rfl
    have m59 : M'.2.2.1 59 = upd (M.2.2.1 59) k (Int32.ofNat 1) := by rw [hM']; rfl
    have mi : ∀ j, j ≠ 0 → M'.1 j = M.1 j := fun j hj => by rw [hM']; exact if_neg hj
    have mr : ∀ j, j ≠ 57 → j ≠ 59 → M'.2.2.1 j = M.2.2.1 j := fun j j1 j2 => by rw [hM']; exact (if_neg j2).trans (if_neg j1)
    have ml : ∀ j, j ≠ 58 → M'.2.2.2 j = M.2.2.2 j := fun j hj => by rw [hM']; exact if_neg hj
    refine ⟨Int32.ofNat 1, sT (sK A k (aR A 3, aR A 6)) (10 + k) ((aT A 0).1, (aT A (10 + k)).2.1, (aT A 0).2.2), S, M', ?_, ?_, ?_, Nat.le_refl _, Nat.le_refl _⟩
    · have ca := fun x => c_asv (E := E) (N := N) (b := b) (A := sK A k x) (S := S) hE (i := 0) (j := 10 + k) (by omega) (by omega) (by omega)
      have kk : ∀ x y, sK (sK A k x) k y = sK A k y := fun x y => by unfold sK; simp only [va_up_up]
      have ka : ∀ x, aK (sK A k x) k = x := fun x => if_pos rfl
      have ta : ∀ x i, aT (sK A k x) i = aT A i := fun x i => rfl
      have rr : ∀ x i, aR (sK A k x) i = aR A i := fun x i => rfl
      simp only [fX1_image, bX1_image_0, pq_lit]
      simp (disch := omega) only [↓gbd_h (c_isIn _ _ _), c_isIn _ _ _, e0, and_self, ↓f_23, ↓kp_23 hk2, ↓f_3, ↓kp_p40 hE hk2, ↓f_6, ↓kp_p41 hE hk2, ↓kp_42 hk2, ↓f_4, ↓gbd_h (ca _), ca _, ka, kk, ta, rr, pq_lit, pq_add, pq_le, pq_lt, pq_eq, pq_en, pq_ne, pq_nle, pq_nlt, pq_len, pq_ltn, pB_z, pB_o, mzt_0, mzt_1, mzt_B, ↓gbd_s, gbd_s, ↓gnn_s, ↓grf_s, eq_self, ↓reduceIte, Nat.reduceEqDiff, Nat.reduceLeDiff, Nat.reduceLT, Nat.reduceMul, Nat.reduceAdd, not_true_eq_false, not_false_eq_true, Bool.false_eq_true]
    · simp only [fX5_image, bX5_image_0, pq_lit]
      simp (disch := omega) only [↓mpt, ↓mbd_h (m_isIn _ _ _), m_isIn _ _ _, e0, and_self, eq_self, ↓reduceIte, Nat.reduceEqDiff, Nat.reduceLeDiff, Nat.reduceLT, Nat.reduceMul, Nat.reduceAdd, not_true_eq_false, not_false_eq_true, Bool.false_eq_true, pq_lit, pq_add, pq_le, pq_lt, pq_eq, pq_en, pq_ne, pq_nle, pq_nlt, pq_len, pq_ltn, pB_z, pB_o, mzt_0, mzt_1, mzt_B]
      exact g1
    · have kx : aK (sT (sK A k (aR A 3, aR A 6)) (10 + k) ((aT A 0).1, (aT A (10 + k)).2.1, (aT A 0).2.2)) k = (aR A 3, aR A 6) := if_pos rfl
      have kn : ∀ j, j ≠ k → aK (sT (sK A k (aR A 3, aR A 6)) (10 + k) ((aT A 0).1, (aT A (10 + k)).2.1, (aT A 0).2.2)) j = aK A j := fun j hj => if_neg hj
      have tn : ∀ j, j ≠ 10 + k → aT (sT (sK A k (aR A 3, aR A 6)) (10 + k) ((aT A 0).1, (aT A (10 + k)).2.1, (aT A 0).2.2)) j = aT A j := fun j hj => aT_sTo _ _ hj
      have tx : aT (sT (sK A k (aR A 3, aR A 6)) (10 + k) ((aT A 0).1, (aT A (10 + k)).2.1, (aT A 0).2.2)) (10 + k) = ((aT A 0).1, (aT A (10 + k)).2.1, (aT A 0).2.2) := aT_sT _ _ _
      have new : KepR b S (sT (sK A k (aR A 3, aR A 6)) (10 + k) ((aT A 0).1, (aT A (10 + k)).2.1, (aT A 0).2.2)) M' k := by
        refine Or.inr ⟨by rw [m59, upd_s], a, d, by rw [kx]; exact h3, by rw [tx]; exact h0, fun i i1 i2 => ?_, ?_⟩
        · unfold tS
          rw [tx, m57]
          unfold cpF
          rw [if_pos (by omega)]
          show tS A 0 i = _
          rw [hs]
          exact congrArg (M.2.2.1 6) (by omega)
        · rw [kx]
          refine hW.cg (fun i hi => ?_) (fun i hi => ?_)
          · rw [m57]
            unfold cpF
            rw [if_pos (by omega)]
            exact congrArg (M.2.2.1 6) (by omega)
          · rw [m58]
            unfold cpL
            rw [if_pos (by omega)]
            exact congrArg (M.2.2.2 9) (by omega)
      obtain ⟨q1, q2, q3, q4, q5, q6, q7, q8, q9, q10⟩ := r4
      have old : ∀ j, j < 2 → j ≠ k → KepR b S A M j → KepR b S (sT (sK A k (aR A 3, aR A 6)) (10 + k) ((aT A 0).1, (aT A (10 + k)).2.1, (aT A 0).2.2)) M' j := fun j j1 j2 hj => by
        refine hj.eq (kn j j2) (tn _ (by omega)) (by rw [m59, upd_o _ _ j2]) (fun i hi => ?_) (fun i hi => ?_)
        · rw [m57]
          unfold cpF
          rw [if_neg (by omega)]
        · rw [m58]
          unfold cpL
          rw [if_neg (by omega)]
      have kep : ∀ j, j < 2 → KepR b S A M j → KepR b S (sT (sK A k (aR A 3, aR A 6)) (10 + k) ((aT A 0).1, (aT A (10 + k)).2.1, (aT A 0).2.2)) M' j := fun j j1 hj => by
        by_cases j2 : j = k
        · subst j2; exact new
        · exact old j j1 j2 hj
      refine ⟨r1, ?_, ⟨a, d, u, h3, ?_, ?_, ?_, ?_⟩, ?_, ?_, ?_, ?_, ?_, ?_, ?_, kep 0 (by omega) q8, kep 1 (by omega) q9, ?_⟩
      · unfold TapR
        rw [mr 1 (by omega) (by omega), mi 2 (by omega), mi 15 (by omega)]
        exact r2
      · rw [tn 0 (by omega)]; exact h0
      · unfold tS; rw [tn 0 (by omega), mr 6 (by omega) (by omega)]; exact hs
      · rw [mr 6 (by omega) (by omega), ml 9 (by omega)]; exact hW
      · obtain ⟨g1, g2, g3, g4⟩ := hU
        refine ⟨g1, g2, by rw [mi 23 (by omega)]; exact g3, fun i hi => ?_⟩
        have b1 := bi_lt (aC A) i
        unfold tS
        rw [mr 6 (by omega) (by omega), mr 21 (by omega) (by omega)]
        show (aT _ (bi (aC A) i)).1 = some a ∧ (∀ k, 91 ≤ k → k < 138 → (aT _ (bi (aC A) i)).2.2 k = _) ∧ _
        rw [tn _ (by omega)]
        exact g4 i hi
      · unfold WayR; rw [mi 34 (by omega), mr 31 (by omega) (by omega)]; exact q1
      · unfold MadR; rw [mi 35 (by omega), mi 36 (by omega), mr 32 (by omega) (by omega)]; exact q2
      · unfold SpaR; rw [mi 38 (by omega), mi 37 (by omega)]; exact q3
      · unfold CarR; rw [mi 41 (by omega), mr 40 (by omega) (by omega)]; exact q4
      · unfold ParR; rw [mi 43 (by omega), mi 42 (by omega)]; exact q5
      · unfold PasR; rw [mi 45 (by omega), mr 44 (by omega) (by omega)]; exact q6
      · unfold TolR; rw [mi 49 (by omega), mr 48 (by omega) (by omega)]; exact q7
      · unfold ResR; rw [ml 10 (by omega)]; exact q10
  · refine ⟨Int32.ofNat 0, A, S, mF M 0 (Int32.ofNat 0), ?_, ?_, hh.m0 _, Nat.le_refl _, Nat.le_refl _⟩
    · simp only [fX1_image, bX1_image_0, pq_lit]
      simp (disch := omega) only [↓gbd_h (c_isIn _ _ _), c_isIn _ _ _, e, pq_lit, pq_add, pq_le, pq_lt, pq_eq, pq_en, pq_ne, pq_nle, pq_nlt, pq_len, pq_ltn, pB_z, pB_o, mzt_0, mzt_1, mzt_B, ↓gbd_s, gbd_s, ↓gnn_s, ↓grf_s, eq_self, ↓reduceIte, Nat.reduceEqDiff, Nat.reduceLeDiff, Nat.reduceLT, Nat.reduceMul, Nat.reduceAdd, not_true_eq_false, not_false_eq_true, Bool.false_eq_true]
    · simp only [fX5_image, bX5_image_0, pq_lit]
      simp (disch := omega) only [↓mpt, ↓mbd_h (m_isIn _ _ _), m_isIn _ _ _, e, eq_self, ↓reduceIte, Nat.reduceEqDiff, Nat.reduceLeDiff, Nat.reduceLT, Nat.reduceMul, Nat.reduceAdd, not_true_eq_false, not_false_eq_true, Bool.false_eq_true, pq_lit, pq_add, pq_le, pq_lt, pq_eq, pq_en, pq_ne, pq_nle, pq_nlt, pq_len, pq_ltn, pB_z, pB_o, mzt_0, mzt_1, mzt_B]
theorem o_restore (h : Rel E b A S M) (hN : 1000 ≤ N) (x : Int32) : Op E b S 0 0 (fX1_restore E N (put b A S) b x) (fX5_restore N M x) := by
  have hh := h
  obtain ⟨r1, r2, ⟨a, d, u, h3, h0, hs, hW, hU⟩, r4⟩ := h
  have hE := r1.1
  by_cases e : Int32.ofNat 0 ≤ x ∧ x ≤ Int32.ofNat 1
  · have e0 := e
    obtain ⟨k, hk, rfl⟩ := pq_ofle e.1 e.2 (by omega)
    have hk2 : k < 2 := by omega
    have hK : KepR b S A M k := by
      match k, hk2 with
      | 0, _ => exact r4.2.2.2.2.2.2.2.1
      | 1, _ => exact r4.2.2.2.2.2.2.2.2.1
    rcases hK with ⟨q1, q2⟩ | ⟨q1, a', d', q2, q3, q4, q5⟩
    · refine ⟨Int32.ofNat 0, A, S, mF M 0 (Int32.ofNat 0), ?_, ?_, hh.m0 _, Nat.le_refl _, Nat.le_refl _⟩
      · simp only [fX1_restore, bX1_restore_0, bX1_restore_21, pq_lit]
        simp (disch := omega) only [↓gbd_h (c_isIn _ _ _), c_isIn _ _ _, e0, and_self, ↓f_23, ↓kp_23 hk2, ↓kp_40 hk2, q2, pq_lit, pq_add, pq_le, pq_lt, pq_eq, pq_en, pq_ne, pq_nle, pq_nlt, pq_len, pq_ltn, pB_z, pB_o, mzt_0, mzt_1, mzt_B, ↓gbd_s, gbd_s, ↓gnn_s, ↓grf_s, eq_self, ↓reduceIte, Nat.reduceEqDiff, Nat.reduceLeDiff, Nat.reduceLT, Nat.reduceMul, Nat.reduceAdd, not_true_eq_false, not_false_eq_true, Bool.false_eq_true]
      · simp only [fX5_restore, bX5_restore_0, bX5_restore_23, pq_lit]
        simp (disch := omega) only [↓mpt, ↓mbd_h (m_isIn _ _ _), m_isIn _ _ _, e0, and_self, mF_a, ↓mrd_n, mrd_n, q1, eq_self, ↓reduceIte, Nat.reduceEqDiff, Nat.reduceLeDiff, Nat.reduceLT, Nat.reduceMul, Nat.reduceAdd, not_true_eq_false, not_false_eq_true, Bool.false_eq_true, pq_lit, pq_add, pq_le, pq_lt, pq_eq, pq_en, pq_ne, pq_nle, pq_nlt, pq_len, pq_ltn, pB_z, pB_o, mzt_0, mzt_1, mzt_B]
    · have g1 := m_reA (N := N) hN hk2 319 0 N (mF M 0 (Int32.ofNat 0)) (by omega) (by omega)
      rw [m_reB hN hk2 13 0 N _ (by omega) (by omega)] at g1
      obtain ⟨M', hM'⟩ : ∃ M', M' = mF (mQ (mR (mF M 0 (Int32.ofNat 0)) 6 (cpF ((mF M 0 (Int32.ofNat 0)).2.2.1 6) ((mF M 0 (Int32.ofNat 0)).2.2.1 57) 0 (319 * k + 0) 319)) 9 (cpL ((mR (mF M 0 (Int32.ofNat 0)) 6 (cpF ((mF M 0 (Int32.ofNat 0)).2.2.1 6) ((mF M 0 (Int32.ofNat 0)).2.2.1 57) 0 (319 * k + 0) 319)).2.2.2 9) ((mR (mF M 0 (Int32.ofNat 0)) 6 (cpF ((mF M 0 (Int32.ofNat 0)).2.2.1 6) ((mF M 0 (Int32.ofNat 0)).2.2.1 57) 0 (319 * k + 0) 319)).2.2.2 58) 0 (13 * k + 0) 13)) 23 (Int32.ofNat 0) := ⟨_, rfl⟩
      rw [← hM'] at g1
      have m6 : M'.2.2.1 6 = cpF (M.2.2.1 6) (M.2.2.1 57) 0 (319 * k) 319 := by rw [hM']; rfl
      have m9 : M'.2.2.2 9 = cpL (M.2.2.2 9) (M.2.2.2 58) 0 (13 * k) 13 := by rw [hM']; rfl
      have m23 : M'.1 23 = Int32.ofNat 0 := by rw [hM']; rfl
      have mi : ∀ j, j ≠ 0 → j ≠ 23 → M'.1 j = M.1 j := fun j j1 j2 => by rw [hM']; exact (if_neg j2).trans (if_neg j1)
      have mr : ∀ j, j ≠ 6 → M'.2.2.1 j = M.2.2.1 j := fun j j1 => by rw [hM']; exact if_neg j1
      have ml : ∀ j, j ≠ 9 → M'.2.2.2 j = M.2.2.2 j := fun j hj => by rw [hM']; exact if_neg hj
      refine ⟨Int32.ofNat 1, sI (sT (sR (sR A 3 (some a')) 6 (aK A k).2) 0 (some a', (aT A 0).2.1, M'.2.2.1 6)) 8 (Int32.ofNat 0), S, M', ?_, ?_, ?_, Nat.le_refl _, Nat.le_refl _⟩
      · have p : put b (sI (sT (sR (sR A 3 (some a')) 6 (aK A k).2) 0 (some a', (aT A 0).2.1, M'.2.2.1 6)) 8 (Int32.ofNat 0)) S = put b (sI (sT (sR (sR A 3 (some a')) 6 (aK A k).2) 0 ((aT A (10 + k)).1, (aT A 0).2.1, (aT A (10 + k)).2.2)) 8 (Int32.ofNat 0)) S := by
          have c1 : ∀ x, sI (sT (sR (sR A 3 (some a')) 6 (aK A k).2) 0 x) 8 (Int32.ofNat 0) = sT (sI (sR (sR A 3 (some a')) 6 (aK A k).2) 8 (Int32.ofNat 0)) 0 x := fun x => rfl
          rw [c1, c1]
          refine put_eq q3.symm rfl (fun i i1 i2 => ?_)
          show M'.2.2.1 6 i = tS A (10 + k) i
          rw [q4 i i1 i2, m6]
          unfold cpF
          rw [if_pos (by omega)]
          exact congrArg (M.2.2.1 57) (by omega)
        have ca := fun (B : FA) => c_asv (E := E) (N := N) (b := b) (A := B) (S := S) hE (i := 10 + k) (j := 0) (by omega) (by omega) (by omega)
        have ta : ∀ (x y : Option Nat) i, aT (sR (sR A 3 x) 6 y) i = aT A i := fun x y i => rfl
        have ka : ∀ (x : Option Nat), aK (sR A 3 x) k = aK A k := fun x => rfl
        rw [p]
        simp only [fX1_restore, bX1_restore_0, bX1_restore_21, pq_lit]
        simp (disch := omega) only [↓gbd_h (c_isIn _ _ _), c_isIn _ _ _, e0, and_self, ↓f_23, ↓kp_23 hk2, ↓kp_40 hk2, ↓kp_41 hk2, ↓kp_42 hk2, q2, reduceCtorEq, ↓f_p3, ↓f_p6, ↓f_4, ↓gbd_h (ca _), ca _, ta, ka, ↓f_p8, pq_lit, pq_add, pq_le, pq_lt, pq_eq, pq_en, pq_ne, pq_nle, pq_nlt, pq_len, pq_ltn, pB_z, pB_o, mzt_0, mzt_1, mzt_B, ↓gbd_s, gbd_s, ↓gnn_s, ↓grf_s, eq_self, ↓reduceIte, Nat.reduceEqDiff, Nat.reduceLeDiff, Nat.reduceLT, Nat.reduceMul, Nat.reduceAdd, not_true_eq_false, not_false_eq_true, Bool.false_eq_true]
      · simp only [fX5_restore, bX5_restore_0, pq_lit]
        simp (disch := omega) only [↓mpt, ↓mbd_h (m_isIn _ _ _), m_isIn _ _ _, e0, and_self, mF_a, ↓mrd_n, mrd_n, q1, eq_self, ↓reduceIte, Nat.reduceEqDiff, Nat.reduceLeDiff, Nat.reduceLT, Nat.reduceMul, Nat.reduceAdd, not_true_eq_false, not_false_eq_true, Bool.false_eq_true, pq_lit, pq_add, pq_le, pq_lt, pq_eq, pq_en, pq_ne, pq_nle, pq_nlt, pq_len, pq_ltn, pB_z, pB_o, mzt_0, mzt_1, mzt_B]
        exact g1
      · refine ⟨r1, ?_, ⟨a', d', 0, rfl, ?_, ?_, ?_, ?_⟩, r4.eq Ext.rf ?_ ⟨fun j hj => ⟨mi j (by rintro rfl; revert hj; decide) (by rintro rfl; revert hj; decide), mr j (by rintro rfl; revert hj; decide)⟩, ml 58 (by omega), ml 10 (by omega)⟩⟩
        · unfold TapR
          rw [mr 1 (by omega), mi 2 (by omega) (by omega), mi 15 (by omega) (by omega)]
          exact r2
        · rfl
        · rfl
        · show World b S a' (aK A k).2 (M'.2.2.1 6) (M'.2.2.2 9) d'
          refine q5.cg (fun i hi => ?_) (fun i hi => ?_)
          · rw [m6]
            unfold cpF
            rw [if_pos (by omega)]
            exact congrArg (M.2.2.1 57) (by omega)
          · rw [m9]
            unfold cpL
            rw [if_pos (by omega)]
            exact congrArg (M.2.2.2 58) (by omega)
        · exact ⟨by omega, rfl, m23, fun i hi => by omega⟩
        · exact ⟨fun j hj => if_neg (by rintro rfl; revert hj; decide), fun _ _ => rfl, rfl, fun _ => rfl, rfl, rfl⟩
  · refine ⟨Int32.ofNat 0, A, S, mF M 0 (Int32.ofNat 0), ?_, ?_, hh.m0 _, Nat.le_refl _, Nat.le_refl _⟩
    · simp only [fX1_restore, bX1_restore_0, bX1_restore_21, pq_lit]
      simp (disch := omega) only [↓gbd_h (c_isIn _ _ _), c_isIn _ _ _, e, pq_lit, pq_add, pq_le, pq_lt, pq_eq, pq_en, pq_ne, pq_nle, pq_nlt, pq_len, pq_ltn, pB_z, pB_o, mzt_0, mzt_1, mzt_B, ↓gbd_s, gbd_s, ↓gnn_s, ↓grf_s, eq_self, ↓reduceIte, Nat.reduceEqDiff, Nat.reduceLeDiff, Nat.reduceLT, Nat.reduceMul, Nat.reduceAdd, not_true_eq_false, not_false_eq_true, Bool.false_eq_true]
    · simp only [fX5_restore, bX5_restore_0, bX5_restore_23, pq_lit]
      simp (disch := omega) only [↓mpt, ↓mbd_h (m_isIn _ _ _), m_isIn _ _ _, e, eq_self, ↓reduceIte, Nat.reduceEqDiff, Nat.reduceLeDiff, Nat.reduceLT, Nat.reduceMul, Nat.reduceAdd, not_true_eq_false, not_false_eq_true, Bool.false_eq_true, pq_lit, pq_add, pq_le, pq_lt, pq_eq, pq_en, pq_ne, pq_nle, pq_nlt, pq_len, pq_ltn, pB_z, pB_o, mzt_0, mzt_1, mzt_B]
end OI
