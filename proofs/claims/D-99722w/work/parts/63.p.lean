/-! caravan -/
section OV
variable {E : gE} {N b : Nat} {A : FA} {S : GS} {M : MS}
theorem o_caravan (h : Rel E b A S M) (hN : 1000 ≤ N) (x : Int32) : Op E b S 0 0 (fX1_caravan E N (put b A S) b x) (fX5_caravan N M x) := by
  have hh := h
  obtain ⟨r1, r2, ⟨a, d, u, h3, h0, hs, hW, hU⟩, r4⟩ := h
  have hE := r1.1
  have hA := hW.2.2.2
  have hI := hA.1
  have h6 := hI.p6
  have h7 := hI.l7
  have hI0 : IvS ((mF M 0 (Int32.ofNat 0)).2.2.1 6) := hI
  have mi := m_isLand (N := N) hI0 x
  have ci := k_isL (E := E) (N := N) h3 hW.1 x
  have hT : TA b S A 0 a d := ⟨by omega, h0, by rw [hs]; exact hW.1, by rw [hs]; exact hI⟩
  by_cases e : inN x (nL (M.2.2.1 6)) = true
  · have e' := e
    obtain ⟨l, hl, rfl⟩ := (inN_i (by omega)).mp e
    obtain ⟨s, hsd⟩ : ∃ s, s = M.2.2.1 6 := ⟨_, rfl⟩
    have cv := c_cvL (E := E) (N := N) hN hT h3 (by rw [hs]; exact hl) (nP (tS A 0)) 0 N 0 (by omega) (by rw [hs]; omega) (by decide)
    obtain ⟨f', m1, m2⟩ := m_cvL (N := N) hN hI hl (nP (M.2.2.1 6)) 0 N 0 (mF M 0 (Int32.ofNat 0)) rfl (fun i hi => by simp [srt] at hi) (by omega) (by omega) (by decide)
    rw [hs] at cv
    obtain ⟨set, hset⟩ : ∃ set, set = gmS (M.2.2.1 6) l (nP (M.2.2.1 6)) 0 0 := ⟨_, rfl⟩
    have lt := gm_lt (s := M.2.2.1 6) (l := l) (nP (M.2.2.1 6)) 0 0 (by omega) (by decide)
    rw [Nat.zero_add, ← hset] at lt
    rw [← hset] at cv m1 m2
    obtain ⟨p1, p2, p3, p4⟩ := all_per (nP (M.2.2.1 6)) (by omega) set lt
    obtain ⟨q1, q2, q3⟩ := srt_l (nP (M.2.2.1 6)) (by omega) set lt
    obtain ⟨P, hP⟩ : ∃ P, P = perN (nP (M.2.2.1 6)) 7 set := ⟨_, rfl⟩
    obtain ⟨k, hk⟩ : ∃ k, k = (srt (nP (M.2.2.1 6)) set).length := ⟨_, rfl⟩
    rw [← hP] at p1 p2
    rw [← hk] at p2 p3 q1 m2
    obtain ⟨F, hF⟩ : ∃ F, F = P.foldl (kpC (M.2.2.1 6) l) (-Int32.ofNat 1, []) := ⟨_, rfl⟩
    have Fk : F.2.length = k := by
      obtain ⟨P', hP'⟩ := allN_ne p1
      rw [hP'] at hF p2
      rw [List.all_cons, Bool.and_eq_true] at p2
      rw [hF, List.foldl_cons, kp_one hA hl rfl p2.1]
      exact kp_len P' _ p2.2 hk.symm
    -- the component
    obtain ⟨A1, c1, c2⟩ := c_rf (E := E) (N := N) (S := S) hE hN (l := l) (n := nP (M.2.2.1 6)) hT h3 (by rw [hs]; exact hA) (by rw [hs]; exact hl) (by rw [hs]) 7 64 set [] (-Int32.ofNat 1, []) (sI A 19 (-Int32.ofNat 1)) (by omega) (by omega) q2 lt (by simpa using q3) (fun x q => by simp at q) ⟨carA.sI _ _ (by decide), rfl, fun i hi => by simp at hi, fun i hi => by simp at hi⟩
    have em : (perN (nP (M.2.2.1 6)) 7 set).map (([] : List Nat) ++ ·) = P := by rw [hP]; simp
    rw [em, hs, ← hF] at c1
    obtain ⟨g1, g2, g3, g4⟩ := c1
    have c2' : vInchBorders_rowsFrom__III_V E N (put b (sI A 19 (-Int32.ofNat 1)) S) (some b) (Int32.ofNat 0) (Int32.ofNat set) (Int32.ofNat l) = some (Int32.ofNat 0, put b A1 S) := c2
    have kp := k_persons (E := E) (N := N) h3 hW.1
    have mn : mny (Int32.ofNat set) = Int32.ofNat k := ((mny_p p4).2).trans p3
    have a19 : aI (sI A1 18 (Int32.ofNat k)) 19 = F.1 := g2
    have cc : fX1_caravan E N (put b A S) b (Int32.ofNat l) = some (F.1, put b (sI A1 18 (Int32.ofNat k)) S) := by
      refine Eq.trans (b := bX1_caravan_14L E N b N (put b A S) (Int32.ofNat l) (Int32.ofNat 0) (Int32.ofNat 0)) ?_ (cv.trans ?_)
      · simp only [fX1_caravan, bX1_caravan_0, pq_lit]
        simp (disch := omega) only [↓gbd_h (ci), ci, e', pB_T, pq_lit, pq_add, pq_le, pq_lt, pq_eq, pq_en, pq_ne, pq_nle, pq_nlt, pq_len, pq_ltn, pB_z, pB_o, mzt_0, mzt_1, mzt_B, ↓gbd_s, gbd_s, ↓gnn_s, ↓grf_s, eq_self, ↓reduceIte, Nat.reduceEqDiff, Nat.reduceLeDiff, Nat.reduceLT, Nat.reduceMul, Nat.reduceAdd, not_true_eq_false, not_false_eq_true, Bool.false_eq_true]
      · simp only [bX1_caravan_14L, bX1_caravan_14, pq_lit]
        simp (disch := omega) only [↓gbd_h (kp), kp, Nat.le_refl, ↓f_p19, ↓gbd_h (c2'), c2', ↓gbd_h (c_mny _), c_mny _, mn, ↓f_p18, ↓f_19, a19, pq_lit, pq_add, pq_le, pq_lt, pq_eq, pq_en, pq_ne, pq_nle, pq_nlt, pq_len, pq_ltn, pB_z, pB_o, mzt_0, mzt_1, mzt_B, ↓gbd_s, gbd_s, ↓gnn_s, ↓grf_s, eq_self, ↓reduceIte, Nat.reduceEqDiff, Nat.reduceLeDiff, Nat.reduceLT, Nat.reduceMul, Nat.reduceAdd, not_true_eq_false, not_false_eq_true, Bool.false_eq_true]
    -- the model
    have tr := m_tries (N := N) hN (mR (mF M 0 (Int32.ofNat 0)) 39 f')
    obtain ⟨M1, n1, n2, n3⟩ := m_c66 (N := N) hN (s := M.2.2.1 6) (f0 := M.2.2.1 22) (l := l) (k := k) hA hl rfl q1 721 N (srt (nP (M.2.2.1 6)) set) P (-Int32.ofNat 1, []) (mR (mR (mF M 0 (Int32.ofNat 0)) 39 f') 22 (cpF (M.2.2.1 22) (M.2.2.1 6) 0 91 47)) p1 p2 (by omega) (by rw [mA_n _ _ (by omega), mA_n _ _ (by omega)]; rfl) (by rw [mA_e]) (by rw [mA_n _ _ (by omega), mA_e]; exact m1) (fun i hi => by simp at hi)
    rw [← hF] at n2 n3
    have mm : fX5_caravan N M (Int32.ofNat l) = some (F.1, mF M1 41 (Int32.ofNat k)) := by
      refine Eq.trans (b := bX5_caravan_19L N N (mF M 0 (Int32.ofNat 0)) (Int32.ofNat l) (Int32.ofNat 0) (Int32.ofNat 0)) ?_ ((show _ = _ from m2).trans ?_)
      · simp only [fX5_caravan, bX5_caravan_0, pq_lit]
        simp (disch := omega) only [↓mpt, ↓mbd_h (mi), mi, mF_a, e', pB_T, eq_self, ↓reduceIte, Nat.reduceEqDiff, Nat.reduceLeDiff, Nat.reduceLT, Nat.reduceMul, Nat.reduceAdd, not_true_eq_false, not_false_eq_true, Bool.false_eq_true, pq_lit, pq_add, pq_le, pq_lt, pq_eq, pq_en, pq_ne, pq_nle, pq_nlt, pq_len, pq_ltn, pB_z, pB_o, mzt_0, mzt_1, mzt_B]
      · simp only [bX5_caravan_19L, bX5_caravan_19, pq_lit]
        simp (disch := omega) only [↓mrd_n, mrd_n, mA_n, mF_a, hI.c2, Nat.le_refl, ↓mbd_h (tr), tr, eq_self, ↓reduceIte, Nat.reduceEqDiff, Nat.reduceLeDiff, Nat.reduceLT, Nat.reduceMul, Nat.reduceAdd, not_true_eq_false, not_false_eq_true, Bool.false_eq_true, pq_lit, pq_add, pq_le, pq_lt, pq_eq, pq_en, pq_ne, pq_nle, pq_nlt, pq_len, pq_ltn, pB_z, pB_o, mzt_0, mzt_1, mzt_B]
        exact n3
    have sm : mSm [0, 39, 22, 40, 41] M (mF M1 41 (Int32.ofNat k)) := (((((mSm.rf (ks := [0, 39, 22, 40, 41])).mF _ (by decide)).mR _ (by decide)).mR _ (by decide)).tr (n1.su (by decide))).mF _ (by decide)
    obtain ⟨k1, k2, k3, k4, k5, k6⟩ := g1
    have i' : ∀ j, j ∉ [17, 18, 19] → aI (sI A1 18 (Int32.ofNat k)) j = aI A j := fun j hj => by
      have h18 : j ≠ 18 := fun w => hj (by rw [w]; decide)
      exact (if_neg h18).trans (k1 j (fun w => hj (by revert w; simp; omega)))
    have v' : ∀ j, j ∉ [15, 16] → aV (sI A1 18 (Int32.ofNat k)) j = aV A j := k2
    refine ⟨_, _, S, _, cc, mm, hh.ch Ext.rf sm (by decide) (v' 0 (by decide)) (i' 2 (by decide)) (i' 8 (by decide)) ⟨k3 3, k3 6⟩ k4 k5 (Or.inl ⟨by decide, i' 1 (by decide)⟩) (r4.ch Ext.rf sm (Or.inl ⟨by decide, by decide, i' 11 (by decide), v' 9 (by decide)⟩) (Or.inl ⟨by decide, by decide, by decide, i' 12 (by decide), i' 14 (by decide), v' 10 (by decide)⟩) (Or.inl ⟨by decide, by decide, i' 13 (by decide)⟩) (Or.inr ⟨k, q1, rfl, Or.inl rfl, fun i hi => ?_⟩) (Or.inl ⟨by decide, by decide, i' 20 (by decide)⟩) (Or.inl ⟨by decide, by decide, k3 21⟩) (Or.inl ⟨by decide, by decide, v' 22 (by decide)⟩) ⟨by decide, by decide, k6, k5 10 (by decide), k5 11 (by decide)⟩), Nat.le_refl _, Nat.le_refl _⟩
    exact (g3 i (by omega)).trans (n2 i (by omega)).symm
  · refine ⟨-Int32.ofNat 1, A, S, mF M 0 (Int32.ofNat 0), ?_, ?_, hh.m0 _, Nat.le_refl _, Nat.le_refl _⟩
    · simp only [fX1_caravan, bX1_caravan_0, pq_lit]
      simp (disch := omega) only [↓gbd_h (ci), ci, e, pB_F, pq_lit, pq_add, pq_le, pq_lt, pq_eq, pq_en, pq_ne, pq_nle, pq_nlt, pq_len, pq_ltn, pB_z, pB_o, mzt_0, mzt_1, mzt_B, ↓gbd_s, gbd_s, ↓gnn_s, ↓grf_s, eq_self, ↓reduceIte, Nat.reduceEqDiff, Nat.reduceLeDiff, Nat.reduceLT, Nat.reduceMul, Nat.reduceAdd, not_true_eq_false, not_false_eq_true, Bool.false_eq_true]
    · simp only [fX5_caravan, bX5_caravan_0, pq_lit]
      simp (disch := omega) only [↓mpt, ↓mbd_h (mi), mi, mF_a, e, pB_F, eq_self, ↓reduceIte, Nat.reduceEqDiff, Nat.reduceLeDiff, Nat.reduceLT, Nat.reduceMul, Nat.reduceAdd, not_true_eq_false, not_false_eq_true, Bool.false_eq_true, pq_lit, pq_add, pq_le, pq_lt, pq_eq, pq_en, pq_ne, pq_nle, pq_nlt, pq_len, pq_ltn, pB_z, pB_o, mzt_0, mzt_1, mzt_B]
end OV
