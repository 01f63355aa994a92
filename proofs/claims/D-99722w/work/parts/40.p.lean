/-! what is done: cross, pact, break, close, open, lend; days; undo -/
theorem do_8 {A : FA} {u : Nat} {s : St} : aI (doA A u s) 8 = aI (snA A u) 8 := by
  unfold doA snA
  by_cases h : u = 8
  · rw [if_pos h, if_pos h]; rfl
  · rw [if_neg h, if_neg h]; rfl
theorem do_C {A : FA} {u : Nat} {s : St} : aC (doA A u s) = aC (snA A u) := by
  unfold doA snA
  by_cases h : u = 8
  · rw [if_pos h, if_pos h]; rfl
  · rw [if_neg h, if_neg h]; rfl
theorem do_T {A : FA} {u j : Nat} {s : St} (hj : 2 ≤ j) : aT (doA A u s) j = aT (snA A u) j := by
  unfold doA
  rw [aT_sTo _ _ (by omega)]
  have e1 : ∀ i, 2 ≤ i → aT (sS (tryA A) 1 s) i = aT A i := fun i hi => by
    rw [aT_sSo _ _ (by omega)]
    exact aT_sTo _ _ (by omega)
  have e0 : aT (sS (tryA A) 1 s) 0 = aT A 0 := by
    rw [aT_sSo _ _ (by omega)]
    exact aT_sTo _ _ (by omega)
  have ec : aC (sS (tryA A) 1 s) = aC A := rfl
  have key : ∀ (B B' : FA) (c v : Nat), aT B 0 = aT B' 0 → (∀ i, 2 ≤ i → aT B i = aT B' i) → aT (snT B c v) j = aT (snT B' c v) j := by
    intro B B' c v h0 h1
    unfold snT
    by_cases q : j = bi c v
    · subst q
      rw [aT_sT, aT_sT, h0, h1 _ (bi_ge _ _)]
    · rw [aT_sTo _ _ q, aT_sTo _ _ q, h1 _ hj]
  unfold snA
  rw [ec]
  by_cases h : u = 8
  · rw [if_pos h, if_pos h]
    exact key _ _ _ _ e0 e1
  · rw [if_neg h, if_neg h]
    exact key _ _ _ _ e0 e1
theorem do_Rst {A : FA} {u : Nat} {s : St} : aRst A (doA A u s) := by
  have h := sn_Rst (A := sS (tryA A) 1 s) (u := u)
  obtain ⟨h1, h2, h3, h4, h5, h6⟩ := h
  unfold doA
  refine ⟨h1, h2, h3, h4, ?_, ?_⟩
  · rw [aT_sTo _ _ (by omega), h5, aT_sSo _ _ (by omega)]
    exact aT_sTo _ _ (by omega)
  · rw [aT_sTo _ _ (by omega), h6, aT_sSo _ _ (by omega)]
    exact aT_sTo _ _ (by omega)
theorem Rel.did {E : gE} {b : Nat} {A : FA} {S : GS} {M : MS} {a u : Nat} {d : AD} (h : Rel E b A S M) (h3 : aR A 3 = some a) (h0 : (aT A 0).1 = some a) (hs : tS A 0 = M.2.2.1 6) (hW : World b S a (aR A 6) (M.2.2.1 6) (M.2.2.2 9) d) (hU : UndR A M a u) {s : St} (m6 : Sm (M.2.2.1 6) s) (i6 : IvA s) : Rel E b (doA A u s) S (mR (mR (mF (mF M 0 (Int32.ofNat 0)) 23 (Int32.ofNat (kpN u))) 21 (kpF (M.2.2.1 21) (M.2.2.1 6) u)) 6 s) := by
  refine h.kp (ks := [0, 23, 21, 6]) h3 h0 hs hW hU do_Rst ?_ ⟨?_, ?_⟩ (fun k => ?_) do_8 do_C (fun j hj => do_T hj) ?_ ?_ ?_ ?_ ?_ ?_ ?_ (by decide)
  · exact sn_V
  · exact sn_I (by omega)
  · exact sn_I (by omega)
  · exact sn_R
  · unfold doA; rw [aT_sT]; exact h0
  · unfold tS doA; rw [aT_sT, mA_e]
  · rfl
  · rw [mA_n _ _ (by omega), mA_e]
  · rw [mA_e]; exact m6
  · rw [mA_e]; exact i6
  · exact (((mSm.rf.mF _ (by decide)).mF _ (by decide)).mR _ (by decide)).mR _ (by decide)
theorem Rel.m0 {E : gE} {b : Nat} {A : FA} {S : GS} {M : MS} (h : Rel E b A S M) (v : Int32) : Rel E b A S (mF M 0 v) := h.mm (ks := [0]) (mSm.rf.mF _ (by decide)) (by decide)
section OA
variable {E : gE} {N b : Nat} {A : FA} {S : GS} {M : MS}
/-- an act that is made and done -/
theorem o_act (h : Rel E b A S M) (hN : 1000 ≤ N) {a u : Nat} {d : AD} (h3 : aR A 3 = some a) (h0 : (aT A 0).1 = some a) (hs : tS A 0 = M.2.2.1 6) (hW : World b S a (aR A 6) (M.2.2.1 6) (M.2.2.2 9) d) (hU : UndR A M a u) {S1 : GS} (x : Ext S S1) {q k x1 y n : Nat} (hq : ActAt b S1 q k x1 y n) (ho : ActOk (M.2.2.1 6) k x1 y n) : ∃ A' M', vInchBorders_does__LInchBorders_Act__I E N (put b A S1) (some b) (some q) = some (Int32.ofNat (actN (M.2.2.1 6) k x1 y n), put b A' S1) ∧ Rel E b A' S1 M' ∧ M' = (if actN (M.2.2.1 6) k x1 y n = 0 then mR (mR (mF (mF M 0 (Int32.ofNat 0)) 23 (Int32.ofNat (kpN u))) 21 (kpF (M.2.2.1 21) (M.2.2.1 6) u)) 6 (actS (M.2.2.1 6) k x1 y n) else mF M 0 (Int32.ofNat 0)) := by
  have hW1 := hW.ext x
  have hT : TA b S1 A 0 a d := ⟨by omega, h0, by rw [hs]; exact hW1.1, by rw [hs]; exact hW1.2.2.2.1⟩
  have hE : E.1 ≤ b := h.1.1
  have c := c_does hT hE hN (by rw [hs]; exact hW.2.2.2.2.1) hU.1 hU.2.1 hq (by rw [hs]; exact ho)
  rw [hs] at c
  by_cases e : actN (M.2.2.1 6) k x1 y n = 0
  · rw [if_pos e] at c
    refine ⟨doA A u (actS (M.2.2.1 6) k x1 y n), _, ?_, ?_, rfl⟩
    · rw [e]; exact c
    · rw [if_pos e]
      have sm : Sm (M.2.2.1 6) (actS (M.2.2.1 6) k x1 y n) := by
        have := sm_act hW.2.2.2.1 ho
        unfold actF at this
        rw [if_pos e] at this
        exact this
      exact (h.ext x).did h3 h0 hs hW1 hU sm (hW.2.2.2.act ho e)
  · rw [if_neg e] at c
    refine ⟨tryA A, _, c, ?_, rfl⟩
    rw [if_neg e]
    exact ((h.ext x).aa (aScr.t1 _)).m0 _
theorem o_cross (h : Rel E b A S M) (hN : 1000 ≤ N) (x y : Int32) : Op E b S 1 2 (fX1_cross E N (put b A S) b x y) (fX5_cross N M x y) := by
  obtain ⟨a, d, u, h3, h0, hs, hW, hU⟩ := h.2.2.1
  have hI := hW.2.2.2.1
  have h6 := hI.p6
  have h7 := hI.l7
  have hb := h.1.2.1
  have hE := h.1.1
  have hI0 : IvS ((mF M 0 (Int32.ofNat 0)).2.2.1 6) := hI
  by_cases e1 : inN x (nP (M.2.2.1 6)) = true
  · by_cases e2 : inN y (nL (M.2.2.1 6)) = true
    · obtain ⟨p, hp, rfl⟩ := (inN_i (by omega)).mp e1
      obtain ⟨l, hl, rfl⟩ := (inN_i (by omega)).mp e2
      have h1 : Cel b (gpush S (.inr (9, gdf 9)) (gdf 9).length) S.2.1 (.inr (9, [.int 0, .int 0])) := Cel.push hb _ _
      have hg : E.1 ≤ S.2.1 := by omega
      have x1 : Ext S (gup (gpush S (.inr (9, gdf 9)) (gdf 9).length) S.2.1 (.inr (9, [.int (Int32.ofNat p), .int (Int32.ofNat l)]))) := (Ext.push _ _ _).gup (Nat.le_refl _)
      obtain ⟨A', M', c1, c2, c3⟩ := o_act (N := N) h hN h3 h0 hs hW hU x1 (q := S.2.1) (k := 0) (x1 := p) (y := l) (n := 0) (h1.up _) ⟨by omega, fun _ => ⟨hp, hl⟩, by omega, by omega, by omega, by omega⟩
      refine ⟨Int32.ofNat (actN (M.2.2.1 6) 0 p l 0), A', _, M', ?_, ?_, c2, Nat.le_refl _, Nat.le_refl _⟩
      · simp only [bX1_cross_33, bX1_cross_29, bX1_cross_26, bX1_cross_20, bX1_cross_32, bX1_cross_13, bX1_cross_5, bX1_cross_0, fX1_cross, bX14_init_0, fX14_init, bX13_init_0, fX13_init, pq_lit]
        simp (disch := omega) only [↓gbd_h (k_isP h3 hW.1 _), k_isP h3 hW.1 _, ↓gbd_h (k_isL h3 hW.1 _), k_isL h3 hW.1 _, e1, e2, ↓gnw_n hb, ↓w9_73 h1 hg, ↓w9_74 (h1.up _) hg, gup_gup, pq_lit, pq_add, pq_le, pq_lt, pq_eq, pq_en, pq_ne, pq_nle, pq_nlt, pq_len, pq_ltn, pB_z, pB_o, mzt_0, mzt_1, mzt_B, ↓gbd_s, gbd_s, ↓gnn_s, ↓grf_s, eq_self, ↓reduceIte, Nat.reduceEqDiff, Nat.reduceLeDiff, Nat.reduceLT, Nat.reduceMul, Nat.reduceAdd, not_true_eq_false, not_false_eq_true, Bool.false_eq_true, ↓gbd_h (c1), c1]
      · have hw := whyS_n (M.2.2.1 6) (M.2.2.1 6 (108 + p)) l (M.2.2.1 6 (114 + p)) (spd (M.2.2.1 6) p l)
        have hw1 : whyC (M.2.2.1 6) p l = Int32.ofNat (actN (M.2.2.1 6) 0 p l 0) := hw.1
        have hw2 : actN (M.2.2.1 6) 0 p l 0 ≤ 5 := hw.2
        have m1 := m_whyC (N := N) (S := mF M 0 (Int32.ofNat 0)) hI0 (by omega) hp (show l < 7 by omega)
        have m2 := m_keep (N := N) (S := mF M 0 (Int32.ofNat 0)) hN hU.1 hU.2.2.1
        have m3 := m_cr (N := N) (S := mR (mF (mF M 0 (Int32.ofNat 0)) 23 (Int32.ofNat (kpN u))) 21 (kpF (M.2.2.1 21) (M.2.2.1 6) u)) hI0 hp hl
        simp only [bX5_cross_21, bX5_cross_0, fX5_cross, pq_lit]
        rw [c3]
        by_cases e : actN (M.2.2.1 6) 0 p l 0 = 0
        · rw [if_pos e]
          simp (disch := omega) only [↓mpt, ↓mbd_h (m_isPerson hI0 _), m_isPerson hI0 _, ↓mbd_h (m_isLand hI0 _), m_isLand hI0 _, mF_a, e1, e2, ↓mbd_h (m1), m1, ↓mbd_h (m2), m2, ↓mbd_h (m3), m3, hw1, e, mA_n, eq_self, ↓reduceIte, Nat.reduceEqDiff, Nat.reduceLeDiff, Nat.reduceLT, Nat.reduceMul, Nat.reduceAdd, not_true_eq_false, not_false_eq_true, Bool.false_eq_true, pq_lit, pq_add, pq_le, pq_lt, pq_eq, pq_en, pq_ne, pq_nle, pq_nlt, pq_len, pq_ltn, pB_z, pB_o, mzt_0, mzt_1, mzt_B, ↓mbd_s, mbd_s, Nat.le_refl, actS]
        · rw [if_neg e]
          have e' : ¬ actN (M.2.2.1 6) 0 p l 0 ≤ 0 := by omega
          simp (disch := omega) only [↓mpt, ↓mbd_h (m_isPerson hI0 _), m_isPerson hI0 _, ↓mbd_h (m_isLand hI0 _), m_isLand hI0 _, mF_a, e1, e2, ↓mbd_h (m1), m1, hw1, e', eq_self, ↓reduceIte, Nat.reduceEqDiff, Nat.reduceLeDiff, Nat.reduceLT, Nat.reduceMul, Nat.reduceAdd, not_true_eq_false, not_false_eq_true, Bool.false_eq_true, pq_lit, pq_add, pq_le, pq_lt, pq_eq, pq_en, pq_ne, pq_nle, pq_nlt, pq_len, pq_ltn, pB_z, pB_o, mzt_0, mzt_1, mzt_B, ↓mbd_s, mbd_s]
    · refine ⟨-Int32.ofNat 1, A, S, mF M 0 (Int32.ofNat 0), ?_, ?_, h.m0 _, by omega, by omega⟩
      · simp only [bX1_cross_33, bX1_cross_29, bX1_cross_26, bX1_cross_20, bX1_cross_32, bX1_cross_13, bX1_cross_5, bX1_cross_0, fX1_cross, pq_lit]
        simp (disch := omega) only [↓gbd_h (k_isP h3 hW.1 _), k_isP h3 hW.1 _, ↓gbd_h (k_isL h3 hW.1 _), k_isL h3 hW.1 _, e1, e2, pq_lit, pq_add, pq_le, pq_lt, pq_eq, pq_en, pq_ne, pq_nle, pq_nlt, pq_len, pq_ltn, pB_z, pB_o, mzt_0, mzt_1, mzt_B, ↓gbd_s, gbd_s, ↓gnn_s, ↓grf_s, eq_self, ↓reduceIte, Nat.reduceEqDiff, Nat.reduceLeDiff, Nat.reduceLT, Nat.reduceMul, Nat.reduceAdd, not_true_eq_false, not_false_eq_true, Bool.false_eq_true]
      · simp only [bX5_cross_21, bX5_cross_0, fX5_cross, pq_lit]
        simp (disch := omega) only [↓mpt, ↓mbd_h (m_isPerson hI0 _), m_isPerson hI0 _, ↓mbd_h (m_isLand hI0 _), m_isLand hI0 _, mF_a, e1, e2, eq_self, ↓reduceIte, Nat.reduceEqDiff, Nat.reduceLeDiff, Nat.reduceLT, Nat.reduceMul, Nat.reduceAdd, not_true_eq_false, not_false_eq_true, Bool.false_eq_true, pq_lit, pq_add, pq_le, pq_lt, pq_eq, pq_en, pq_ne, pq_nle, pq_nlt, pq_len, pq_ltn, pB_z, pB_o, mzt_0, mzt_1, mzt_B, ↓mbd_s, mbd_s]
  · refine ⟨-Int32.ofNat 1, A, S, mF M 0 (Int32.ofNat 0), ?_, ?_, h.m0 _, by omega, by omega⟩
    · simp only [bX1_cross_33, bX1_cross_29, bX1_cross_26, bX1_cross_20, bX1_cross_32, bX1_cross_13, bX1_cross_5, bX1_cross_0, fX1_cross, pq_lit]
      simp (disch := omega) only [↓gbd_h (k_isP h3 hW.1 _), k_isP h3 hW.1 _, e1, pq_lit, pq_add, pq_le, pq_lt, pq_eq, pq_en, pq_ne, pq_nle, pq_nlt, pq_len, pq_ltn, pB_z, pB_o, mzt_0, mzt_1, mzt_B, ↓gbd_s, gbd_s, ↓gnn_s, ↓grf_s, eq_self, ↓reduceIte, Nat.reduceEqDiff, Nat.reduceLeDiff, Nat.reduceLT, Nat.reduceMul, Nat.reduceAdd, not_true_eq_false, not_false_eq_true, Bool.false_eq_true]
    · simp only [bX5_cross_21, bX5_cross_0, fX5_cross, pq_lit]
      simp (disch := omega) only [↓mpt, ↓mbd_h (m_isPerson hI0 _), m_isPerson hI0 _, mF_a, e1, eq_self, ↓reduceIte, Nat.reduceEqDiff, Nat.reduceLeDiff, Nat.reduceLT, Nat.reduceMul, Nat.reduceAdd, not_true_eq_false, not_false_eq_true, Bool.false_eq_true, pq_lit, pq_add, pq_le, pq_lt, pq_eq, pq_en, pq_ne, pq_nle, pq_nlt, pq_len, pq_ltn, pB_z, pB_o, mzt_0, mzt_1, mzt_B, ↓mbd_s, mbd_s]
end OA
