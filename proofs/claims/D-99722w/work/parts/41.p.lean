/-! pact, break, close, open, lend -/
section OB
variable {E : gE} {N b : Nat} {A : FA} {S : GS} {M : MS}
theorem m_wP {S : MS} {x y n : Nat} (hx : x < 7) (hy : y < 7) : fX5_whyPact N S (Int32.ofNat x) (Int32.ofNat y) = some (Int32.ofNat (actN (S.2.2.1 6) 1 x y n), S) := by
  unfold actN
  by_cases e : x = y
  · subst e
    simp (disch := omega) only [bX5_whyPact_30, bX5_whyPact_0, fX5_whyPact, pq_lit, pq_add, pq_le, pq_lt, pq_eq, pq_en, pq_ne, pq_nle, pq_nlt, pq_len, pq_ltn, pB_z, pB_o, mzt_0, mzt_1, mzt_B, ↓mrd_p, ↓mrd_l, ↓mrd_n, mrd_n, ↓mwr_p, ↓mwr_l, ↓mwr_n, mwr_n, ↓mbd_s, mbd_s, ↓mpt, mF_a, mF_w, mF_L, mF_e, mF_ne, mA_e, mA_n, mA_w, mA_i, mA_L, ma_s, eq_self, ↓reduceIte, Nat.reduceEqDiff, Nat.reduceLeDiff, Nat.reduceLT, Nat.reduceMul, Nat.reduceAdd, not_true_eq_false, not_false_eq_true, Bool.false_eq_true]
  · cases e2 : bt (S.2.2.1 6 (101 + x)) (Int32.ofNat y) with
    | true => simp (disch := omega) only [bX5_whyPact_30, bX5_whyPact_0, fX5_whyPact, ↓mbd_h (m_bt _ _), m_bt _ _, e, e2, pq_lit, pq_add, pq_le, pq_lt, pq_eq, pq_en, pq_ne, pq_nle, pq_nlt, pq_len, pq_ltn, pB_z, pB_o, mzt_0, mzt_1, mzt_B, ↓mrd_p, ↓mrd_l, ↓mrd_n, mrd_n, ↓mwr_p, ↓mwr_l, ↓mwr_n, mwr_n, ↓mbd_s, mbd_s, ↓mpt, mF_a, mF_w, mF_L, mF_e, mF_ne, mA_e, mA_n, mA_w, mA_i, mA_L, ma_s, eq_self, ↓reduceIte, Nat.reduceEqDiff, Nat.reduceLeDiff, Nat.reduceLT, Nat.reduceMul, Nat.reduceAdd, not_true_eq_false, not_false_eq_true, Bool.false_eq_true]
    | false => simp (disch := omega) only [bX5_whyPact_30, bX5_whyPact_0, fX5_whyPact, ↓mbd_h (m_bt _ _), m_bt _ _, e, e2, pq_lit, pq_add, pq_le, pq_lt, pq_eq, pq_en, pq_ne, pq_nle, pq_nlt, pq_len, pq_ltn, pB_z, pB_o, mzt_0, mzt_1, mzt_B, ↓mrd_p, ↓mrd_l, ↓mrd_n, mrd_n, ↓mwr_p, ↓mwr_l, ↓mwr_n, mwr_n, ↓mbd_s, mbd_s, ↓mpt, mF_a, mF_w, mF_L, mF_e, mF_ne, mA_e, mA_n, mA_w, mA_i, mA_L, ma_s, eq_self, ↓reduceIte, Nat.reduceEqDiff, Nat.reduceLeDiff, Nat.reduceLT, Nat.reduceMul, Nat.reduceAdd, not_true_eq_false, not_false_eq_true, Bool.false_eq_true]
theorem m_wT {S : MS} (hI : IvS (S.2.2.1 6)) {x y n : Nat} (hx : x < 12) : fX5_whyTurn N S (Int32.ofNat x) (Int32.ofNat 1) = some (Int32.ofNat (actN (S.2.2.1 6) 3 x y n), S) ∧ fX5_whyTurn N S (Int32.ofNat x) (Int32.ofNat 0) = some (Int32.ofNat (actN (S.2.2.1 6) 4 x y n), S) := by
  have h12 := hI.r12
  unfold actN
  by_cases e : x < nR (S.2.2.1 6)
  · cases e2 : bt (S.2.2.1 6 93) (Int32.ofNat x) with
    | true => constructor <;> simp (disch := omega) only [bX5_whyTurn_28, bX5_whyTurn_0, fX5_whyTurn, ↓mbd_h (m_open _), m_open _, hI.c1, e, e2, pq_lit, pq_add, pq_le, pq_lt, pq_eq, pq_en, pq_ne, pq_nle, pq_nlt, pq_len, pq_ltn, pB_z, pB_o, mzt_0, mzt_1, mzt_B, ↓mrd_p, ↓mrd_l, ↓mrd_n, mrd_n, ↓mwr_p, ↓mwr_l, ↓mwr_n, mwr_n, ↓mbd_s, mbd_s, ↓mpt, mF_a, mF_w, mF_L, mF_e, mF_ne, mA_e, mA_n, mA_w, mA_i, mA_L, ma_s, eq_self, ↓reduceIte, Nat.reduceEqDiff, Nat.reduceLeDiff, Nat.reduceLT, Nat.reduceMul, Nat.reduceAdd, not_true_eq_false, not_false_eq_true, Bool.false_eq_true]
    | false => constructor <;> simp (disch := omega) only [bX5_whyTurn_28, bX5_whyTurn_0, fX5_whyTurn, ↓mbd_h (m_open _), m_open _, hI.c1, e, e2, pq_lit, pq_add, pq_le, pq_lt, pq_eq, pq_en, pq_ne, pq_nle, pq_nlt, pq_len, pq_ltn, pB_z, pB_o, mzt_0, mzt_1, mzt_B, ↓mrd_p, ↓mrd_l, ↓mrd_n, mrd_n, ↓mwr_p, ↓mwr_l, ↓mwr_n, mwr_n, ↓mbd_s, mbd_s, ↓mpt, mF_a, mF_w, mF_L, mF_e, mF_ne, mA_e, mA_n, mA_w, mA_i, mA_L, ma_s, eq_self, ↓reduceIte, Nat.reduceEqDiff, Nat.reduceLeDiff, Nat.reduceLT, Nat.reduceMul, Nat.reduceAdd, not_true_eq_false, not_false_eq_true, Bool.false_eq_true]
  · constructor <;> simp (disch := omega) only [bX5_whyTurn_28, bX5_whyTurn_0, fX5_whyTurn, ↓mbd_h (m_open _), m_open _, hI.c1, e, pq_lit, pq_add, pq_le, pq_lt, pq_eq, pq_en, pq_ne, pq_nle, pq_nlt, pq_len, pq_ltn, pB_z, pB_o, mzt_0, mzt_1, mzt_B, ↓mrd_p, ↓mrd_l, ↓mrd_n, mrd_n, ↓mwr_p, ↓mwr_l, ↓mwr_n, mwr_n, ↓mbd_s, mbd_s, ↓mpt, mF_a, mF_w, mF_L, mF_e, mF_ne, mA_e, mA_n, mA_w, mA_i, mA_L, ma_s, eq_self, ↓reduceIte, Nat.reduceEqDiff, Nat.reduceLeDiff, Nat.reduceLT, Nat.reduceMul, Nat.reduceAdd, not_true_eq_false, not_false_eq_true, Bool.false_eq_true]
theorem m_wL {S : MS} {x y n : Nat} (hx : x < 7) (hy : y < 7) : fX5_whyLend N S (Int32.ofNat x) (Int32.ofNat y) (Int32.ofNat n) = some (Int32.ofNat (actN (S.2.2.1 6) 5 x y n), S) := by
  unfold actN
  by_cases e : x = y
  · subst e
    simp (disch := omega) only [bX5_whyLend_27, bX5_whyLend_0, fX5_whyLend, pq_lit, pq_add, pq_le, pq_lt, pq_eq, pq_en, pq_ne, pq_nle, pq_nlt, pq_len, pq_ltn, pB_z, pB_o, mzt_0, mzt_1, mzt_B, ↓mrd_p, ↓mrd_l, ↓mrd_n, mrd_n, ↓mwr_p, ↓mwr_l, ↓mwr_n, mwr_n, ↓mbd_s, mbd_s, ↓mpt, mF_a, mF_w, mF_L, mF_e, mF_ne, mA_e, mA_n, mA_w, mA_i, mA_L, ma_s, eq_self, ↓reduceIte, Nat.reduceEqDiff, Nat.reduceLeDiff, Nat.reduceLT, Nat.reduceMul, Nat.reduceAdd, not_true_eq_false, not_false_eq_true, Bool.false_eq_true]
  · by_cases e2 : Int32.ofNat n ≤ S.2.2.1 6 (94 + x)
    · simp (disch := omega) only [bX5_whyLend_27, bX5_whyLend_0, fX5_whyLend, pq_lit, pq_add, pq_le, pq_lt, pq_eq, pq_en, pq_ne, pq_nle, pq_nlt, pq_len, pq_ltn, pB_z, pB_o, mzt_0, mzt_1, mzt_B, ↓mrd_p, ↓mrd_l, ↓mrd_n, mrd_n, ↓mwr_p, ↓mwr_l, ↓mwr_n, mwr_n, ↓mbd_s, mbd_s, ↓mpt, mF_a, mF_w, mF_L, mF_e, mF_ne, mA_e, mA_n, mA_w, mA_i, mA_L, ma_s, eq_self, ↓reduceIte, Nat.reduceEqDiff, Nat.reduceLeDiff, Nat.reduceLT, Nat.reduceMul, Nat.reduceAdd, not_true_eq_false, not_false_eq_true, Bool.false_eq_true, e, e2, ← Int32.not_le]
    · simp (disch := omega) only [bX5_whyLend_27, bX5_whyLend_0, fX5_whyLend, pq_lit, pq_add, pq_le, pq_lt, pq_eq, pq_en, pq_ne, pq_nle, pq_nlt, pq_len, pq_ltn, pB_z, pB_o, mzt_0, mzt_1, mzt_B, ↓mrd_p, ↓mrd_l, ↓mrd_n, mrd_n, ↓mwr_p, ↓mwr_l, ↓mwr_n, mwr_n, ↓mbd_s, mbd_s, ↓mpt, mF_a, mF_w, mF_L, mF_e, mF_ne, mA_e, mA_n, mA_w, mA_i, mA_L, ma_s, eq_self, ↓reduceIte, Nat.reduceEqDiff, Nat.reduceLeDiff, Nat.reduceLT, Nat.reduceMul, Nat.reduceAdd, not_true_eq_false, not_false_eq_true, Bool.false_eq_true, e, e2, ← Int32.not_le]
theorem o_pact (h : Rel E b A S M) (hN : 1000 ≤ N) (x y : Int32) : Op E b S 1 3 (fX1_pact E N (put b A S) b x y) (fX5_pact N M x y) := by
  obtain ⟨a, d, u, h3, h0, hs, hW, hU⟩ := h.2.2.1
  have hI := hW.2.2.2.1
  have h6 := hI.p6
  have h7 := hI.l7
  have h12 := hI.r12
  have hb := h.1.2.1
  have hE := h.1.1
  have hg : E.1 ≤ S.2.1 := by omega
  have hI0 : IvS ((mF M 0 (Int32.ofNat 0)).2.2.1 6) := hI
  have m2 := m_keep (N := N) (S := mF M 0 (Int32.ofNat 0)) hN hU.1 hU.2.2.1
  by_cases e1 : inN x (nL (M.2.2.1 6)) = true
  · by_cases e2 : inN y (nL (M.2.2.1 6)) = true
    · obtain ⟨p, hp, rfl⟩ := (inN_i (by omega)).mp e1
      obtain ⟨l, hl, rfl⟩ := (inN_i (by omega)).mp e2
      have h1 : Cel b (gpush S (.inr (12, gdf 12)) (gdf 12).length) S.2.1 (.inr (12, [.int 0, .int 0, .int 0])) := Cel.push hb _ _
      have x1 : Ext S (gup (gpush S (.inr (12, gdf 12)) (gdf 12).length) S.2.1 (.inr (12, [.int (Int32.ofNat p), .int (Int32.ofNat l), .int (Int32.ofNat 1)]))) := (Ext.push _ _ _).gup (Nat.le_refl _)
      obtain ⟨A', M', c1, c2, c3⟩ := o_act (N := N) h hN h3 h0 hs hW hU x1 (q := S.2.1) (k := 1) (x1 := p) (y := l) (n := 0) (h1.up _) ⟨by omega, by omega, fun _ => ⟨hp, hl⟩, by omega, by omega, by omega⟩
      refine ⟨Int32.ofNat (actN (M.2.2.1 6) 1 p l 0), A', _, M', ?_, ?_, c2, Nat.le_refl _, Nat.le_refl _⟩
      · simp only [vInchBorders_treats__IIZ_I, bX1_pact_7, bX1_pact_0, fX1_pact, bX1_treats_34, bX1_treats_30, bX1_treats_27, bX1_treats_20, bX1_treats_33, bX1_treats_13, bX1_treats_5, bX1_treats_0, fX1_treats, bX18_init_0, fX18_init, bX16_init_0, fX16_init, bX13_init_0, fX13_init, pq_lit]
        simp (disch := omega) only [↓f_cls, ↓gbd_h (k_isL h3 hW.1 _), k_isL h3 hW.1 _, e1, e2, ↓gnw_n hb, ↓w12_77 h1 hg, ↓w12_78 (h1.up _) hg, ↓w12_80 (h1.up _) hg, gup_gup, ↓mzt_1, ↓mzt_0, pq_lit, pq_add, pq_le, pq_lt, pq_eq, pq_en, pq_ne, pq_nle, pq_nlt, pq_len, pq_ltn, pB_z, pB_o, mzt_0, mzt_1, mzt_B, ↓gbd_s, gbd_s, ↓gnn_s, ↓grf_s, eq_self, ↓reduceIte, Nat.reduceEqDiff, Nat.reduceLeDiff, Nat.reduceLT, Nat.reduceMul, Nat.reduceAdd, not_true_eq_false, not_false_eq_true, Bool.false_eq_true, ↓gbd_h (c1), c1]
      · have m1 := m_wP (N := N) (S := mF M 0 (Int32.ofNat 0)) (n := 0) (show p < 7 by omega) (show l < 7 by omega)
        have le := actN_le (M.2.2.1 6) (k := 1) (x := p) (y := l) (n := 0) (by omega)
        simp only [bX5_pact_21, bX5_pact_0, fX5_pact, pq_lit]
        rw [c3]
        by_cases e : actN (M.2.2.1 6) 1 p l 0 = 0
        · have e3 : bt (M.2.2.1 6 (101 + p)) (Int32.ofNat l) = false := by
            unfold actN at e
            simp only [] at e
            split at e
            · omega
            · split at e
              · omega
              · rename_i q
                simpa using q
          rw [if_pos e]
          simp (disch := omega) only [↓mpt, ↓mbd_h (m_isLand hI0 _), m_isLand hI0 _, mF_a, e1, e2, ↓mbd_h (m1), m1, ↓mbd_h (m2), m2, e, pq_lit, pq_add, pq_le, pq_lt, pq_eq, pq_en, pq_ne, pq_nle, pq_nlt, pq_len, pq_ltn, pB_z, pB_o, mzt_0, mzt_1, mzt_B, ↓mrd_p, ↓mrd_l, ↓mrd_n, mrd_n, ↓mwr_p, ↓mwr_l, ↓mwr_n, mwr_n, ↓mbd_s, mbd_s, ↓mpt, mF_a, mF_w, mF_L, mF_e, mF_ne, mA_e, mA_n, mA_w, mA_i, mA_L, ma_s, eq_self, ↓reduceIte, Nat.reduceEqDiff, Nat.reduceLeDiff, Nat.reduceLT, Nat.reduceMul, Nat.reduceAdd, not_true_eq_false, not_false_eq_true, Bool.false_eq_true, Nat.le_refl, actS, p1_e, or_xor (show l < 32 by omega) e3]
        · rw [if_neg e]
          have e' : ¬ actN (M.2.2.1 6) 1 p l 0 ≤ 0 := by omega
          simp (disch := omega) only [↓mpt, ↓mbd_h (m_isLand hI0 _), m_isLand hI0 _, mF_a, e1, e2, ↓mbd_h (m1), m1, e', eq_self, ↓reduceIte, Nat.reduceEqDiff, Nat.reduceLeDiff, Nat.reduceLT, Nat.reduceMul, Nat.reduceAdd, not_true_eq_false, not_false_eq_true, Bool.false_eq_true, pq_lit, pq_add, pq_le, pq_lt, pq_eq, pq_en, pq_ne, pq_nle, pq_nlt, pq_len, pq_ltn, pB_z, pB_o, mzt_0, mzt_1, mzt_B, ↓mbd_s, mbd_s]
    · refine ⟨-Int32.ofNat 1, A, S, mF M 0 (Int32.ofNat 0), ?_, ?_, h.m0 _, by omega, by omega⟩
      · simp only [vInchBorders_treats__IIZ_I, bX1_pact_7, bX1_pact_0, fX1_pact, bX1_treats_34, bX1_treats_30, bX1_treats_27, bX1_treats_20, bX1_treats_33, bX1_treats_13, bX1_treats_5, bX1_treats_0, fX1_treats, pq_lit]
        simp (disch := omega) only [↓f_cls, ↓gbd_h (k_isL h3 hW.1 _), k_isL h3 hW.1 _, e1, e2, pq_lit, pq_add, pq_le, pq_lt, pq_eq, pq_en, pq_ne, pq_nle, pq_nlt, pq_len, pq_ltn, pB_z, pB_o, mzt_0, mzt_1, mzt_B, ↓gbd_s, gbd_s, ↓gnn_s, ↓grf_s, eq_self, ↓reduceIte, Nat.reduceEqDiff, Nat.reduceLeDiff, Nat.reduceLT, Nat.reduceMul, Nat.reduceAdd, not_true_eq_false, not_false_eq_true, Bool.false_eq_true]
      · simp only [bX5_pact_21, bX5_pact_0, fX5_pact, pq_lit]
        simp (disch := omega) only [↓mpt, ↓mbd_h (m_isLand hI0 _), m_isLand hI0 _, mF_a, e1, e2, eq_self, ↓reduceIte, Nat.reduceEqDiff, Nat.reduceLeDiff, Nat.reduceLT, Nat.reduceMul, Nat.reduceAdd, not_true_eq_false, not_false_eq_true, Bool.false_eq_true, pq_lit, pq_add, pq_le, pq_lt, pq_eq, pq_en, pq_ne, pq_nle, pq_nlt, pq_len, pq_ltn, pB_z, pB_o, mzt_0, mzt_1, mzt_B, ↓mbd_s, mbd_s]
  · refine ⟨-Int32.ofNat 1, A, S, mF M 0 (Int32.ofNat 0), ?_, ?_, h.m0 _, by omega, by omega⟩
    · simp only [vInchBorders_treats__IIZ_I, bX1_pact_7, bX1_pact_0, fX1_pact, bX1_treats_34, bX1_treats_30, bX1_treats_27, bX1_treats_20, bX1_treats_33, bX1_treats_13, bX1_treats_5, bX1_treats_0, fX1_treats, pq_lit]
      simp (disch := omega) only [↓f_cls, ↓gbd_h (k_isL h3 hW.1 _), k_isL h3 hW.1 _, e1, pq_lit, pq_add, pq_le, pq_lt, pq_eq, pq_en, pq_ne, pq_nle, pq_nlt, pq_len, pq_ltn, pB_z, pB_o, mzt_0, mzt_1, mzt_B, ↓gbd_s, gbd_s, ↓gnn_s, ↓grf_s, eq_self, ↓reduceIte, Nat.reduceEqDiff, Nat.reduceLeDiff, Nat.reduceLT, Nat.reduceMul, Nat.reduceAdd, not_true_eq_false, not_false_eq_true, Bool.false_eq_true]
    · simp only [bX5_pact_21, bX5_pact_0, fX5_pact, pq_lit]
      simp (disch := omega) only [↓mpt, ↓mbd_h (m_isLand hI0 _), m_isLand hI0 _, mF_a, e1, eq_self, ↓reduceIte, Nat.reduceEqDiff, Nat.reduceLeDiff, Nat.reduceLT, Nat.reduceMul, Nat.reduceAdd, not_true_eq_false, not_false_eq_true, Bool.false_eq_true, pq_lit, pq_add, pq_le, pq_lt, pq_eq, pq_en, pq_ne, pq_nle, pq_nlt, pq_len, pq_ltn, pB_z, pB_o, mzt_0, mzt_1, mzt_B, ↓mbd_s, mbd_s]
theorem o_breaks (h : Rel E b A S M) (hN : 1000 ≤ N) (x y : Int32) : Op E b S 1 3 (fX1_breaks E N (put b A S) b x y) (fX5_breaks N M x y) := by
  obtain ⟨a, d, u, h3, h0, hs, hW, hU⟩ := h.2.2.1
  have hI := hW.2.2.2.1
  have h6 := hI.p6
  have h7 := hI.l7
  have h12 := hI.r12
  have hb := h.1.2.1
  have hE := h.1.1
  have hg : E.1 ≤ S.2.1 := by omega
  have hI0 : IvS ((mF M 0 (Int32.ofNat 0)).2.2.1 6) := hI
  have m2 := m_keep (N := N) (S := mF M 0 (Int32.ofNat 0)) hN hU.1 hU.2.2.1
  by_cases e1 : inN x (nL (M.2.2.1 6)) = true
  · by_cases e2 : inN y (nL (M.2.2.1 6)) = true
    · obtain ⟨p, hp, rfl⟩ := (inN_i (by omega)).mp e1
      obtain ⟨l, hl, rfl⟩ := (inN_i (by omega)).mp e2
      have h1 : Cel b (gpush S (.inr (12, gdf 12)) (gdf 12).length) S.2.1 (.inr (12, [.int 0, .int 0, .int 0])) := Cel.push hb _ _
      have x1 : Ext S (gup (gpush S (.inr (12, gdf 12)) (gdf 12).length) S.2.1 (.inr (12, [.int (Int32.ofNat p), .int (Int32.ofNat l), .int (Int32.ofNat 0)]))) := (Ext.push _ _ _).gup (Nat.le_refl _)
      obtain ⟨A', M', c1, c2, c3⟩ := o_act (N := N) h hN h3 h0 hs hW hU x1 (q := S.2.1) (k := 2) (x1 := p) (y := l) (n := 0) (h1.up _) ⟨by omega, by omega, fun _ => ⟨hp, hl⟩, by omega, by omega, by omega⟩
      refine ⟨Int32.ofNat (actN (M.2.2.1 6) 2 p l 0), A', _, M', ?_, ?_, c2, Nat.le_refl _, Nat.le_refl _⟩
      · simp only [vInchBorders_treats__IIZ_I, bX1_breaks_7, bX1_breaks_0, fX1_breaks, bX1_treats_34, bX1_treats_30, bX1_treats_27, bX1_treats_20, bX1_treats_33, bX1_treats_13, bX1_treats_5, bX1_treats_0, fX1_treats, bX18_init_0, fX18_init, bX16_init_0, fX16_init, bX13_init_0, fX13_init, pq_lit]
        simp (disch := omega) only [↓f_cls, ↓gbd_h (k_isL h3 hW.1 _), k_isL h3 hW.1 _, e1, e2, ↓gnw_n hb, ↓w12_77 h1 hg, ↓w12_78 (h1.up _) hg, ↓w12_80 (h1.up _) hg, gup_gup, ↓mzt_1, ↓mzt_0, pq_lit, pq_add, pq_le, pq_lt, pq_eq, pq_en, pq_ne, pq_nle, pq_nlt, pq_len, pq_ltn, pB_z, pB_o, mzt_0, mzt_1, mzt_B, ↓gbd_s, gbd_s, ↓gnn_s, ↓grf_s, eq_self, ↓reduceIte, Nat.reduceEqDiff, Nat.reduceLeDiff, Nat.reduceLT, Nat.reduceMul, Nat.reduceAdd, not_true_eq_false, not_false_eq_true, Bool.false_eq_true, ↓gbd_h (c1), c1]
      · simp only [bX5_breaks_21, bX5_breaks_0, fX5_breaks, pq_lit]
        rw [c3]
        unfold actN actS
        cases e3 : bt (M.2.2.1 6 (101 + p)) (Int32.ofNat l) with
        | true => simp (disch := omega) only [↓mpt, ↓mbd_h (m_isLand hI0 _), m_isLand hI0 _, ↓mbd_h (m_bt _ _), m_bt _ _, mF_a, e1, e2, e3, ↓mbd_h (m2), m2, pq_lit, pq_add, pq_le, pq_lt, pq_eq, pq_en, pq_ne, pq_nle, pq_nlt, pq_len, pq_ltn, pB_z, pB_o, mzt_0, mzt_1, mzt_B, ↓mrd_p, ↓mrd_l, ↓mrd_n, mrd_n, ↓mwr_p, ↓mwr_l, ↓mwr_n, mwr_n, ↓mbd_s, mbd_s, ↓mpt, mF_a, mF_w, mF_L, mF_e, mF_ne, mA_e, mA_n, mA_w, mA_i, mA_L, ma_s, eq_self, ↓reduceIte, Nat.reduceEqDiff, Nat.reduceLeDiff, Nat.reduceLT, Nat.reduceMul, Nat.reduceAdd, not_true_eq_false, not_false_eq_true, Bool.false_eq_true, p1_e]
        | false => simp (disch := omega) only [↓mpt, ↓mbd_h (m_isLand hI0 _), m_isLand hI0 _, ↓mbd_h (m_bt _ _), m_bt _ _, mF_a, e1, e2, e3, pq_lit, pq_add, pq_le, pq_lt, pq_eq, pq_en, pq_ne, pq_nle, pq_nlt, pq_len, pq_ltn, pB_z, pB_o, mzt_0, mzt_1, mzt_B, ↓mrd_p, ↓mrd_l, ↓mrd_n, mrd_n, ↓mwr_p, ↓mwr_l, ↓mwr_n, mwr_n, ↓mbd_s, mbd_s, ↓mpt, mF_a, mF_w, mF_L, mF_e, mF_ne, mA_e, mA_n, mA_w, mA_i, mA_L, ma_s, eq_self, ↓reduceIte, Nat.reduceEqDiff, Nat.reduceLeDiff, Nat.reduceLT, Nat.reduceMul, Nat.reduceAdd, not_true_eq_false, not_false_eq_true, Bool.false_eq_true]
    · refine ⟨-Int32.ofNat 1, A, S, mF M 0 (Int32.ofNat 0), ?_, ?_, h.m0 _, by omega, by omega⟩
      · simp only [vInchBorders_treats__IIZ_I, bX1_breaks_7, bX1_breaks_0, fX1_breaks, bX1_treats_34, bX1_treats_30, bX1_treats_27, bX1_treats_20, bX1_treats_33, bX1_treats_13, bX1_treats_5, bX1_treats_0, fX1_treats, pq_lit]
        simp (disch := omega) only [↓f_cls, ↓gbd_h (k_isL h3 hW.1 _), k_isL h3 hW.1 _, e1, e2, pq_lit, pq_add, pq_le, pq_lt, pq_eq, pq_en, pq_ne, pq_nle, pq_nlt, pq_len, pq_ltn, pB_z, pB_o, mzt_0, mzt_1, mzt_B, ↓gbd_s, gbd_s, ↓gnn_s, ↓grf_s, eq_self, ↓reduceIte, Nat.reduceEqDiff, Nat.reduceLeDiff, Nat.reduceLT, Nat.reduceMul, Nat.reduceAdd, not_true_eq_false, not_false_eq_true, Bool.false_eq_true]
      · simp only [bX5_breaks_21, bX5_breaks_0, fX5_breaks, pq_lit]
        simp (disch := omega) only [↓mpt, ↓mbd_h (m_isLand hI0 _), m_isLand hI0 _, mF_a, e1, e2, eq_self, ↓reduceIte, Nat.reduceEqDiff, Nat.reduceLeDiff, Nat.reduceLT, Nat.reduceMul, Nat.reduceAdd, not_true_eq_false, not_false_eq_true, Bool.false_eq_true, pq_lit, pq_add, pq_le, pq_lt, pq_eq, pq_en, pq_ne, pq_nle, pq_nlt, pq_len, pq_ltn, pB_z, pB_o, mzt_0, mzt_1, mzt_B, ↓mbd_s, mbd_s]
  · refine ⟨-Int32.ofNat 1, A, S, mF M 0 (Int32.ofNat 0), ?_, ?_, h.m0 _, by omega, by omega⟩
    · simp only [vInchBorders_treats__IIZ_I, bX1_breaks_7, bX1_breaks_0, fX1_breaks, bX1_treats_34, bX1_treats_30, bX1_treats_27, bX1_treats_20, bX1_treats_33, bX1_treats_13, bX1_treats_5, bX1_treats_0, fX1_treats, pq_lit]
      simp (disch := omega) only [↓f_cls, ↓gbd_h (k_isL h3 hW.1 _), k_isL h3 hW.1 _, e1, pq_lit, pq_add, pq_le, pq_lt, pq_eq, pq_en, pq_ne, pq_nle, pq_nlt, pq_len, pq_ltn, pB_z, pB_o, mzt_0, mzt_1, mzt_B, ↓gbd_s, gbd_s, ↓gnn_s, ↓grf_s, eq_self, ↓reduceIte, Nat.reduceEqDiff, Nat.reduceLeDiff, Nat.reduceLT, Nat.reduceMul, Nat.reduceAdd, not_true_eq_false, not_false_eq_true, Bool.false_eq_true]
    · simp only [bX5_breaks_21, bX5_breaks_0, fX5_breaks, pq_lit]
      simp (disch := omega) only [↓mpt, ↓mbd_h (m_isLand hI0 _), m_isLand hI0 _, mF_a, e1, eq_self, ↓reduceIte, Nat.reduceEqDiff, Nat.reduceLeDiff, Nat.reduceLT, Nat.reduceMul, Nat.reduceAdd, not_true_eq_false, not_false_eq_true, Bool.false_eq_true, pq_lit, pq_add, pq_le, pq_lt, pq_eq, pq_en, pq_ne, pq_nle, pq_nlt, pq_len, pq_ltn, pB_z, pB_o, mzt_0, mzt_1, mzt_B, ↓mbd_s, mbd_s]
theorem o_close (h : Rel E b A S M) (hN : 1000 ≤ N) (x : Int32) : Op E b S 1 2 (fX1_close E N (put b A S) b x) (fX5_close N M x) := by
  obtain ⟨a, d, u, h3, h0, hs, hW, hU⟩ := h.2.2.1
  have hI := hW.2.2.2.1
  have h6 := hI.p6
  have h7 := hI.l7
  have h12 := hI.r12
  have hb := h.1.2.1
  have hE := h.1.1
  have hg : E.1 ≤ S.2.1 := by omega
  have hI0 : IvS ((mF M 0 (Int32.ofNat 0)).2.2.1 6) := hI
  have m2 := m_keep (N := N) (S := mF M 0 (Int32.ofNat 0)) hN hU.1 hU.2.2.1
  by_cases e1 : Int32.ofNat 0 ≤ x ∧ x ≤ Int32.ofNat 11
  · obtain ⟨r, hr, rfl⟩ := pq_ofle e1.1 e1.2 (by omega)
    have h1 : Cel b (gpush S (.inr (10, gdf 10)) (gdf 10).length) S.2.1 (.inr (10, [.int 0, .int 0])) := Cel.push hb _ _
    have x1 : Ext S (gup (gpush S (.inr (10, gdf 10)) (gdf 10).length) S.2.1 (.inr (10, [.int (Int32.ofNat r), .int (Int32.ofNat 1)]))) := (Ext.push _ _ _).gup (Nat.le_refl _)
    obtain ⟨A', M', c1, c2, c3⟩ := o_act (N := N) h hN h3 h0 hs hW hU x1 (q := S.2.1) (k := 3) (x1 := r) (y := 0) (n := 0) (h1.up _) ⟨by omega, by omega, by omega, by omega, by omega, by omega⟩
    refine ⟨Int32.ofNat (actN (M.2.2.1 6) 3 r 0 0), A', _, M', ?_, ?_, c2, Nat.le_refl _, Nat.le_refl _⟩
    · simp only [vInchBorders_closes__IZ_I, bX1_close_6, bX1_close_0, fX1_close, bX1_closes_27, bX1_closes_23, bX1_closes_20, bX1_closes_14, bX1_closes_7, bX1_closes_0, fX1_closes, bX15_init_0, fX15_init, bX13_init_0, fX13_init, pq_lit]
      simp (disch := omega) only [↓f_cls, ↓gbd_h (c_isIn _ _ _), c_isIn _ _ _, e1, ↓gnw_n hb, ↓w10_75 h1 hg, ↓w10_76 (h1.up _) hg, gup_gup, ↓mzt_1, ↓mzt_0, and_self, pq_lit, pq_add, pq_le, pq_lt, pq_eq, pq_en, pq_ne, pq_nle, pq_nlt, pq_len, pq_ltn, pB_z, pB_o, mzt_0, mzt_1, mzt_B, ↓gbd_s, gbd_s, ↓gnn_s, ↓grf_s, eq_self, ↓reduceIte, Nat.reduceEqDiff, Nat.reduceLeDiff, Nat.reduceLT, Nat.reduceMul, Nat.reduceAdd, not_true_eq_false, not_false_eq_true, Bool.false_eq_true, ↓gbd_h (c1), c1]
    · have m1 := m_wT (N := N) (S := mF M 0 (Int32.ofNat 0)) hI0 (y := 0) (n := 0) (show r < 12 by omega)
      have le := actN_le (M.2.2.1 6) (k := 3) (x := r) (y := 0) (n := 0) (by omega)
      simp only [bX5_close_0, fX5_close, bX5_turns_0, fX5_turns, pq_lit]
      rw [c3]
      by_cases e : actN (M.2.2.1 6) 3 r 0 0 = 0
      · rw [if_pos e]
        simp (disch := omega) only [↓mpt, ↓mbd_h (m_isIn _ _ _), m_isIn _ _ _, and_self, e1, mF_a, ↓mbd_h (m1.1), m1.1, ↓mbd_h (m2), m2, e, pq_lit, pq_add, pq_le, pq_lt, pq_eq, pq_en, pq_ne, pq_nle, pq_nlt, pq_len, pq_ltn, pB_z, pB_o, mzt_0, mzt_1, mzt_B, ↓mrd_p, ↓mrd_l, ↓mrd_n, mrd_n, ↓mwr_p, ↓mwr_l, ↓mwr_n, mwr_n, ↓mbd_s, mbd_s, ↓mpt, mF_a, mF_w, mF_L, mF_e, mF_ne, mA_e, mA_n, mA_w, mA_i, mA_L, ma_s, eq_self, ↓reduceIte, Nat.reduceEqDiff, Nat.reduceLeDiff, Nat.reduceLT, Nat.reduceMul, Nat.reduceAdd, not_true_eq_false, not_false_eq_true, Bool.false_eq_true, Nat.le_refl, actS, p1_e]
      · rw [if_neg e]
        have e' : ¬ actN (M.2.2.1 6) 3 r 0 0 ≤ 0 := by omega
        simp (disch := omega) only [↓mpt, ↓mbd_h (m_isIn _ _ _), m_isIn _ _ _, and_self, e1, mF_a, ↓mbd_h (m1.1), m1.1, e', eq_self, ↓reduceIte, Nat.reduceEqDiff, Nat.reduceLeDiff, Nat.reduceLT, Nat.reduceMul, Nat.reduceAdd, not_true_eq_false, not_false_eq_true, Bool.false_eq_true, pq_lit, pq_add, pq_le, pq_lt, pq_eq, pq_en, pq_ne, pq_nle, pq_nlt, pq_len, pq_ltn, pB_z, pB_o, mzt_0, mzt_1, mzt_B, ↓mbd_s, mbd_s]
  · refine ⟨-Int32.ofNat 1, A, S, mF M 0 (Int32.ofNat 0), ?_, ?_, h.m0 _, by omega, by omega⟩
    · simp only [vInchBorders_closes__IZ_I, bX1_close_6, bX1_close_0, fX1_close, bX1_closes_27, bX1_closes_23, bX1_closes_20, bX1_closes_14, bX1_closes_7, bX1_closes_0, fX1_closes, pq_lit]
      simp (disch := omega) only [↓f_cls, ↓gbd_h (c_isIn _ _ _), c_isIn _ _ _, e1, pq_lit, pq_add, pq_le, pq_lt, pq_eq, pq_en, pq_ne, pq_nle, pq_nlt, pq_len, pq_ltn, pB_z, pB_o, mzt_0, mzt_1, mzt_B, ↓gbd_s, gbd_s, ↓gnn_s, ↓grf_s, eq_self, ↓reduceIte, Nat.reduceEqDiff, Nat.reduceLeDiff, Nat.reduceLT, Nat.reduceMul, Nat.reduceAdd, not_true_eq_false, not_false_eq_true, Bool.false_eq_true]
    · simp only [bX5_close_0, fX5_close, bX5_turns_0, fX5_turns, pq_lit]
      simp (disch := omega) only [↓mpt, ↓mbd_h (m_isIn _ _ _), m_isIn _ _ _, e1, eq_self, ↓reduceIte, Nat.reduceEqDiff, Nat.reduceLeDiff, Nat.reduceLT, Nat.reduceMul, Nat.reduceAdd, not_true_eq_false, not_false_eq_true, Bool.false_eq_true, pq_lit, pq_add, pq_le, pq_lt, pq_eq, pq_en, pq_ne, pq_nle, pq_nlt, pq_len, pq_ltn, pB_z, pB_o, mzt_0, mzt_1, mzt_B, ↓mbd_s, mbd_s]
theorem o_open (h : Rel E b A S M) (hN : 1000 ≤ N) (x : Int32) : Op E b S 1 2 (fX1_open E N (put b A S) b x) (fX5_open N M x) := by
  obtain ⟨a, d, u, h3, h0, hs, hW, hU⟩ := h.2.2.1
  have hI := hW.2.2.2.1
  have h6 := hI.p6
  have h7 := hI.l7
  have h12 := hI.r12
  have hb := h.1.2.1
  have hE := h.1.1
  have hg : E.1 ≤ S.2.1 := by omega
  have hI0 : IvS ((mF M 0 (Int32.ofNat 0)).2.2.1 6) := hI
  have m2 := m_keep (N := N) (S := mF M 0 (Int32.ofNat 0)) hN hU.1 hU.2.2.1
  by_cases e1 : Int32.ofNat 0 ≤ x ∧ x ≤ Int32.ofNat 11
  · obtain ⟨r, hr, rfl⟩ := pq_ofle e1.1 e1.2 (by omega)
    have h1 : Cel b (gpush S (.inr (10, gdf 10)) (gdf 10).length) S.2.1 (.inr (10, [.int 0, .int 0])) := Cel.push hb _ _
    have x1 : Ext S (gup (gpush S (.inr (10, gdf 10)) (gdf 10).length) S.2.1 (.inr (10, [.int (Int32.ofNat r), .int (Int32.ofNat 0)]))) := (Ext.push _ _ _).gup (Nat.le_refl _)
    obtain ⟨A', M', c1, c2, c3⟩ := o_act (N := N) h hN h3 h0 hs hW hU x1 (q := S.2.1) (k := 4) (x1 := r) (y := 0) (n := 0) (h1.up _) ⟨by omega, by omega, by omega, by omega, by omega, by omega⟩
    refine ⟨Int32.ofNat (actN (M.2.2.1 6) 4 r 0 0), A', _, M', ?_, ?_, c2, Nat.le_refl _, Nat.le_refl _⟩
    · simp only [vInchBorders_closes__IZ_I, bX1_open_6, bX1_open_0, fX1_open, bX1_closes_27, bX1_closes_23, bX1_closes_20, bX1_closes_14, bX1_closes_7, bX1_closes_0, fX1_closes, bX15_init_0, fX15_init, bX13_init_0, fX13_init, pq_lit]
      simp (disch := omega) only [↓f_cls, ↓gbd_h (c_isIn _ _ _), c_isIn _ _ _, e1, ↓gnw_n hb, ↓w10_75 h1 hg, ↓w10_76 (h1.up _) hg, gup_gup, ↓mzt_1, ↓mzt_0, and_self, pq_lit, pq_add, pq_le, pq_lt, pq_eq, pq_en, pq_ne, pq_nle, pq_nlt, pq_len, pq_ltn, pB_z, pB_o, mzt_0, mzt_1, mzt_B, ↓gbd_s, gbd_s, ↓gnn_s, ↓grf_s, eq_self, ↓reduceIte, Nat.reduceEqDiff, Nat.reduceLeDiff, Nat.reduceLT, Nat.reduceMul, Nat.reduceAdd, not_true_eq_false, not_false_eq_true, Bool.false_eq_true, ↓gbd_h (c1), c1]
    · have m1 := m_wT (N := N) (S := mF M 0 (Int32.ofNat 0)) hI0 (y := 0) (n := 0) (show r < 12 by omega)
      have le := actN_le (M.2.2.1 6) (k := 4) (x := r) (y := 0) (n := 0) (by omega)
      simp only [bX5_open_0, fX5_open, bX5_turns_0, fX5_turns, pq_lit]
      rw [c3]
      by_cases e : actN (M.2.2.1 6) 4 r 0 0 = 0
      · rw [if_pos e]
        simp (disch := omega) only [↓mpt, ↓mbd_h (m_isIn _ _ _), m_isIn _ _ _, and_self, e1, mF_a, ↓mbd_h (m1.2), m1.2, ↓mbd_h (m2), m2, e, pq_lit, pq_add, pq_le, pq_lt, pq_eq, pq_en, pq_ne, pq_nle, pq_nlt, pq_len, pq_ltn, pB_z, pB_o, mzt_0, mzt_1, mzt_B, ↓mrd_p, ↓mrd_l, ↓mrd_n, mrd_n, ↓mwr_p, ↓mwr_l, ↓mwr_n, mwr_n, ↓mbd_s, mbd_s, ↓mpt, mF_a, mF_w, mF_L, mF_e, mF_ne, mA_e, mA_n, mA_w, mA_i, mA_L, ma_s, eq_self, ↓reduceIte, Nat.reduceEqDiff, Nat.reduceLeDiff, Nat.reduceLT, Nat.reduceMul, Nat.reduceAdd, not_true_eq_false, not_false_eq_true, Bool.false_eq_true, Nat.le_refl, actS, p1_e]
      · rw [if_neg e]
        have e' : ¬ actN (M.2.2.1 6) 4 r 0 0 ≤ 0 := by omega
        simp (disch := omega) only [↓mpt, ↓mbd_h (m_isIn _ _ _), m_isIn _ _ _, and_self, e1, mF_a, ↓mbd_h (m1.2), m1.2, e', eq_self, ↓reduceIte, Nat.reduceEqDiff, Nat.reduceLeDiff, Nat.reduceLT, Nat.reduceMul, Nat.reduceAdd, not_true_eq_false, not_false_eq_true, Bool.false_eq_true, pq_lit, pq_add, pq_le, pq_lt, pq_eq, pq_en, pq_ne, pq_nle, pq_nlt, pq_len, pq_ltn, pB_z, pB_o, mzt_0, mzt_1, mzt_B, ↓mbd_s, mbd_s]
  · refine ⟨-Int32.ofNat 1, A, S, mF M 0 (Int32.ofNat 0), ?_, ?_, h.m0 _, by omega, by omega⟩
    · simp only [vInchBorders_closes__IZ_I, bX1_open_6, bX1_open_0, fX1_open, bX1_closes_27, bX1_closes_23, bX1_closes_20, bX1_closes_14, bX1_closes_7, bX1_closes_0, fX1_closes, pq_lit]
      simp (disch := omega) only [↓f_cls, ↓gbd_h (c_isIn _ _ _), c_isIn _ _ _, e1, pq_lit, pq_add, pq_le, pq_lt, pq_eq, pq_en, pq_ne, pq_nle, pq_nlt, pq_len, pq_ltn, pB_z, pB_o, mzt_0, mzt_1, mzt_B, ↓gbd_s, gbd_s, ↓gnn_s, ↓grf_s, eq_self, ↓reduceIte, Nat.reduceEqDiff, Nat.reduceLeDiff, Nat.reduceLT, Nat.reduceMul, Nat.reduceAdd, not_true_eq_false, not_false_eq_true, Bool.false_eq_true]
    · simp only [bX5_open_0, fX5_open, bX5_turns_0, fX5_turns, pq_lit]
      simp (disch := omega) only [↓mpt, ↓mbd_h (m_isIn _ _ _), m_isIn _ _ _, e1, eq_self, ↓reduceIte, Nat.reduceEqDiff, Nat.reduceLeDiff, Nat.reduceLT, Nat.reduceMul, Nat.reduceAdd, not_true_eq_false, not_false_eq_true, Bool.false_eq_true, pq_lit, pq_add, pq_le, pq_lt, pq_eq, pq_en, pq_ne, pq_nle, pq_nlt, pq_len, pq_ltn, pB_z, pB_o, mzt_0, mzt_1, mzt_B, ↓mbd_s, mbd_s]
theorem o_lend (h : Rel E b A S M) (hN : 1000 ≤ N) (x y z : Int32) : Op E b S 1 3 (fX1_lend E N (put b A S) b x y z) (fX5_lend N M x y z) := by
  obtain ⟨a, d, u, h3, h0, hs, hW, hU⟩ := h.2.2.1
  have hI := hW.2.2.2.1
  have h6 := hI.p6
  have h7 := hI.l7
  have h12 := hI.r12
  have hb := h.1.2.1
  have hE := h.1.1
  have hg : E.1 ≤ S.2.1 := by omega
  have hI0 : IvS ((mF M 0 (Int32.ofNat 0)).2.2.1 6) := hI
  have m2 := m_keep (N := N) (S := mF M 0 (Int32.ofNat 0)) hN hU.1 hU.2.2.1
  have bad : ∀ (P : Prop), (P ↔ (inN x (nL (M.2.2.1 6)) = true ∧ inN y (nL (M.2.2.1 6)) = true ∧ (Int32.ofNat 1 ≤ z ∧ z ≤ Int32.ofNat 99))) → ¬ P → Op E b S 1 3 (fX1_lend E N (put b A S) b x y z) (fX5_lend N M x y z) := by
    intro P hP hn
    refine ⟨-Int32.ofNat 1, A, S, mF M 0 (Int32.ofNat 0), ?_, ?_, h.m0 _, by omega, by omega⟩
    · simp only [bX1_lend_44, bX1_lend_40, bX1_lend_37, bX1_lend_30, bX1_lend_43, bX1_lend_23, bX1_lend_13, bX1_lend_5, bX1_lend_0, fX1_lend, pq_lit]
      by_cases e1 : inN x (nL (M.2.2.1 6)) = true
      · by_cases e2 : inN y (nL (M.2.2.1 6)) = true
        · have e3 : ¬ (Int32.ofNat 1 ≤ z ∧ z ≤ Int32.ofNat 99) := fun q => hn (hP.mpr ⟨e1, e2, q⟩)
          simp (disch := omega) only [↓gbd_h (k_isL h3 hW.1 _), k_isL h3 hW.1 _, ↓gbd_h (c_isIn _ _ _), c_isIn _ _ _, e1, e2, e3, pq_lit, pq_add, pq_le, pq_lt, pq_eq, pq_en, pq_ne, pq_nle, pq_nlt, pq_len, pq_ltn, pB_z, pB_o, mzt_0, mzt_1, mzt_B, ↓gbd_s, gbd_s, ↓gnn_s, ↓grf_s, eq_self, ↓reduceIte, Nat.reduceEqDiff, Nat.reduceLeDiff, Nat.reduceLT, Nat.reduceMul, Nat.reduceAdd, not_true_eq_false, not_false_eq_true, Bool.false_eq_true]
        · simp (disch := omega) only [↓gbd_h (k_isL h3 hW.1 _), k_isL h3 hW.1 _, e1, e2, pq_lit, pq_add, pq_le, pq_lt, pq_eq, pq_en, pq_ne, pq_nle, pq_nlt, pq_len, pq_ltn, pB_z, pB_o, mzt_0, mzt_1, mzt_B, ↓gbd_s, gbd_s, ↓gnn_s, ↓grf_s, eq_self, ↓reduceIte, Nat.reduceEqDiff, Nat.reduceLeDiff, Nat.reduceLT, Nat.reduceMul, Nat.reduceAdd, not_true_eq_false, not_false_eq_true, Bool.false_eq_true]
      · simp (disch := omega) only [↓gbd_h (k_isL h3 hW.1 _), k_isL h3 hW.1 _, e1, pq_lit, pq_add, pq_le, pq_lt, pq_eq, pq_en, pq_ne, pq_nle, pq_nlt, pq_len, pq_ltn, pB_z, pB_o, mzt_0, mzt_1, mzt_B, ↓gbd_s, gbd_s, ↓gnn_s, ↓grf_s, eq_self, ↓reduceIte, Nat.reduceEqDiff, Nat.reduceLeDiff, Nat.reduceLT, Nat.reduceMul, Nat.reduceAdd, not_true_eq_false, not_false_eq_true, Bool.false_eq_true]
    · simp only [bX5_lend_31, bX5_lend_0, fX5_lend, pq_lit]
      by_cases e1 : inN x (nL (M.2.2.1 6)) = true
      · by_cases e2 : inN y (nL (M.2.2.1 6)) = true
        · have e3 : ¬ (Int32.ofNat 1 ≤ z ∧ z ≤ Int32.ofNat 99) := fun q => hn (hP.mpr ⟨e1, e2, q⟩)
          simp (disch := omega) only [↓mpt, ↓mbd_h (m_isLand hI0 _), m_isLand hI0 _, ↓mbd_h (m_isIn _ _ _), m_isIn _ _ _, mF_a, e1, e2, e3, eq_self, ↓reduceIte, Nat.reduceEqDiff, Nat.reduceLeDiff, Nat.reduceLT, Nat.reduceMul, Nat.reduceAdd, not_true_eq_false, not_false_eq_true, Bool.false_eq_true, pq_lit, pq_add, pq_le, pq_lt, pq_eq, pq_en, pq_ne, pq_nle, pq_nlt, pq_len, pq_ltn, pB_z, pB_o, mzt_0, mzt_1, mzt_B, ↓mbd_s, mbd_s]
        · simp (disch := omega) only [↓mpt, ↓mbd_h (m_isLand hI0 _), m_isLand hI0 _, mF_a, e1, e2, eq_self, ↓reduceIte, Nat.reduceEqDiff, Nat.reduceLeDiff, Nat.reduceLT, Nat.reduceMul, Nat.reduceAdd, not_true_eq_false, not_false_eq_true, Bool.false_eq_true, pq_lit, pq_add, pq_le, pq_lt, pq_eq, pq_en, pq_ne, pq_nle, pq_nlt, pq_len, pq_ltn, pB_z, pB_o, mzt_0, mzt_1, mzt_B, ↓mbd_s, mbd_s]
      · simp (disch := omega) only [↓mpt, ↓mbd_h (m_isLand hI0 _), m_isLand hI0 _, mF_a, e1, eq_self, ↓reduceIte, Nat.reduceEqDiff, Nat.reduceLeDiff, Nat.reduceLT, Nat.reduceMul, Nat.reduceAdd, not_true_eq_false, not_false_eq_true, Bool.false_eq_true, pq_lit, pq_add, pq_le, pq_lt, pq_eq, pq_en, pq_ne, pq_nle, pq_nlt, pq_len, pq_ltn, pB_z, pB_o, mzt_0, mzt_1, mzt_B, ↓mbd_s, mbd_s]
  by_cases e0 : inN x (nL (M.2.2.1 6)) = true ∧ inN y (nL (M.2.2.1 6)) = true ∧ (Int32.ofNat 1 ≤ z ∧ z ≤ Int32.ofNat 99)
  · obtain ⟨e1, e2, e3⟩ := e0
    obtain ⟨p, hp, rfl⟩ := (inN_i (by omega)).mp e1
    obtain ⟨l, hl, rfl⟩ := (inN_i (by omega)).mp e2
    obtain ⟨n, hn, rfl⟩ := pq_ofle (Int32.le_trans (by decide) e3.1) e3.2 (by omega)
    have h1 : Cel b (gpush S (.inr (11, gdf 11)) (gdf 11).length) S.2.1 (.inr (11, [.int 0, .int 0, .int 0])) := Cel.push hb _ _
    have x1 : Ext S (gup (gpush S (.inr (11, gdf 11)) (gdf 11).length) S.2.1 (.inr (11, [.int (Int32.ofNat p), .int (Int32.ofNat l), .int (Int32.ofNat n)]))) := (Ext.push _ _ _).gup (Nat.le_refl _)
    obtain ⟨A', M', c1, c2, c3⟩ := o_act (N := N) h hN h3 h0 hs hW hU x1 (q := S.2.1) (k := 5) (x1 := p) (y := l) (n := n) (h1.up _) ⟨by omega, by omega, fun _ => ⟨hp, hl⟩, by omega, by omega, by omega⟩
    refine ⟨Int32.ofNat (actN (M.2.2.1 6) 5 p l n), A', _, M', ?_, ?_, c2, Nat.le_refl _, Nat.le_refl _⟩
    · simp only [bX1_lend_44, bX1_lend_40, bX1_lend_37, bX1_lend_30, bX1_lend_43, bX1_lend_23, bX1_lend_13, bX1_lend_5, bX1_lend_0, fX1_lend, bX17_init_0, fX17_init, bX16_init_0, fX16_init, bX13_init_0, fX13_init, pq_lit]
      simp (disch := omega) only [↓gbd_h (k_isL h3 hW.1 _), k_isL h3 hW.1 _, ↓gbd_h (c_isIn _ _ _), c_isIn _ _ _, e1, e2, e3, and_self, ↓gnw_n hb, ↓w11_77 h1 hg, ↓w11_78 (h1.up _) hg, ↓w11_79 (h1.up _) hg, gup_gup, pq_lit, pq_add, pq_le, pq_lt, pq_eq, pq_en, pq_ne, pq_nle, pq_nlt, pq_len, pq_ltn, pB_z, pB_o, mzt_0, mzt_1, mzt_B, ↓gbd_s, gbd_s, ↓gnn_s, ↓grf_s, eq_self, ↓reduceIte, Nat.reduceEqDiff, Nat.reduceLeDiff, Nat.reduceLT, Nat.reduceMul, Nat.reduceAdd, not_true_eq_false, not_false_eq_true, Bool.false_eq_true, ↓gbd_h (c1), c1]
    · have m1 := m_wL (N := N) (S := mF M 0 (Int32.ofNat 0)) (n := n) (show p < 7 by omega) (show l < 7 by omega)
      have le := actN_le (M.2.2.1 6) (k := 5) (x := p) (y := l) (n := n) (by omega)
      simp only [bX5_lend_31, bX5_lend_0, fX5_lend, bX5_lends_0, fX5_lends, pq_lit]
      rw [c3]
      by_cases e : actN (M.2.2.1 6) 5 p l n = 0
      · have e4 : ¬ p = l := by
          intro q
          unfold actN at e
          simp only [] at e
          rw [if_pos q] at e
          omega
        rw [if_pos e]
        simp (disch := omega) only [↓mpt, ↓mbd_h (m_isLand hI0 _), m_isLand hI0 _, ↓mbd_h (m_isIn _ _ _), m_isIn _ _ _, mF_a, e1, e2, e3, and_self, ↓mbd_h (m1), m1, ↓mbd_h (m2), m2, e, pq_lit, pq_add, pq_le, pq_lt, pq_eq, pq_en, pq_ne, pq_nle, pq_nlt, pq_len, pq_ltn, pB_z, pB_o, mzt_0, mzt_1, mzt_B, ↓mrd_p, ↓mrd_l, ↓mrd_n, mrd_n, ↓mwr_p, ↓mwr_l, ↓mwr_n, mwr_n, ↓mbd_s, mbd_s, ↓mpt, mF_a, mF_w, mF_L, mF_e, mF_ne, mA_e, mA_n, mA_w, mA_i, mA_L, ma_s, eq_self, ↓reduceIte, Nat.reduceEqDiff, Nat.reduceLeDiff, Nat.reduceLT, Nat.reduceMul, Nat.reduceAdd, not_true_eq_false, not_false_eq_true, Bool.false_eq_true, Nat.le_refl, actS, mR_mR, upd_o]
      · rw [if_neg e]
        have e' : ¬ actN (M.2.2.1 6) 5 p l n ≤ 0 := by omega
        simp (disch := omega) only [↓mpt, ↓mbd_h (m_isLand hI0 _), m_isLand hI0 _, ↓mbd_h (m_isIn _ _ _), m_isIn _ _ _, mF_a, e1, e2, e3, and_self, ↓mbd_h (m1), m1, e', eq_self, ↓reduceIte, Nat.reduceEqDiff, Nat.reduceLeDiff, Nat.reduceLT, Nat.reduceMul, Nat.reduceAdd, not_true_eq_false, not_false_eq_true, Bool.false_eq_true, pq_lit, pq_add, pq_le, pq_lt, pq_eq, pq_en, pq_ne, pq_nle, pq_nlt, pq_len, pq_ltn, pB_z, pB_o, mzt_0, mzt_1, mzt_B, ↓mbd_s, mbd_s]
  · exact bad _ Iff.rfl e0
end OB
