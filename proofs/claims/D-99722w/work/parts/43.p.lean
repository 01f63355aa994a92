/-! rests, odds; the tape -/
section OD
variable {E : gE} {N b : Nat} {A : FA} {S : GS} {M : MS}
theorem c_rsL (hE : E.1 ≤ b) (hN : 1000 ≤ N) {a : Nat} {d : AD} : ∀ (k e n : Nat) (A : FA), TA b S A 1 a d → (∃ c, c ≤ 400 ∧ c + k = 401 ∧ tS A 1 91 = Int32.ofNat c) → k < n → bX1_rests_14L E N b n (put b A S) (Int32.ofNat e) = some (oI (rsF k e (tS A 1)).1, put b (sS A 1 (rsF k e (tS A 1)).2) S)
  | k, e, 0, A, _, _, h => by omega
  | 0, e, n + 1, A, h, ⟨c, h1, h2, h3⟩, hk => by omega
  | k + 1, e, n + 1, A, h, ⟨c, h1, h2, h3⟩, hk => by
    have hD : IvD (tS A 1) := ⟨c, h1, h3⟩
    simp only [bX1_rests_14L, bX1_rests_14, bX1_rests_0, fX1_rests, vInchBorders_Times_anyGrows___Z, pq_lit, rsF]
    by_cases q : tS A 1 91 < Int32.ofNat 400
    · cases g : anyF (tS A 1) 0 (nP (tS A 1)) with
      | true =>
        have q2 := q
        rw [h3, pq_lt (by omega) (by omega)] at q2
        have ih := c_rsL hE hN k (e + 1) n (sS A 1 (dayS (tS A 1))) (h.ss mp_day h.2.2.2.day.1) ⟨c + 1, by omega, by omega, by
          rw [tS_ss]
          unfold dayS
          rw [upd_s, dayF_91, h3, pq_add]⟩ (by omega)
        rw [tS_ss, sS_sS] at ih
        simp (disch := omega) only [↓f_5, ↓gbd_h (c_over h hD), c_over h hD, q, ↓t_cls, t_cls, ↓gbd_h (c_any h (show 100 ≤ N by omega)), c_any h (show 100 ≤ N by omega), g, ↓gbd_h (c_day h hE (show 100 ≤ N by omega)), c_day h hE (show 100 ≤ N by omega), pq_lit, pq_add, pq_le, pq_lt, pq_eq, pq_en, pq_ne, pq_nle, pq_nlt, pq_len, pq_ltn, pB_z, pB_o, mzt_0, mzt_1, mzt_B, ↓gbd_s, gbd_s, ↓gnn_s, ↓grf_s, eq_self, ↓reduceIte, Nat.reduceEqDiff, Nat.reduceLeDiff, Nat.reduceLT, Nat.reduceMul, Nat.reduceAdd, not_true_eq_false, not_false_eq_true, Bool.false_eq_true]
        exact ih
      | false =>
        simp (disch := omega) only [↓f_5, ↓gbd_h (c_over h hD), c_over h hD, q, ↓t_cls, t_cls, ↓gbd_h (c_any h (show 100 ≤ N by omega)), c_any h (show 100 ≤ N by omega), g, pq_lit, pq_add, pq_le, pq_lt, pq_eq, pq_en, pq_ne, pq_nle, pq_nlt, pq_len, pq_ltn, pB_z, pB_o, mzt_0, mzt_1, mzt_B, ↓gbd_s, gbd_s, ↓gnn_s, ↓grf_s, eq_self, ↓reduceIte, Nat.reduceEqDiff, Nat.reduceLeDiff, Nat.reduceLT, Nat.reduceMul, Nat.reduceAdd, not_true_eq_false, not_false_eq_true, Bool.false_eq_true, oI, sS_id]
    · simp (disch := omega) only [↓f_5, ↓gbd_h (c_over h hD), c_over h hD, q, pq_lit, pq_add, pq_le, pq_lt, pq_eq, pq_en, pq_ne, pq_nle, pq_nlt, pq_len, pq_ltn, pB_z, pB_o, mzt_0, mzt_1, mzt_B, ↓gbd_s, gbd_s, ↓gnn_s, ↓grf_s, eq_self, ↓reduceIte, Nat.reduceEqDiff, Nat.reduceLeDiff, Nat.reduceLT, Nat.reduceMul, Nat.reduceAdd, not_true_eq_false, not_false_eq_true, Bool.false_eq_true, oI, sS_id]
theorem rs_eq : ∀ (j k d : Nat) (s : St) (c : Nat), c ≤ 400 → c + k = 401 → s 91 = Int32.ofNat c → rsF (k + j) d s = rsF k d s
  | j, 0, d, s, c, h1, h2, _ => by omega
  | j, k + 1, d, s, c, h1, h2, h3 => by
    rw [show k + 1 + j = (k + j) + 1 by omega]
    show (if _ then _ else _) = (if _ then _ else _)
    by_cases q : s 91 < Int32.ofNat 400
    · rw [if_pos q, if_pos q]
      by_cases g : anyF s 0 (nP s) = true
      · rw [if_pos g, if_pos g]
        have q2 := q
        rw [h3, pq_lt (by omega) (by omega)] at q2
        refine rs_eq j k (d + 1) (dayS s) (c + 1) (by omega) (by omega) ?_
        unfold dayS
        rw [upd_s, dayF_91, h3, pq_add]
      · rw [if_neg g, if_neg g]
    · rw [if_neg q, if_neg q]
theorem o_rests (h : Rel E b A S M) (hN : 1000 ≤ N) : Op E b S 0 0 (fX1_rests E N (put b A S) b) (fX5_rests N M) := by
  obtain ⟨a, d, u, h3, h0, hs, hW, hU⟩ := h.2.2.1
  have hI := hW.2.2.2.1
  have hE := h.1.1
  have hT : TA b S A 0 a d := ⟨by omega, h0, by rw [hs]; exact hW.1, by rw [hs]; exact hI⟩
  obtain ⟨c, hc, ec⟩ := hW.2.2.2.2.1
  have g1 := c_rsL (E := E) (N := N) hE hN (401 - c) 0 N (tryA A) (try_TA hT) ⟨c, hc, by omega, by rw [try_tS, hs]; exact ec⟩ (by omega)
  have g2 := m_rsL (N := N) hN (401 - c) 0 N (mR (mF M 0 (Int32.ofNat 0)) 22 (cpF (M.2.2.1 22) (M.2.2.1 6) 0 91 47)) hI ⟨c, hc, by omega, ec⟩ (by omega)
  rw [try_tS, hs] at g1
  have s6 : (mR (mF M 0 (Int32.ofNat 0)) 22 (cpF (M.2.2.1 22) (M.2.2.1 6) 0 91 47)).2.2.1 6 = M.2.2.1 6 := rfl
  have s22 : (mR (mF M 0 (Int32.ofNat 0)) 22 (cpF (M.2.2.1 22) (M.2.2.1 6) 0 91 47)).2.2.1 22 = cpF (M.2.2.1 22) (M.2.2.1 6) 0 91 47 := mA_e _ _ _
  rw [s6, s22, bk_sm (sm_rs (401 - c) 0 hI)] at g2
  refine ⟨oI (rsF (401 - c) 0 (M.2.2.1 6)).1, sS (tryA A) 1 (rsF (401 - c) 0 (M.2.2.1 6)).2, S, mR (mF M 0 (Int32.ofNat 0)) 22 (cpF (M.2.2.1 22) (M.2.2.1 6) 0 91 47), ?_, ?_, (h.aa ((aScr.t1 _).tr (aScr.t1 _))).mm (ks := [0, 22]) ((mSm.rf.mF _ (by decide)).mR _ (by decide)) (by decide), Nat.le_refl _, Nat.le_refl _⟩
  · simp only [fX1_rests, bX1_rests_0, pq_lit]
    simp (disch := omega) only [↓f_5, ↓f_4, ↓gbd_h (c_asv hE (show 1 < 12 by omega) (show 0 < 12 by omega) (show 0 ≠ 1 by omega)), c_asv hE (show 1 < 12 by omega) (show 0 < 12 by omega) (show 0 ≠ 1 by omega)]
    exact g1
  · have e : mR (mR (mF M 0 (Int32.ofNat 0)) 22 (cpF (M.2.2.1 22) (M.2.2.1 6) 0 91 47)) 6 (M.2.2.1 6) = mR (mF M 0 (Int32.ofNat 0)) 22 (cpF (M.2.2.1 22) (M.2.2.1 6) 0 91 47) := mR_id (mR (mF M 0 (Int32.ofNat 0)) 22 (cpF (M.2.2.1 22) (M.2.2.1 6) 0 91 47)) 6
    rw [e] at g2
    simp only [fX5_rests, bX5_rests_0, pq_lit, mpt]
    rw [m_tries hN, mbd_s]
    exact g2
/-- by how many seeds one grows -/
noncomputable def odF (s : St) (p : Nat) (x : Int32) : Nat → Nat → Nat → Nat
  | 0, _, m => m
  | k + 1, i, m => odF s p x k (i + 1) (if s (114 + p) < (drF 20 0 (x + Int32.ofNat i) s).2.2 (114 + p) then m + 1 else m)
theorem c_odL (hE : E.1 ≤ b) (hN : 1000 ≤ N) {a : Nat} {d : AD} {s : St} (hD : IvD s) (hl : 0 < nL s) {p : Nat} (hp : p < nP s) (x : Int32) {z : Nat} (hz : z ≤ 30) : ∀ (k i m n : Nat) (A : FA), TA b S A 0 a d → tS A 0 = s → i + k = z → k < n → ∃ A', bX1_odds_26L E N b n (put b A S) (Int32.ofNat p) (Int32.ofNat z) x (Int32.ofNat m) (Int32.ofNat i) = some (Int32.ofNat (odF s p x k i m), put b A' S) ∧ aScr A A'
  | k, i, m, 0, A, _, _, _, h => by omega
  | 0, i, m, n + 1, A, hT, hs, hk, _ => by
    refine ⟨A, ?_, aScr.rf⟩
    have q : z ≤ i := by omega
    simp only [bX1_odds_26L, bX1_odds_18, bX1_odds_77, bX1_odds_26, bX1_odds_0, fX1_odds, pq_lit]
    simp (disch := omega) only [q, pq_lit, pq_add, pq_le, pq_lt, pq_eq, pq_en, pq_ne, pq_nle, pq_nlt, pq_len, pq_ltn, pB_z, pB_o, mzt_0, mzt_1, mzt_B, ↓gbd_s, gbd_s, ↓gnn_s, ↓grf_s, eq_self, ↓reduceIte, Nat.reduceEqDiff, Nat.reduceLeDiff, Nat.reduceLT, Nat.reduceMul, Nat.reduceAdd, not_true_eq_false, not_false_eq_true, Bool.false_eq_true]
    rfl
  | k + 1, i, m, n + 1, A, hT, hs, hk, hn => by
    have hI := hT.2.2.2
    have h6 := hI.p6
    rw [hs] at h6
    have q : ¬ z ≤ i := by omega
    have ht1 := try_TA hT
    have g := c_dr (N := N) ht1 hE hN (by rw [try_tS, hs]; exact hD) (by rw [try_tS, hs]; exact hl) (show 20 < 1000 by omega) (x + Int32.ofNat i)
    rw [try_tS, hs] at g
    have sc : aScr A (sT (tryA A) 1 ((aT (tryA A) 1).1, (drF 20 0 (x + Int32.ofNat i) s).2.1, (drF 20 0 (x + Int32.ofNat i) s).2.2)) := (aScr.t1 _).tr (aScr.t1 _)
    have hT2 : TA b S (sT (tryA A) 1 ((aT (tryA A) 1).1, (drF 20 0 (x + Int32.ofNat i) s).2.1, (drF 20 0 (x + Int32.ofNat i) s).2.2)) 0 a d := by
      unfold TA tS
      rw [sc.2.2.2.2.2 0 (by omega)]
      exact hT
    have hs2 : tS (sT (tryA A) 1 ((aT (tryA A) 1).1, (drF 20 0 (x + Int32.ofNat i) s).2.1, (drF 20 0 (x + Int32.ofNat i) s).2.2)) 0 = s := by
      unfold tS
      rw [sc.2.2.2.2.2 0 (by omega)]
      exact hs
    have e1 : aT (sT (tryA A) 1 ((aT (tryA A) 1).1, (drF 20 0 (x + Int32.ofNat i) s).2.1, (drF 20 0 (x + Int32.ofNat i) s).2.2)) 1 = ((aT (tryA A) 1).1, (drF 20 0 (x + Int32.ofNat i) s).2.1, (drF 20 0 (x + Int32.ofNat i) s).2.2) := aT_sT _ _ _
    have e0 : (aT (sT (tryA A) 1 ((aT (tryA A) 1).1, (drF 20 0 (x + Int32.ofNat i) s).2.1, (drF 20 0 (x + Int32.ofNat i) s).2.2)) 0).2.2 = s := hs2
    obtain ⟨A', j1, j2⟩ := c_odL hE hN hD hl hp x hz k (i + 1) (if s (114 + p) < (drF 20 0 (x + Int32.ofNat i) s).2.2 (114 + p) then m + 1 else m) n _ hT2 hs2 (by omega) (by omega)
    refine ⟨A', ?_, sc.tr j2⟩
    show _ = some (Int32.ofNat (odF s p x k (i + 1) _), put b A' S)
    rw [← j1]
    simp only [bX1_odds_26L, bX1_odds_18, bX1_odds_77, bX1_odds_26, bX1_odds_0, fX1_odds, vInchBorders_Times_drawn__II_I, pq_lit]
    simp (disch := omega) only [q, ↓f_5, ↓f_4, ↓gbd_h (c_asv hE (show 1 < 12 by omega) (show 0 < 12 by omega) (show 0 ≠ 1 by omega)), c_asv hE (show 1 < 12 by omega) (show 0 < 12 by omega) (show 0 ≠ 1 by omega), pq_lit, pq_add, pq_le, pq_lt, pq_eq, pq_en, pq_ne, pq_nle, pq_nlt, pq_len, pq_ltn, pB_z, pB_o, mzt_0, mzt_1, mzt_B, ↓gbd_s, gbd_s, ↓gnn_s, ↓grf_s, eq_self, ↓reduceIte, Nat.reduceEqDiff, Nat.reduceLeDiff, Nat.reduceLT, Nat.reduceMul, Nat.reduceAdd, not_true_eq_false, not_false_eq_true, Bool.false_eq_true]
    rw [show put b (sT A 1 ((aT A 0).1, (aT A 1).2.1, (aT A 0).2.2)) S = put b (tryA A) S from rfl]
    simp (disch := omega) only [↓t_cls, t_cls, ↓gbd_h (g), g, ↓f_5, ↓f_4, ↓t_35, t_35, ↓t_g4, t_g4, e1, e0, pq_lit, pq_add, pq_le, pq_lt, pq_eq, pq_en, pq_ne, pq_nle, pq_nlt, pq_len, pq_ltn, pB_z, pB_o, mzt_0, mzt_1, mzt_B, ↓gbd_s, gbd_s, ↓gnn_s, ↓grf_s, eq_self, ↓reduceIte, Nat.reduceEqDiff, Nat.reduceLeDiff, Nat.reduceLT, Nat.reduceMul, Nat.reduceAdd, not_true_eq_false, not_false_eq_true, Bool.false_eq_true]
    by_cases w : s (114 + p) < (drF 20 0 (x + Int32.ofNat i) s).2.2 (114 + p)
    · rw [if_neg (Int32.not_le.mpr w), if_pos w]
    · rw [if_pos (Int32.not_lt.mp w), if_neg w]
theorem m_odL (hN : 1000 ≤ N) {s : St} (hI : IvS s) (hl : 0 < nL s) {p : Nat} (hp : p < nP s) (x : Int32) {z : Nat} (hz : z ≤ 30) : ∀ (k i m n : Nat) (M : MS), M.2.2.1 6 = s → (∃ f, M.2.2.1 22 = cpF f s 0 91 47) → i + k = z → k < n → ∃ M', bX5_odds_46L N n M (Int32.ofNat p) (Int32.ofNat z) x (s (114 + p)) (Int32.ofNat m) (Int32.ofNat i) = some (Int32.ofNat (odF s p x k i m), M') ∧ mSm [46] M M'
  | k, i, m, 0, M, _, _, _, h => by omega
  | 0, i, m, n + 1, M, h6, _, hk, _ => by
    refine ⟨M, ?_, mSm.rf⟩
    have q : z ≤ i := by omega
    simp only [bX5_odds_46L, bX5_odds_23, bX5_odds_84, bX5_odds_46, bX5_odds_0, fX5_odds, pq_lit]
    simp (disch := omega) only [q, pq_lit, pq_add, pq_le, pq_lt, pq_eq, pq_en, pq_ne, pq_nle, pq_nlt, pq_len, pq_ltn, pB_z, pB_o, mzt_0, mzt_1, mzt_B, ↓mrd_p, ↓mrd_l, ↓mrd_n, mrd_n, ↓mwr_p, ↓mwr_l, ↓mwr_n, mwr_n, ↓mbd_s, mbd_s, ↓mpt, mF_a, mF_w, mF_L, mF_e, mF_ne, mA_e, mA_n, mA_w, mA_i, mA_L, ma_s, eq_self, ↓reduceIte, Nat.reduceEqDiff, Nat.reduceLeDiff, Nat.reduceLT, Nat.reduceMul, Nat.reduceAdd, not_true_eq_false, not_false_eq_true, Bool.false_eq_true]
    rfl
  | k + 1, i, m, n + 1, M, h6, ⟨f, h22⟩, hk, hn => by
    have hp6 := hI.p6
    have q : ¬ z ≤ i := by omega
    have g := m_dr (N := N) (S := M) (by rw [h6]; exact hI) hN (by rw [h6]; exact hl) (show 20 < 1000 by omega) (x + Int32.ofNat i)
    rw [h6] at g
    have bk1 : bk (drF 20 0 (x + Int32.ofNat i) s).2.2 (cpF f s 0 91 47) 0 = s := bk_sm (sm_dr 20 0 _ hI hl) 0
    have bb := m_back (N := N) hN (mR (mF M 46 (drF 20 0 (x + Int32.ofNat i) s).2.1) 6 (drF 20 0 (x + Int32.ofNat i) s).2.2)
    rw [mA_e, mA_n _ _ (show 22 ≠ 6 by omega), mF_a, h22, bk1, mR_mR] at bb
    have e6 : mR (mF M 46 (drF 20 0 (x + Int32.ofNat i) s).2.1) 6 s = mF M 46 (drF 20 0 (x + Int32.ofNat i) s).2.1 := by
      rw [← h6]
      exact mR_id (mF M 46 _) 6
    rw [e6] at bb
    obtain ⟨M', j1, j2⟩ := m_odL hN hI hl hp x hz k (i + 1) (if s (114 + p) < (drF 20 0 (x + Int32.ofNat i) s).2.2 (114 + p) then m + 1 else m) n (mF M 46 (drF 20 0 (x + Int32.ofNat i) s).2.1) h6 ⟨f, h22⟩ (by omega) (by omega)
    refine ⟨M', ?_, (mSm.rf.mF _ (by decide)).tr j2⟩
    show _ = some (Int32.ofNat (odF s p x k (i + 1) _), M')
    rw [← j1]
    simp only [bX5_odds_46L, bX5_odds_23, bX5_odds_84, bX5_odds_46, bX5_odds_0, fX5_odds, pq_lit]
    simp (disch := omega) only [q, ↓mbd_h (g), g, mA_e, ↓mrd_n, mrd_n, ↓mbd_h (bb), bb, pq_lit, pq_add, pq_le, pq_lt, pq_eq, pq_en, pq_ne, pq_nle, pq_nlt, pq_len, pq_ltn, pB_z, pB_o, mzt_0, mzt_1, mzt_B, ↓mrd_p, ↓mrd_l, ↓mrd_n, mrd_n, ↓mwr_p, ↓mwr_l, ↓mwr_n, mwr_n, ↓mbd_s, mbd_s, ↓mpt, mF_a, mF_w, mF_L, mF_e, mF_ne, mA_e, mA_n, mA_w, mA_i, mA_L, ma_s, eq_self, ↓reduceIte, Nat.reduceEqDiff, Nat.reduceLeDiff, Nat.reduceLT, Nat.reduceMul, Nat.reduceAdd, not_true_eq_false, not_false_eq_true, Bool.false_eq_true]
    by_cases w : s (114 + p) < (drF 20 0 (x + Int32.ofNat i) s).2.2 (114 + p)
    · rw [if_neg (Int32.not_le.mpr w), if_pos w]
    · rw [if_pos (Int32.not_lt.mp w), if_neg w, Nat.add_zero]
theorem o_odds (h : Rel E b A S M) (hN : 1000 ≤ N) (x y z : Int32) : Op E b S 0 0 (fX1_odds E N (put b A S) b x y z) (fX5_odds N M x y z) := by
  obtain ⟨a, d, u, h3, h0, hs, hW, hU⟩ := h.2.2.1
  have hI := hW.2.2.2.1
  have h6 := hI.p6
  have hE := h.1.1
  have hI0 : IvS ((mF M 0 (Int32.ofNat 0)).2.2.1 6) := hI
  have hT : TA b S A 0 a d := ⟨by omega, h0, by rw [hs]; exact hW.1, by rw [hs]; exact hI⟩
  by_cases e1 : inN x (nP (M.2.2.1 6)) = true
  · by_cases e2 : Int32.ofNat 1 ≤ y ∧ y ≤ Int32.ofNat 30
    · obtain ⟨p, hp, rfl⟩ := (inN_i (by omega)).mp e1
      obtain ⟨n, hn, rfl⟩ := pq_ofle (Int32.le_trans (by decide) e2.1) e2.2 (by omega)
      have hl : 0 < nL (M.2.2.1 6) := by
        have := hI.hl hp
        omega
      obtain ⟨A', c1, c2⟩ := c_odL (E := E) (N := N) hE hN hW.2.2.2.2.1 hl hp z hn n 0 0 N A hT hs (by omega) (by omega)
      have hM1 : (mR (mF M 0 (Int32.ofNat 0)) 22 (cpF (M.2.2.1 22) (M.2.2.1 6) 0 91 47)).2.2.1 6 = M.2.2.1 6 := rfl
      obtain ⟨M', d1, d2⟩ := m_odL (N := N) hN hI hl hp z hn n 0 0 N _ hM1 ⟨_, mA_e _ _ _⟩ (by omega) (by omega)
      refine ⟨Int32.ofNat (odF (M.2.2.1 6) p z n 0 0), A', S, M', ?_, ?_, (h.aa c2).mm (ks := [0, 22, 46]) (((mSm.rf.mF _ (by decide)).mR _ (by decide)).tr (d2.su (by decide))) (by decide), Nat.le_refl _, Nat.le_refl _⟩
      · simp only [fX1_odds, bX1_odds_0, pq_lit]
        simp (disch := omega) only [↓gbd_h (k_isP h3 hW.1 _), k_isP h3 hW.1 _, e1, ↓gbd_h (c_isIn _ _ _), c_isIn _ _ _, e2, and_self, pq_lit, pq_add, pq_le, pq_lt, pq_eq, pq_en, pq_ne, pq_nle, pq_nlt, pq_len, pq_ltn, pB_z, pB_o, mzt_0, mzt_1, mzt_B, ↓gbd_s, gbd_s, ↓gnn_s, ↓grf_s, eq_self, ↓reduceIte, Nat.reduceEqDiff, Nat.reduceLeDiff, Nat.reduceLT, Nat.reduceMul, Nat.reduceAdd, not_true_eq_false, not_false_eq_true, Bool.false_eq_true]
        exact c1
      · simp only [fX5_odds, bX5_odds_0, pq_lit]
        simp (disch := omega) only [↓mpt, ↓mbd_h (m_isPerson hI0 _), m_isPerson hI0 _, mF_a, e1, ↓mbd_h (m_isIn _ _ _), m_isIn _ _ _, e2, and_self, ↓mbd_h (m_tries hN _), m_tries hN _, mA_n, ↓mrd_p, ↓mrd_n, mrd_n, eq_self, ↓reduceIte, Nat.reduceEqDiff, Nat.reduceLeDiff, Nat.reduceLT, Nat.reduceMul, Nat.reduceAdd, not_true_eq_false, not_false_eq_true, Bool.false_eq_true, pq_lit, pq_add, pq_le, pq_lt, pq_eq, pq_en, pq_ne, pq_nle, pq_nlt, pq_len, pq_ltn, pB_z, pB_o, mzt_0, mzt_1, mzt_B, ↓mbd_s, mbd_s]
        exact d1
    · refine ⟨-Int32.ofNat 1, A, S, mF M 0 (Int32.ofNat 0), ?_, ?_, h.m0 _, Nat.le_refl _, Nat.le_refl _⟩
      · simp only [bX1_odds_18, bX1_odds_77, bX1_odds_26, bX1_odds_0, fX1_odds, pq_lit]
        simp (disch := omega) only [↓gbd_h (k_isP h3 hW.1 _), k_isP h3 hW.1 _, e1, ↓gbd_h (c_isIn _ _ _), c_isIn _ _ _, e2, pq_lit, pq_add, pq_le, pq_lt, pq_eq, pq_en, pq_ne, pq_nle, pq_nlt, pq_len, pq_ltn, pB_z, pB_o, mzt_0, mzt_1, mzt_B, ↓gbd_s, gbd_s, ↓gnn_s, ↓grf_s, eq_self, ↓reduceIte, Nat.reduceEqDiff, Nat.reduceLeDiff, Nat.reduceLT, Nat.reduceMul, Nat.reduceAdd, not_true_eq_false, not_false_eq_true, Bool.false_eq_true]
      · simp only [bX5_odds_23, bX5_odds_84, bX5_odds_46, bX5_odds_0, fX5_odds, pq_lit]
        simp (disch := omega) only [↓mpt, ↓mbd_h (m_isPerson hI0 _), m_isPerson hI0 _, mF_a, e1, ↓mbd_h (m_isIn _ _ _), m_isIn _ _ _, e2, eq_self, ↓reduceIte, Nat.reduceEqDiff, Nat.reduceLeDiff, Nat.reduceLT, Nat.reduceMul, Nat.reduceAdd, not_true_eq_false, not_false_eq_true, Bool.false_eq_true, pq_lit, pq_add, pq_le, pq_lt, pq_eq, pq_en, pq_ne, pq_nle, pq_nlt, pq_len, pq_ltn, pB_z, pB_o, mzt_0, mzt_1, mzt_B, ↓mbd_s, mbd_s]
  · refine ⟨-Int32.ofNat 1, A, S, mF M 0 (Int32.ofNat 0), ?_, ?_, h.m0 _, Nat.le_refl _, Nat.le_refl _⟩
    · simp only [bX1_odds_18, bX1_odds_77, bX1_odds_26, bX1_odds_0, fX1_odds, pq_lit]
      simp (disch := omega) only [↓gbd_h (k_isP h3 hW.1 _), k_isP h3 hW.1 _, e1, pq_lit, pq_add, pq_le, pq_lt, pq_eq, pq_en, pq_ne, pq_nle, pq_nlt, pq_len, pq_ltn, pB_z, pB_o, mzt_0, mzt_1, mzt_B, ↓gbd_s, gbd_s, ↓gnn_s, ↓grf_s, eq_self, ↓reduceIte, Nat.reduceEqDiff, Nat.reduceLeDiff, Nat.reduceLT, Nat.reduceMul, Nat.reduceAdd, not_true_eq_false, not_false_eq_true, Bool.false_eq_true]
    · simp only [bX5_odds_23, bX5_odds_84, bX5_odds_46, bX5_odds_0, fX5_odds, pq_lit]
      simp (disch := omega) only [↓mpt, ↓mbd_h (m_isPerson hI0 _), m_isPerson hI0 _, mF_a, e1, eq_self, ↓reduceIte, Nat.reduceEqDiff, Nat.reduceLeDiff, Nat.reduceLT, Nat.reduceMul, Nat.reduceAdd, not_true_eq_false, not_false_eq_true, Bool.false_eq_true, pq_lit, pq_add, pq_le, pq_lt, pq_eq, pq_en, pq_ne, pq_nle, pq_nlt, pq_len, pq_ltn, pB_z, pB_o, mzt_0, mzt_1, mzt_B, ↓mbd_s, mbd_s]
end OD
