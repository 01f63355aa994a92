/-! said -/
section OY
variable {E : gE} {N b : Nat} {A : FA} {S : GS} {M : MS} {a : Nat} {d : AD} {p : Nat}
/-- how many, or which one -/
def sdF (V : Nat → Bool) (x : Int32) (n : Nat) : Nat → Nat → Nat → Int32
  | 0, _, c => if x = -Int32.ofNat 1 then Int32.ofNat c else -Int32.ofNat 1
  | k + 1, p, c => if V p = true then (if Int32.ofNat c = x then Int32.ofNat p else sdF V x n k (p + 1) (c + 1)) else sdF V x n k (p + 1) c
theorem c_sdL (hT : TA b S A 0 a d) (h3 : aR A 3 = some a) {r : Nat} (h6 : aR A 6 = some r) {V : Nat → Bool} (hV : ∀ p, p < nP (tS A 0) → zX31_holds E N 64 (put b A S) (some r) (some (tad b 0)) (Int32.ofNat p) = some (bI (V p), put b A S)) (x : Int32) : ∀ (k p c q : Nat), p + k = nP (tS A 0) → c ≤ p → k < q → bX1_said_13L E N b q (put b A S) x (Int32.ofNat c) (Int32.ofNat p) = some (sdF V x (nP (tS A 0)) k p c, put b A S)
  | k, p, c, 0, _, _, h => by omega
  | 0, p, c, q + 1, hk, _, _ => by
    have hp6 := hT.2.2.2.p6
    have kp := k_persons (E := E) (N := N) h3 hT.2.2.1
    have z : nP (tS A 0) ≤ p := by omega
    simp only [bX1_said_13L, bX1_said_13, bX1_said_65, pq_lit, sdF]
    by_cases w : x = -Int32.ofNat 1
    · simp (disch := omega) only [↓gbd_h (kp), kp, z, w, pq_lit, pq_add, pq_le, pq_lt, pq_eq, pq_en, pq_ne, pq_nle, pq_nlt, pq_len, pq_ltn, pB_z, pB_o, mzt_0, mzt_1, mzt_B, ↓gbd_s, gbd_s, ↓gnn_s, ↓grf_s, eq_self, ↓reduceIte, Nat.reduceEqDiff, Nat.reduceLeDiff, Nat.reduceLT, Nat.reduceMul, Nat.reduceAdd, not_true_eq_false, not_false_eq_true, Bool.false_eq_true]
    · simp (disch := omega) only [↓gbd_h (kp), kp, z, w, pq_lit, pq_add, pq_le, pq_lt, pq_eq, pq_en, pq_ne, pq_nle, pq_nlt, pq_len, pq_ltn, pB_z, pB_o, mzt_0, mzt_1, mzt_B, ↓gbd_s, gbd_s, ↓gnn_s, ↓grf_s, eq_self, ↓reduceIte, Nat.reduceEqDiff, Nat.reduceLeDiff, Nat.reduceLT, Nat.reduceMul, Nat.reduceAdd, not_true_eq_false, not_false_eq_true, Bool.false_eq_true]
  | k + 1, p, c, q + 1, hk, hc, hq => by
    have hp6 := hT.2.2.2.p6
    have kp := k_persons (E := E) (N := N) h3 hT.2.2.1
    have z : ¬ nP (tS A 0) ≤ p := by omega
    have v : vInchBorders_Cond_holds__LInchBorders_Times_I_Z E N (put b A S) (some r) (some (tad b 0)) (Int32.ofNat p) = _ := hV p (by omega)
    have i1 := c_sdL hT h3 h6 hV x k (p + 1) c q (by omega) (by omega) (by omega)
    have i2 := c_sdL hT h3 h6 hV x k (p + 1) (c + 1) q (by omega) (by omega) (by omega)
    simp only [bX1_said_13L, bX1_said_13, bX1_said_49, pq_lit, sdF]
    cases e : V p with
    | true =>
      rw [e] at v
      by_cases w : Int32.ofNat c = x
      · simp (disch := omega) only [↓gbd_h (kp), kp, z, ↓f_6, h6, ↓f_4, ↓gbd_h (v), v, bI_t, w, pq_lit, pq_add, pq_le, pq_lt, pq_eq, pq_en, pq_ne, pq_nle, pq_nlt, pq_len, pq_ltn, pB_z, pB_o, mzt_0, mzt_1, mzt_B, ↓gbd_s, gbd_s, ↓gnn_s, ↓grf_s, eq_self, ↓reduceIte, Nat.reduceEqDiff, Nat.reduceLeDiff, Nat.reduceLT, Nat.reduceMul, Nat.reduceAdd, not_true_eq_false, not_false_eq_true, Bool.false_eq_true]
      · simp (disch := omega) only [↓gbd_h (kp), kp, z, ↓f_6, h6, ↓f_4, ↓gbd_h (v), v, bI_t, w, i2, pq_lit, pq_add, pq_le, pq_lt, pq_eq, pq_en, pq_ne, pq_nle, pq_nlt, pq_len, pq_ltn, pB_z, pB_o, mzt_0, mzt_1, mzt_B, ↓gbd_s, gbd_s, ↓gnn_s, ↓grf_s, eq_self, ↓reduceIte, Nat.reduceEqDiff, Nat.reduceLeDiff, Nat.reduceLT, Nat.reduceMul, Nat.reduceAdd, not_true_eq_false, not_false_eq_true, Bool.false_eq_true]
    | false =>
      rw [e] at v
      simp (disch := omega) only [↓gbd_h (kp), kp, z, ↓f_6, h6, ↓f_4, ↓gbd_h (v), v, bI_f, i1, Bool.false_eq_true, pq_lit, pq_add, pq_le, pq_lt, pq_eq, pq_en, pq_ne, pq_nle, pq_nlt, pq_len, pq_ltn, pB_z, pB_o, mzt_0, mzt_1, mzt_B, ↓gbd_s, gbd_s, ↓gnn_s, ↓grf_s, eq_self, ↓reduceIte, Nat.reduceEqDiff, Nat.reduceLeDiff, Nat.reduceLT, Nat.reduceMul, Nat.reduceAdd, not_true_eq_false, not_false_eq_true, Bool.false_eq_true]
theorem m_sdL {s : St} (hI : IvS s) {V : Nat → Bool} (hV : ∀ p, p < nP s → ∀ M : MS, M.2.2.1 6 = s → ∃ f', fX5_isSaid N M (Int32.ofNat p) = some (bI (V p), mR M 56 f')) (x : Int32) : ∀ (k p c q : Nat) (M : MS), M.2.2.1 6 = s → p + k = nP s → c ≤ p → k < q → ∃ f', bX5_said_27L N q M x (Int32.ofNat c) (Int32.ofNat p) = some (sdF V x (nP s) k p c, mR M 56 f')
  | k, p, c, 0, M, _, _, _, h => by omega
  | 0, p, c, q + 1, M, h6, hk, _, _ => by
    have hp6 := hI.p6
    have z : nP s ≤ p := by omega
    refine ⟨M.2.2.1 56, ?_⟩
    rw [mR_id]
    simp only [bX5_said_27L, bX5_said_27, bX5_said_74, pq_lit, sdF]
    by_cases w : x = -Int32.ofNat 1
    · simp (disch := omega) only [↓mrd_n, mrd_n, h6, hI.c2, z, w, eq_self, ↓reduceIte, Nat.reduceEqDiff, Nat.reduceLeDiff, Nat.reduceLT, Nat.reduceMul, Nat.reduceAdd, not_true_eq_false, not_false_eq_true, Bool.false_eq_true, pq_lit, pq_add, pq_le, pq_lt, pq_eq, pq_en, pq_ne, pq_nle, pq_nlt, pq_len, pq_ltn, pB_z, pB_o, mzt_0, mzt_1, mzt_B]
    · simp (disch := omega) only [↓mrd_n, mrd_n, h6, hI.c2, z, w, eq_self, ↓reduceIte, Nat.reduceEqDiff, Nat.reduceLeDiff, Nat.reduceLT, Nat.reduceMul, Nat.reduceAdd, not_true_eq_false, not_false_eq_true, Bool.false_eq_true, pq_lit, pq_add, pq_le, pq_lt, pq_eq, pq_en, pq_ne, pq_nle, pq_nlt, pq_len, pq_ltn, pB_z, pB_o, mzt_0, mzt_1, mzt_B]
  | k + 1, p, c, q + 1, M, h6, hk, hc, hq => by
    have hp6 := hI.p6
    have z : ¬ nP s ≤ p := by omega
    obtain ⟨f1, v⟩ := hV p (by omega) M h6
    have g6 : (mR M 56 f1).2.2.1 6 = s := by rw [mA_n _ _ (by omega)]; exact h6
    obtain ⟨f2, i1⟩ := m_sdL hI hV x k (p + 1) c q (mR M 56 f1) g6 (by omega) (by omega) (by omega)
    obtain ⟨f3, i2⟩ := m_sdL hI hV x k (p + 1) (c + 1) q (mR M 56 f1) g6 (by omega) (by omega) (by omega)
    rw [mR_mR] at i1 i2
    simp only [bX5_said_27L, bX5_said_27, bX5_said_58, pq_lit, sdF]
    cases e : V p with
    | true =>
      rw [e] at v
      by_cases w : Int32.ofNat c = x
      · refine ⟨f1, ?_⟩
        simp (disch := omega) only [↓mrd_n, mrd_n, h6, hI.c2, z, ↓mbd_h (v), v, bI_t, w, eq_self, ↓reduceIte, Nat.reduceEqDiff, Nat.reduceLeDiff, Nat.reduceLT, Nat.reduceMul, Nat.reduceAdd, not_true_eq_false, not_false_eq_true, Bool.false_eq_true, pq_lit, pq_add, pq_le, pq_lt, pq_eq, pq_en, pq_ne, pq_nle, pq_nlt, pq_len, pq_ltn, pB_z, pB_o, mzt_0, mzt_1, mzt_B]
      · refine ⟨f3, ?_⟩
        simp (disch := omega) only [↓mrd_n, mrd_n, h6, hI.c2, z, ↓mbd_h (v), v, bI_t, w, i2, eq_self, ↓reduceIte, Nat.reduceEqDiff, Nat.reduceLeDiff, Nat.reduceLT, Nat.reduceMul, Nat.reduceAdd, not_true_eq_false, not_false_eq_true, Bool.false_eq_true, pq_lit, pq_add, pq_le, pq_lt, pq_eq, pq_en, pq_ne, pq_nle, pq_nlt, pq_len, pq_ltn, pB_z, pB_o, mzt_0, mzt_1, mzt_B]
    | false =>
      rw [e] at v
      refine ⟨f2, ?_⟩
      simp (disch := omega) only [↓mrd_n, mrd_n, h6, hI.c2, z, ↓mbd_h (v), v, bI_f, i1, Bool.false_eq_true, eq_self, ↓reduceIte, Nat.reduceEqDiff, Nat.reduceLeDiff, Nat.reduceLT, Nat.reduceMul, Nat.reduceAdd, not_true_eq_false, not_false_eq_true, Bool.false_eq_true, pq_lit, pq_add, pq_le, pq_lt, pq_eq, pq_en, pq_ne, pq_nle, pq_nlt, pq_len, pq_ltn, pB_z, pB_o, mzt_0, mzt_1, mzt_B]
theorem sdF_neg {V : Nat → Bool} {x : Int32} {n : Nat} (h : ¬ -Int32.ofNat 1 ≤ x) : ∀ (k p c : Nat), p + k ≤ 6 → c ≤ p → sdF V x n k p c = -Int32.ofNat 1
  | 0, _, c, _, _ => by
    unfold sdF
    rw [if_neg (fun w => h (by rw [w]; exact Int32.le_refl _))]
  | k + 1, p, c, hk, hc => by
    unfold sdF
    have ne : ¬ Int32.ofNat c = x := fun w => h (by rw [← w, pq_len (by omega)]; trivial)
    rw [if_neg ne, sdF_neg h k (p + 1) (c + 1) (by omega) (by omega), sdF_neg h k (p + 1) c (by omega) (by omega), ite_self]
theorem o_said (h : Rel E b A S M) (hN : 1000 ≤ N) (x : Int32) : Op E b S 0 0 (fX1_said E N (put b A S) b x) (fX5_said N M x) := by
  have hh := h
  obtain ⟨r1, r2, ⟨a, d, u, h3, h0, hs, hW, hU⟩, r4⟩ := h
  have hI := hW.2.2.2.1
  have h6 := hI.p6
  have hI0 : IvS ((mF M 0 (Int32.ofNat 0)).2.2.1 6) := hI
  have hT : TA b S A 0 a d := ⟨by omega, h0, by rw [hs]; exact hW.1, by rw [hs]; exact hI⟩
  rcases hW.2.2.1 with ⟨q1, q2⟩ | ⟨r, n, c, q1, q2, q3, q4, q5, q6, q7⟩
  · refine ⟨-Int32.ofNat 1, A, S, mF M 0 (Int32.ofNat 0), ?_, ?_, hh.m0 _, Nat.le_refl _, Nat.le_refl _⟩
    · simp only [fX1_said, bX1_said_0, pq_lit]
      simp (disch := omega) only [↓f_6, q1, pq_lit, pq_add, pq_le, pq_lt, pq_eq, pq_en, pq_ne, pq_nle, pq_nlt, pq_len, pq_ltn, pB_z, pB_o, mzt_0, mzt_1, mzt_B, ↓gbd_s, gbd_s, ↓gnn_s, ↓grf_s, eq_self, ↓reduceIte, Nat.reduceEqDiff, Nat.reduceLeDiff, Nat.reduceLT, Nat.reduceMul, Nat.reduceAdd, not_true_eq_false, not_false_eq_true, Bool.false_eq_true]
    · simp only [fX5_said, bX5_said_0, bX5_said_21, pq_lit]
      simp (disch := omega) only [↓mpt, ↓mrd_n, mrd_n, mF_a, q2, eq_self, ↓reduceIte, Nat.reduceEqDiff, Nat.reduceLeDiff, Nat.reduceLT, Nat.reduceMul, Nat.reduceAdd, not_true_eq_false, not_false_eq_true, Bool.false_eq_true, pq_lit, pq_add, pq_le, pq_lt, pq_eq, pq_en, pq_ne, pq_nle, pq_nlt, pq_len, pq_ltn, pB_z, pB_o, mzt_0, mzt_1, mzt_B]
  · have hL : tS A 0 138 = Int32.ofNat c.length := by rw [hs]; exact q6
    have cb := fun p (hp : p < nP (tS A 0)) => cnd_b (E := E) (N := N) hN hT hp hL q5 n r c (by rw [hs]; exact q3)
    have ex : ∃ V : Nat → Bool, ∀ p, p < nP (tS A 0) → 1 ≤ c.length ∧ (∀ dd, n ≤ dd → zX31_holds E N dd (put b A S) (some r) (some (tad b 0)) (Int32.ofNat p) = some (bI (V p), put b A S)) ∧ ∀ (q D i : Nat) (M : MS), M.2.2.1 6 = tS A 0 → CdIn (tS A 0) (139 + 3 * i) c → D ≤ i → i + c.length ≤ c.length → ∃ f', (∀ j, j < D → f' j = M.2.2.1 56 j) ∧ f' D = bI (V p) ∧ bX5_isSaid_4L N (q + c.length) M (Int32.ofNat p) (Int32.ofNat D) (Int32.ofNat i) = bX5_isSaid_4L N q (mR M 56 f') (Int32.ofNat p) (Int32.ofNat (D + 1)) (Int32.ofNat (i + c.length)) := by
      refine ⟨fun p => if hp : p < nP (tS A 0) then (cb p hp).choose else false, fun p hp => ?_⟩
      simp only [dif_pos hp]
      exact (cb p hp).choose_spec
    obtain ⟨V, hV⟩ := ex
    rw [hs] at hV
    have hVm : ∀ p, p < nP (M.2.2.1 6) → ∀ M' : MS, M'.2.2.1 6 = M.2.2.1 6 → ∃ f', fX5_isSaid N M' (Int32.ofNat p) = some (bI (V p), mR M' 56 f') := by
      intro p hp M' m6
      obtain ⟨f', a1, a2, a3⟩ := (hV p hp).2.2 (N - c.length) 0 0 M' m6 q7 (by omega) (by omega)
      refine ⟨f', ?_⟩
      rw [show N - c.length + c.length = N by omega] at a3
      have z : c.length ≤ 0 + c.length := by omega
      refine Eq.trans (b := bX5_isSaid_4L N N M' (Int32.ofNat p) (Int32.ofNat 0) (Int32.ofNat 0)) (by simp only [fX5_isSaid, bX5_isSaid_0, pq_lit]) (a3.trans ?_)
      obtain ⟨q', hq'⟩ : ∃ q', N - c.length = q' + 1 := ⟨N - c.length - 1, by omega⟩
      rw [hq']
      simp only [bX5_isSaid_4L, bX5_isSaid_4, pq_lit]
      cases e : V p with
      | true =>
        rw [e] at a2
        simp (disch := omega) only [↓mrd_n, mrd_n, mA_n, mA_e, m6, q6, z, a2, bI_t, mzt_1, eq_self, ↓reduceIte, Nat.reduceEqDiff, Nat.reduceLeDiff, Nat.reduceLT, Nat.reduceMul, Nat.reduceAdd, not_true_eq_false, not_false_eq_true, Bool.false_eq_true, pq_lit, pq_add, pq_le, pq_lt, pq_eq, pq_en, pq_ne, pq_nle, pq_nlt, pq_len, pq_ltn, pB_z, pB_o, mzt_0, mzt_1, mzt_B]
      | false =>
        rw [e] at a2
        simp (disch := omega) only [↓mrd_n, mrd_n, mA_n, mA_e, m6, q6, z, a2, bI_f, mzt_0, eq_self, ↓reduceIte, Nat.reduceEqDiff, Nat.reduceLeDiff, Nat.reduceLT, Nat.reduceMul, Nat.reduceAdd, not_true_eq_false, not_false_eq_true, Bool.false_eq_true, pq_lit, pq_add, pq_le, pq_lt, pq_eq, pq_en, pq_ne, pq_nle, pq_nlt, pq_len, pq_ltn, pB_z, pB_o, mzt_0, mzt_1, mzt_B]
    have cs := c_sdL (E := E) (N := N) hT h3 q1 (V := V) (fun p hp => (hV p (by rw [← hs]; exact hp)).2.1 64 (by omega)) x (nP (tS A 0)) 0 0 N (by omega) (by omega) (by rw [hs]; omega)
    rw [hs] at cs
    have cc : fX1_said E N (put b A S) b x = some (sdF V x (nP (M.2.2.1 6)) (nP (M.2.2.1 6)) 0 0, put b A S) := by
      refine Eq.trans ?_ cs
      simp only [fX1_said, bX1_said_0, pq_lit]
      simp (disch := omega) only [↓f_6, q1, reduceCtorEq, pq_lit, pq_add, pq_le, pq_lt, pq_eq, pq_en, pq_ne, pq_nle, pq_nlt, pq_len, pq_ltn, pB_z, pB_o, mzt_0, mzt_1, mzt_B, ↓gbd_s, gbd_s, ↓gnn_s, ↓grf_s, eq_self, ↓reduceIte, Nat.reduceEqDiff, Nat.reduceLeDiff, Nat.reduceLT, Nat.reduceMul, Nat.reduceAdd, not_true_eq_false, not_false_eq_true, Bool.false_eq_true]
    have nz : ¬ c.length = 0 := by omega
    by_cases w : -Int32.ofNat 1 ≤ x
    · obtain ⟨f', ms⟩ := m_sdL (N := N) (s := M.2.2.1 6) hI (V := V) hVm x (nP (M.2.2.1 6)) 0 0 N (mF M 0 (Int32.ofNat 0)) rfl (by omega) (by omega) (by omega)
      refine ⟨_, A, S, mR (mF M 0 (Int32.ofNat 0)) 56 f', cc, Eq.trans ?_ ms, hh.mm (ks := [0, 56]) ((mSm.rf.mF _ (by decide)).mR _ (by decide)) (by decide), Nat.le_refl _, Nat.le_refl _⟩
      simp only [fX5_said, bX5_said_0, pq_lit]
      simp (disch := omega) only [↓mpt, ↓mrd_n, mrd_n, mF_a, q6, nz, w, eq_self, ↓reduceIte, Nat.reduceEqDiff, Nat.reduceLeDiff, Nat.reduceLT, Nat.reduceMul, Nat.reduceAdd, not_true_eq_false, not_false_eq_true, Bool.false_eq_true, pq_lit, pq_add, pq_le, pq_lt, pq_eq, pq_en, pq_ne, pq_nle, pq_nlt, pq_len, pq_ltn, pB_z, pB_o, mzt_0, mzt_1, mzt_B]
    · rw [sdF_neg w _ 0 0 (by omega) (by omega)] at cc
      refine ⟨_, A, S, mF M 0 (Int32.ofNat 0), cc, ?_, hh.m0 _, Nat.le_refl _, Nat.le_refl _⟩
      simp only [fX5_said, bX5_said_0, bX5_said_21, pq_lit]
      simp (disch := omega) only [↓mpt, ↓mrd_n, mrd_n, mF_a, q6, nz, w, eq_self, ↓reduceIte, Nat.reduceEqDiff, Nat.reduceLeDiff, Nat.reduceLT, Nat.reduceMul, Nat.reduceAdd, not_true_eq_false, not_false_eq_true, Bool.false_eq_true, pq_lit, pq_add, pq_le, pq_lt, pq_eq, pq_en, pq_ne, pq_nle, pq_nlt, pq_len, pq_ltn, pB_z, pB_o, mzt_0, mzt_1, mzt_B]
end OY
