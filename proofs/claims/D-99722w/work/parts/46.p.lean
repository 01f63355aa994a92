/-! now, person, feed -/
section OG
variable {E : gE} {N b : Nat} {A : FA} {S : GS} {M : MS}
theorem c_whoL {a : Nat} {d : AD} (h3 : aR A 3 = some a) (hT : TA b S A 0 a d) (hN : 1000 ≤ N) (w : Bool) : ∀ (k p n : Nat) (v : Int32), p + k = nP (tS A 0) → k < n → bX1_who_4L E N b n (put b A S) (pB (w = true)) v (Int32.ofNat p) = some (setF (fun p => if w = true then decide (tS A 0 (108 + p) = tS A 0 (79 + p)) else decide (canS (tS A 0) p = Int32.ofNat 0)) v p k, put b A S)
  | k, p, 0, _, _, h => by omega
  | 0, p, n + 1, v, hk, _ => by
    have h6 := hT.2.2.2.p6
    have q : nP (tS A 0) ≤ p := by omega
    simp only [bX1_who_4L, bX1_who_56, bX1_who_50, bX1_who_4, bX1_who_0, fX1_who, pq_lit]
    simp (disch := omega) only [↓gbd_h (k_persons h3 hT.2.2.1), k_persons h3 hT.2.2.1, q, pq_lit, pq_add, pq_le, pq_lt, pq_eq, pq_en, pq_ne, pq_nle, pq_nlt, pq_len, pq_ltn, pB_z, pB_o, mzt_0, mzt_1, mzt_B, ↓gbd_s, gbd_s, ↓gnn_s, ↓grf_s, eq_self, ↓reduceIte, Nat.reduceEqDiff, Nat.reduceLeDiff, Nat.reduceLT, Nat.reduceMul, Nat.reduceAdd, not_true_eq_false, not_false_eq_true, Bool.false_eq_true, setF]
  | k + 1, p, n + 1, v, hk, hn => by
    have h6 := hT.2.2.2.p6
    have hp : p < nP (tS A 0) := by omega
    have q : ¬ nP (tS A 0) ≤ p := by omega
    have ih := fun v => c_whoL h3 hT hN w k (p + 1) n v (by omega) (by omega)
    have hj := hT.1
    have ch := a_home (E := E) (N := N) (A := A) hT.2.2.1 hp
    have cc := c_can (E := E) (N := N) hT (show 100 ≤ N by omega) hp
    simp only [bX1_who_4L, bX1_who_56, bX1_who_50, bX1_who_4, bX1_who_0, fX1_who, vInchBorders_Times_canCross__I_I, pq_lit]
    cases w with
    | true =>
      simp (disch := omega) only [↓gbd_h (k_persons h3 hT.2.2.1), k_persons h3 hT.2.2.1, q, ↓f_4, ↓f_3, h3, ↓t_34, t_34, ↓t_g3, t_g3, ↓gbd_h (ch), ch, pq_lit, pq_add, pq_le, pq_lt, pq_eq, pq_en, pq_ne, pq_nle, pq_nlt, pq_len, pq_ltn, pB_z, pB_o, mzt_0, mzt_1, mzt_B, ↓gbd_s, gbd_s, ↓gnn_s, ↓grf_s, eq_self, ↓reduceIte, Nat.reduceEqDiff, Nat.reduceLeDiff, Nat.reduceLT, Nat.reduceMul, Nat.reduceAdd, not_true_eq_false, not_false_eq_true, Bool.false_eq_true, p1_e, setF, decide_eq_true_eq]
      have ih' := ih
      simp only [eq_self, ↓reduceIte, Nat.reduceEqDiff, Nat.reduceLeDiff, Nat.reduceLT, Nat.reduceMul, Nat.reduceAdd, not_true_eq_false, not_false_eq_true, Bool.false_eq_true, pq_lit, pq_add, pq_le, pq_lt, pq_eq, pq_en, pq_ne, pq_nle, pq_nlt, pq_len, pq_ltn, pB_z, pB_o, mzt_0, mzt_1, mzt_B] at ih'
      by_cases z : tS A 0 (108 + p) = tS A 0 (79 + p)
      · rw [if_pos z, if_pos z]; exact ih' _
      · rw [if_neg z, if_neg z]; exact ih' _
    | false =>
      simp (disch := omega) only [↓gbd_h (k_persons h3 hT.2.2.1), k_persons h3 hT.2.2.1, q, ↓f_4, ↓t_cls, t_cls, ↓gbd_h (cc), cc, pq_lit, pq_add, pq_le, pq_lt, pq_eq, pq_en, pq_ne, pq_nle, pq_nlt, pq_len, pq_ltn, pB_z, pB_o, mzt_0, mzt_1, mzt_B, ↓gbd_s, gbd_s, ↓gnn_s, ↓grf_s, eq_self, ↓reduceIte, Nat.reduceEqDiff, Nat.reduceLeDiff, Nat.reduceLT, Nat.reduceMul, Nat.reduceAdd, not_true_eq_false, not_false_eq_true, Bool.false_eq_true, p1_e, setF, decide_eq_true_eq]
      have ih' := ih
      simp only [eq_self, ↓reduceIte, Nat.reduceEqDiff, Nat.reduceLeDiff, Nat.reduceLT, Nat.reduceMul, Nat.reduceAdd, not_true_eq_false, not_false_eq_true, Bool.false_eq_true, pq_lit, pq_add, pq_le, pq_lt, pq_eq, pq_en, pq_ne, pq_nle, pq_nlt, pq_len, pq_ltn, pB_z, pB_o, mzt_0, mzt_1, mzt_B] at ih'
      by_cases z : canS (tS A 0) p = Int32.ofNat 0
      · rw [if_pos z, if_pos z]; exact ih' _
      · rw [if_neg z, if_neg z]; exact ih' _
theorem c_sumL (hj : 0 < 12) : ∀ (k l n : Nat) (v : Int32), l + k = 7 → k < n → bX1_sum_10L E N n (put b A S) v (some (tad b 0 + 1)) (Int32.ofNat 7) (Int32.ofNat l) = some (sumF (fun l => tS A 0 (94 + l)) v l k, put b A S)
  | k, l, 0, _, _, h => by omega
  | 0, l, n + 1, v, hk, _ => by
    have q : 7 ≤ l := by omega
    simp only [bX1_sum_10L, bX1_sum_10, bX1_sum_0, fX1_sum, pq_lit]
    simp (disch := omega) only [q, pq_lit, pq_add, pq_le, pq_lt, pq_eq, pq_en, pq_ne, pq_nle, pq_nlt, pq_len, pq_ltn, pB_z, pB_o, mzt_0, mzt_1, mzt_B, ↓gbd_s, gbd_s, ↓gnn_s, ↓grf_s, eq_self, ↓reduceIte, Nat.reduceEqDiff, Nat.reduceLeDiff, Nat.reduceLT, Nat.reduceMul, Nat.reduceAdd, not_true_eq_false, not_false_eq_true, Bool.false_eq_true, sumF]
  | k + 1, l, n + 1, v, hk, hn => by
    have q : ¬ 7 ≤ l := by omega
    have ih := fun v => c_sumL hj k (l + 1) n v (by omega) (by omega)
    simp only [bX1_sum_10L, bX1_sum_10, bX1_sum_0, fX1_sum, pq_lit]
    simp (disch := omega) only [q, ↓t_g1, t_g1, pq_lit, pq_add, pq_le, pq_lt, pq_eq, pq_en, pq_ne, pq_nle, pq_nlt, pq_len, pq_ltn, pB_z, pB_o, mzt_0, mzt_1, mzt_B, ↓gbd_s, gbd_s, ↓gnn_s, ↓grf_s, eq_self, ↓reduceIte, Nat.reduceEqDiff, Nat.reduceLeDiff, Nat.reduceLT, Nat.reduceMul, Nat.reduceAdd, not_true_eq_false, not_false_eq_true, Bool.false_eq_true, ih, sumF]
theorem c_trL (hj : 0 < 12) : ∀ (k l n : Nat) (v : Int32), l + k = 7 → k < n → bX1_now_120L E N b n (put b A S) v (some (tad b 0 + 2)) (Int32.ofNat 7) (Int32.ofNat l) = some (sumF (fun l => mny (tS A 0 (101 + l))) v l k, put b A S)
  | k, l, 0, _, _, h => by omega
  | 0, l, n + 1, v, hk, _ => by
    have q : 7 ≤ l := by omega
    simp only [bX1_now_120L, bX1_now_120, pq_lit]
    simp (disch := omega) only [q, pq_lit, pq_add, pq_le, pq_lt, pq_eq, pq_en, pq_ne, pq_nle, pq_nlt, pq_len, pq_ltn, pB_z, pB_o, mzt_0, mzt_1, mzt_B, ↓gbd_s, gbd_s, ↓gnn_s, ↓grf_s, eq_self, ↓reduceIte, Nat.reduceEqDiff, Nat.reduceLeDiff, Nat.reduceLT, Nat.reduceMul, Nat.reduceAdd, not_true_eq_false, not_false_eq_true, Bool.false_eq_true, sumF]
  | k + 1, l, n + 1, v, hk, hn => by
    have q : ¬ 7 ≤ l := by omega
    have ih := fun v => c_trL hj k (l + 1) n v (by omega) (by omega)
    simp only [bX1_now_120L, bX1_now_120, pq_lit]
    simp (disch := omega) only [q, ↓t_g2, t_g2, ↓gbd_h (c_mny _), c_mny _, pq_lit, pq_add, pq_le, pq_lt, pq_eq, pq_en, pq_ne, pq_nle, pq_nlt, pq_len, pq_ltn, pB_z, pB_o, mzt_0, mzt_1, mzt_B, ↓gbd_s, gbd_s, ↓gnn_s, ↓grf_s, eq_self, ↓reduceIte, Nat.reduceEqDiff, Nat.reduceLeDiff, Nat.reduceLT, Nat.reduceMul, Nat.reduceAdd, not_true_eq_false, not_false_eq_true, Bool.false_eq_true, ih, sumF]
/-- what now answers -/
noncomputable def nowV (s : St) (x x2 x3 x4 x5 : Int32) : Int32 := if x = Int32.ofNat 0 then s 91 else if x = Int32.ofNat 1 then lenS s else if x = Int32.ofNat 2 then x4 else if x = Int32.ofNat 3 then s 92 else if x = Int32.ofNat 4 then s 93 else if x = Int32.ofNat 5 then x2 else if x = Int32.ofNat 6 then x3 else if x = Int32.ofNat 7 then x5 else -Int32.ofNat 1
theorem m_nowB (hI : IvS (M.2.2.1 6)) (hB : IvB (M.2.2.1 6)) (hN : 1000 ≤ N) {x x2 x3 : Int32} : ∀ (k l n : Nat) (x4 x5 : Int32), l + k = nL (M.2.2.1 6) → k < n → bX5_now_92L N n M x x2 x3 x4 x5 (Int32.ofNat l) = some (nowV (M.2.2.1 6) x x2 x3 (sumF (fun l => M.2.2.1 6 (94 + l)) x4 l k) (sumF (fun l => mny (M.2.2.1 6 (101 + l))) x5 l k), M)
  | k, l, 0, _, _, _, h => by omega
  | 0, l, n + 1, x4, x5, hk, _ => by
    have h7 := hI.l7
    have q : nL (M.2.2.1 6) ≤ l := by omega
    simp only [bX5_now_92L, bX5_now_92, pq_lit]
    simp (disch := omega) only [↓mrd_n, mrd_n, hI.c0, q, ↓mbd_h (m_len hI (show 100 ≤ N by omega)), m_len hI (show 100 ≤ N by omega), eq_self, ↓reduceIte, Nat.reduceEqDiff, Nat.reduceLeDiff, Nat.reduceLT, Nat.reduceMul, Nat.reduceAdd, not_true_eq_false, not_false_eq_true, Bool.false_eq_true, pq_lit, pq_add, pq_le, pq_lt, pq_eq, pq_en, pq_ne, pq_nle, pq_nlt, pq_len, pq_ltn, pB_z, pB_o, mzt_0, mzt_1, mzt_B, sumF, nowV]
    repeat' split
    all_goals rfl
  | k + 1, l, n + 1, x4, x5, hk, hn => by
    have h7 := hI.l7
    have q : ¬ nL (M.2.2.1 6) ≤ l := by omega
    obtain ⟨v, v1, v2⟩ := hB.1 l (by omega)
    have mb := m_bits (N := N) (S := M) (show 100 ≤ N by omega) (show v < 4096 by omega)
    rw [← v2] at mb
    have ih := fun x4 x5 => m_nowB hI hB hN (x := x) (x2 := x2) (x3 := x3) k (l + 1) n x4 x5 (by omega) (by omega)
    simp only [bX5_now_92L, bX5_now_92, pq_lit]
    simp (disch := omega) only [↓mrd_n, mrd_n, hI.c0, q, ↓mbd_h (mb), mb, eq_self, ↓reduceIte, Nat.reduceEqDiff, Nat.reduceLeDiff, Nat.reduceLT, Nat.reduceMul, Nat.reduceAdd, not_true_eq_false, not_false_eq_true, Bool.false_eq_true, pq_lit, pq_add, pq_le, pq_lt, pq_eq, pq_en, pq_ne, pq_nle, pq_nlt, pq_len, pq_ltn, pB_z, pB_o, mzt_0, mzt_1, mzt_B, sumF, ih]
theorem m_nowA (hI : IvS (M.2.2.1 6)) (hB : IvB (M.2.2.1 6)) (hN : 1000 ≤ N) {x : Int32} : ∀ (k p n : Nat) (x2 x3 : Int32), p + k = nP (M.2.2.1 6) → k < n → bX5_now_18L N n M x x2 x3 (Int32.ofNat 0) (Int32.ofNat 0) (Int32.ofNat p) = some (nowV (M.2.2.1 6) x (setF (fun p => decide (M.2.2.1 6 (108 + p) = M.2.2.1 6 (79 + p))) x2 p k) (setF (fun p => decide (canS (M.2.2.1 6) p = Int32.ofNat 0)) x3 p k) (sumF (fun l => M.2.2.1 6 (94 + l)) (Int32.ofNat 0) 0 (nL (M.2.2.1 6))) (sumF (fun l => mny (M.2.2.1 6 (101 + l))) (Int32.ofNat 0) 0 (nL (M.2.2.1 6))), M)
  | k, p, 0, _, _, _, h => by omega
  | 0, p, n + 1, x2, x3, hk, _ => by
    have h6 := hI.p6
    have h7 := hI.l7
    have q : nP (M.2.2.1 6) ≤ p := by omega
    have g := m_nowB (N := N) hI hB hN (x := x) (x2 := x2) (x3 := x3) (nL (M.2.2.1 6)) 0 N (Int32.ofNat 0) (Int32.ofNat 0) (by omega) (by omega)
    simp only [bX5_now_18L, bX5_now_18, pq_lit]
    simp (disch := omega) only [↓mrd_n, mrd_n, hI.c2, q, eq_self, ↓reduceIte, Nat.reduceEqDiff, Nat.reduceLeDiff, Nat.reduceLT, Nat.reduceMul, Nat.reduceAdd, not_true_eq_false, not_false_eq_true, Bool.false_eq_true, pq_lit, pq_add, pq_le, pq_lt, pq_eq, pq_en, pq_ne, pq_nle, pq_nlt, pq_len, pq_ltn, pB_z, pB_o, mzt_0, mzt_1, mzt_B, setF, g]
  | k + 1, p, n + 1, x2, x3, hk, hn => by
    have h6 := hI.p6
    have hp : p < nP (M.2.2.1 6) := by omega
    have q : ¬ nP (M.2.2.1 6) ≤ p := by omega
    have mc := m_can (N := N) hI (show 100 ≤ N by omega) hp
    have ih := fun x2 x3 => m_nowA hI hB hN (x := x) k (p + 1) n x2 x3 (by omega) (by omega)
    simp only [bX5_now_18L, bX5_now_18, bX5_now_61, bX5_now_81, pq_lit]
    by_cases z1 : M.2.2.1 6 (108 + p) = M.2.2.1 6 (79 + p)
    · by_cases z2 : canS (M.2.2.1 6) p = Int32.ofNat 0
      · simp (disch := omega) only [↓mrd_n, mrd_n, hI.c2, q, z1, z2, ↓mbd_h (mc), mc, eq_self, ↓reduceIte, Nat.reduceEqDiff, Nat.reduceLeDiff, Nat.reduceLT, Nat.reduceMul, Nat.reduceAdd, not_true_eq_false, not_false_eq_true, Bool.false_eq_true, pq_lit, pq_add, pq_le, pq_lt, pq_eq, pq_en, pq_ne, pq_nle, pq_nlt, pq_len, pq_ltn, pB_z, pB_o, mzt_0, mzt_1, mzt_B, setF, p1_e, pq_or0, ih, decide_true]
      · simp (disch := omega) only [↓mrd_n, mrd_n, hI.c2, q, z1, z2, ↓mbd_h (mc), mc, eq_self, ↓reduceIte, Nat.reduceEqDiff, Nat.reduceLeDiff, Nat.reduceLT, Nat.reduceMul, Nat.reduceAdd, not_true_eq_false, not_false_eq_true, Bool.false_eq_true, pq_lit, pq_add, pq_le, pq_lt, pq_eq, pq_en, pq_ne, pq_nle, pq_nlt, pq_len, pq_ltn, pB_z, pB_o, mzt_0, mzt_1, mzt_B, setF, p1_e, pq_or0, ih, decide_true, decide_false]
    · by_cases z2 : canS (M.2.2.1 6) p = Int32.ofNat 0
      · simp (disch := omega) only [↓mrd_n, mrd_n, hI.c2, q, z1, z2, ↓mbd_h (mc), mc, eq_self, ↓reduceIte, Nat.reduceEqDiff, Nat.reduceLeDiff, Nat.reduceLT, Nat.reduceMul, Nat.reduceAdd, not_true_eq_false, not_false_eq_true, Bool.false_eq_true, pq_lit, pq_add, pq_le, pq_lt, pq_eq, pq_en, pq_ne, pq_nle, pq_nlt, pq_len, pq_ltn, pB_z, pB_o, mzt_0, mzt_1, mzt_B, setF, p1_e, pq_or0, ih, decide_true, decide_false]
      · simp (disch := omega) only [↓mrd_n, mrd_n, hI.c2, q, z1, z2, ↓mbd_h (mc), mc, eq_self, ↓reduceIte, Nat.reduceEqDiff, Nat.reduceLeDiff, Nat.reduceLT, Nat.reduceMul, Nat.reduceAdd, not_true_eq_false, not_false_eq_true, Bool.false_eq_true, pq_lit, pq_add, pq_le, pq_lt, pq_eq, pq_en, pq_ne, pq_nle, pq_nlt, pq_len, pq_ltn, pB_z, pB_o, mzt_0, mzt_1, mzt_B, setF, p1_e, pq_or0, ih, decide_true, decide_false]
theorem mny_0 : mny (Int32.ofNat 0) = Int32.ofNat 0 := (mny_p (v := 0) (by omega)).2
theorem o_now (h : Rel E b A S M) (hN : 1000 ≤ N) (x : Int32) : Op E b S 0 0 (fX1_now E N (put b A S) b x) (fX5_now N M x) := by
  obtain ⟨a, d, u, h3, h0, hs, hW, hU⟩ := h.2.2.1
  have hI := hW.2.2.2.1
  have hZ := hW.2.2.2.2.2.1
  have hB := hW.2.2.2.2.2.2.2.1
  have h6 := hI.p6
  have h7 := hI.l7
  have hI0 : IvS ((mF M 0 (Int32.ofNat 0)).2.2.1 6) := hI
  have hT : TA b S A 0 a d := ⟨by omega, h0, by rw [hs]; exact hW.1, by rw [hs]; exact hI⟩
  have g := m_nowA (N := N) hI0 hB hN (x := x) (nP (M.2.2.1 6)) 0 N (Int32.ofNat 0) (Int32.ofNat 0) (Nat.zero_add _) (by omega)
  have w1 := c_whoL (E := E) (N := N) h3 hT hN true (nP (tS A 0)) 0 N (Int32.ofNat 0) (by omega) (by rw [hs]; omega)
  have w2 := c_whoL (E := E) (N := N) h3 hT hN false (nP (tS A 0)) 0 N (Int32.ofNat 0) (by omega) (by rw [hs]; omega)
  have s1 := c_sumL (E := E) (N := N) (b := b) (A := A) (S := S) (by omega) 7 0 N (Int32.ofNat 0) (by omega) (by omega)
  have s2 := c_trL (E := E) (N := N) (b := b) (A := A) (S := S) (by omega) 7 0 N (Int32.ofNat 0) (by omega) (by omega)
  have ln := c_len (E := E) (N := N) hT (by omega) (by rw [hs]; exact hZ)
  have z1 : sumF (fun l => M.2.2.1 6 (94 + l)) (Int32.ofNat 0) 0 7 = sumF (fun l => M.2.2.1 6 (94 + l)) (Int32.ofNat 0) 0 (nL (M.2.2.1 6)) := by
    rw [show 7 = nL (M.2.2.1 6) + (7 - nL (M.2.2.1 6)) by omega, sumF_add, sumF_z]
    intro q q1 q2
    exact (hZ.1 q (by omega) (by omega)).1
  have z2 : sumF (fun l => mny (M.2.2.1 6 (101 + l))) (Int32.ofNat 0) 0 7 = sumF (fun l => mny (M.2.2.1 6 (101 + l))) (Int32.ofNat 0) 0 (nL (M.2.2.1 6)) := by
    rw [show 7 = nL (M.2.2.1 6) + (7 - nL (M.2.2.1 6)) by omega, sumF_add, sumF_z]
    intro q q1 q2
    show mny _ = _
    rw [(hZ.1 q (by omega) (by omega)).2]
    exact mny_0
  rw [hs] at w1 w2 s1 s2 ln
  rw [z1] at s1
  rw [z2] at s2
  rw [pB_t (show true = true from rfl)] at w1
  rw [pB_f (show ¬ false = true by decide)] at w2
  simp only [if_true, if_false, Bool.false_eq_true] at w1 w2
  refine ⟨_, A, S, mF M 0 (Int32.ofNat 0), ?_, (by
    simp only [fX5_now, bX5_now_0, pq_lit, mpt]
    exact g), h.m0 _, Nat.le_refl _, Nat.le_refl _⟩
  simp only [fX1_now, bX1_now_0, vInchBorders_Times_lengths___I, vInchBorders_who__Z_I, fX1_sum, bX1_sum_0, fX1_who, bX1_who_0, pq_lit]
  simp (disch := omega) only [↓f_4, ↓t_29, t_29, ↓t_30, t_30, ↓t_31, t_31, ↓t_cls, t_cls, ↓f_cls, ↓gbd_h (ln), ln, ↓t_32, t_32, ↓t_33, t_33, ↓t_l1, t_l1, ↓t_l2, t_l2, ↓gbd_h (s1), s1, s2, ↓gbd_h (w1), w1, ↓gbd_h (w2), w2, hs, pq_lit, pq_add, pq_le, pq_lt, pq_eq, pq_en, pq_ne, pq_nle, pq_nlt, pq_len, pq_ltn, pB_z, pB_o, mzt_0, mzt_1, mzt_B, ↓gbd_s, gbd_s, ↓gnn_s, ↓grf_s, eq_self, ↓reduceIte, Nat.reduceEqDiff, Nat.reduceLeDiff, Nat.reduceLT, Nat.reduceMul, Nat.reduceAdd, not_true_eq_false, not_false_eq_true, Bool.false_eq_true, mF_a, nowV]
  repeat' split
  all_goals rfl
/-- what is asked of a person -/
def perV (s : St) (p : Nat) (y : Int32) : Int32 := if y = Int32.ofNat 0 then s (79 + p) else if y = Int32.ofNat 1 then s (108 + p) else if y = Int32.ofNat 2 then s (114 + p) else if y = Int32.ofNat 3 then s (120 + p) else if y = Int32.ofNat 4 then s (126 + p) else if y = Int32.ofNat 5 then s (132 + p) else canS s p
theorem o_person (h : Rel E b A S M) (hN : 1000 ≤ N) (x y : Int32) (e : ∀ s, s = M.2.2.1 6 → inN x (nP s) = true ∧ (Int32.ofNat 0 ≤ y ∧ y ≤ Int32.ofNat 6)) : ∃ r, fX1_person E N (put b A S) b x y = some (r, put b A S) ∧ fX5_person N M x y = some (r, mF M 0 (Int32.ofNat 0)) := by
  obtain ⟨a, d, u, h3, h0, hs, hW, hU⟩ := h.2.2.1
  have hI := hW.2.2.2.1
  have h6 := hI.p6
  obtain ⟨e1, e2⟩ := e _ rfl
  have hT : TA b S A 0 a d := ⟨by omega, h0, by rw [hs]; exact hW.1, by rw [hs]; exact hI⟩
  have e0 := e1
  obtain ⟨p, hp, rfl⟩ := (inN_i (by omega)).mp e1
  have ch := a_home (E := E) (N := N) (A := A) hW.1 hp
  have cc := c_can (E := E) (N := N) hT (show 100 ≤ N by omega) (p := p) (by rw [hs]; exact hp)
  have mc := m_can (N := N) (S := mF M 0 (Int32.ofNat 0)) hI (show 100 ≤ N by omega) hp
  rw [hs] at cc
  refine ⟨perV (M.2.2.1 6) p y, ?_, ?_⟩
  · simp only [bX1_person_23, bX1_person_22, bX1_person_0, fX1_person, bX1_need_0, fX1_need, vInchBorders_Times_canCross__I_I, pq_lit]
    simp (disch := omega) only [↓gbd_h (k_isP h3 hW.1 _), k_isP h3 hW.1 _, e0, ↓gbd_h (c_isIn _ _ _), c_isIn _ _ _, e2, and_self, ↓f_3, h3, ↓gbd_h (ch), ch, ↓f_4, ↓t_34, t_34, ↓t_35, t_35, ↓t_36, t_36, ↓t_37, t_37, ↓t_38, t_38, ↓t_g3, t_g3, ↓t_g4, t_g4, ↓t_g5, t_g5, ↓t_g6, t_g6, ↓t_g7, t_g7, ↓t_cls, t_cls, ↓gbd_h (cc), cc, hs, pq_lit, pq_add, pq_le, pq_lt, pq_eq, pq_en, pq_ne, pq_nle, pq_nlt, pq_len, pq_ltn, pB_z, pB_o, mzt_0, mzt_1, mzt_B, ↓gbd_s, gbd_s, ↓gnn_s, ↓grf_s, eq_self, ↓reduceIte, Nat.reduceEqDiff, Nat.reduceLeDiff, Nat.reduceLT, Nat.reduceMul, Nat.reduceAdd, not_true_eq_false, not_false_eq_true, Bool.false_eq_true, perV]
    repeat' split
    all_goals rfl
  · simp only [bX5_person_24, bX5_person_19, bX5_person_0, fX5_person, bX5_throwsIf_10, bX5_throwsIf_0, fX5_throwsIf, pq_lit]
    simp (disch := omega) only [↓mbd_h (m_isPerson hI _), m_isPerson hI _, e0, ↓mbd_h (m_isIn _ _ _), m_isIn _ _ _, e2, and_self, ↓mpt, mF_a, ↓mrd_n, mrd_n, ↓mbd_h (mc), mc, eq_self, ↓reduceIte, Nat.reduceEqDiff, Nat.reduceLeDiff, Nat.reduceLT, Nat.reduceMul, Nat.reduceAdd, not_true_eq_false, not_false_eq_true, Bool.false_eq_true, pq_lit, pq_add, pq_le, pq_lt, pq_eq, pq_en, pq_ne, pq_nle, pq_nlt, pq_len, pq_ltn, pB_z, pB_o, mzt_0, mzt_1, mzt_B, ↓mbd_s, mbd_s, perV]
    repeat' split
    all_goals rfl
theorem o_personX (h : Rel E b A S M) (x y : Int32) (e : ∀ s, s = M.2.2.1 6 → ¬ (inN x (nP s) = true ∧ (Int32.ofNat 0 ≤ y ∧ y ≤ Int32.ofNat 6))) : fX5_person N M x y = some (Int32.ofNat 0, mF M 0 (Int32.ofNat 1)) := by
  obtain ⟨a, d, u, h3, h0, hs, hW, hU⟩ := h.2.2.1
  have hI := hW.2.2.2.1
  have e := e _ rfl
  simp only [bX5_person_24, bX5_person_19, bX5_person_0, fX5_person, bX5_throwsIf_10, bX5_throwsIf_0, fX5_throwsIf, pq_lit]
  by_cases e1 : inN x (nP (M.2.2.1 6)) = true
  · have e2 : ¬ (Int32.ofNat 0 ≤ y ∧ y ≤ Int32.ofNat 6) := fun q => e ⟨e1, q⟩
    simp (disch := omega) only [↓mbd_h (m_isPerson hI _), m_isPerson hI _, e1, ↓mbd_h (m_isIn _ _ _), m_isIn _ _ _, e2, ↓mpt, eq_self, ↓reduceIte, Nat.reduceEqDiff, Nat.reduceLeDiff, Nat.reduceLT, Nat.reduceMul, Nat.reduceAdd, not_true_eq_false, not_false_eq_true, Bool.false_eq_true, pq_lit, pq_add, pq_le, pq_lt, pq_eq, pq_en, pq_ne, pq_nle, pq_nlt, pq_len, pq_ltn, pB_z, pB_o, mzt_0, mzt_1, mzt_B, ↓mbd_s, mbd_s]
  · simp (disch := omega) only [↓mbd_h (m_isPerson hI _), m_isPerson hI _, e1, ↓mpt, eq_self, ↓reduceIte, Nat.reduceEqDiff, Nat.reduceLeDiff, Nat.reduceLT, Nat.reduceMul, Nat.reduceAdd, not_true_eq_false, not_false_eq_true, Bool.false_eq_true, pq_lit, pq_add, pq_le, pq_lt, pq_eq, pq_en, pq_ne, pq_nle, pq_nlt, pq_len, pq_ltn, pB_z, pB_o, mzt_0, mzt_1, mzt_B, ↓mbd_s, mbd_s]
/-! the tape takes four bytes -/
def byt (x : Int32) (k : Nat) : Int32 := vp_nar .byte ((x >>> (Int32.ofNat k &&& Int32.ofNat 31)).toInt8.toInt32)
def fourF (f : Nat → Int32) (t : Nat) (x : Int32) : Nat → Int32 := upd (upd (upd (upd f t (byt x 24)) (t + 1) (byt x 16)) (t + 2) (byt x 8)) (t + 3) (byt x 0)
theorem s24 : Int32.ofNat 24 + -Int32.ofNat 8 = Int32.ofNat 16 := by decide
theorem s16 : Int32.ofNat 16 + -Int32.ofNat 8 = Int32.ofNat 8 := by decide
theorem s8 : Int32.ofNat 8 + -Int32.ofNat 8 = Int32.ofNat 0 := by decide
theorem s0 : (Int32.ofNat 0 + -Int32.ofNat 8 < Int32.ofNat 0) = True := by simp only [eq_iff_iff, iff_true]; decide
theorem sI_sV (A : FA) (k j : Nat) (v : Int32) (f : Nat → Int32) : sV (sI A k v) j f = sI (sV A j f) k v := rfl
theorem sV_sV (A : FA) (k : Nat) (f g : Nat → Int32) : sV (sV A k f) k g = sV A k g := by
  unfold sV
  simp only [va_up_up]
theorem c_four (hE : E.1 ≤ b) (hN : 1000 ≤ N) {t : Nat} (ht : t + 4 ≤ 940) (e : aI A 1 = Int32.ofNat t) (x : Int32) : vInchBorders_come__I_V E N (put b A S) (some b) x = some (Int32.ofNat 0, put b (sI (sV A 0 (fourF (aV A 0) t x)) 1 (Int32.ofNat (t + 4))) S) := by
  obtain ⟨n, rfl⟩ : ∃ n, N = n + 5 := ⟨N - 5, by omega⟩
  have b24 : vp_nar .byte ((x >>> (Int32.ofNat 24 &&& Int32.ofNat 31)).toInt8.toInt32) = byt x 24 := rfl
  have b16 : vp_nar .byte ((x >>> (Int32.ofNat 16 &&& Int32.ofNat 31)).toInt8.toInt32) = byt x 16 := rfl
  have b8 : vp_nar .byte ((x >>> (Int32.ofNat 8 &&& Int32.ofNat 31)).toInt8.toInt32) = byt x 8 := rfl
  have b0 : vp_nar .byte ((x >>> (Int32.ofNat 0 &&& Int32.ofNat 31)).toInt8.toInt32) = byt x 0 := rfl
  simp only [vInchBorders_come__I_V, f_cls, if_true, fX1_come, bX1_come_0, bX1_come_3L, bX1_come_3, pq_lit]
  simp (disch := omega) only [↓f_0, ↓f_1, e, qIV, qII, qVI, qVV, s24, s16, s8, s0, ↓f_w0, f_w0, ↓f_p1, f_p1, b24, b16, b8, b0, sI_sV, sV_sV, sI_sI, pq_lit, pq_add, pq_le, pq_lt, pq_eq, pq_en, pq_ne, pq_nle, pq_nlt, pq_len, pq_ltn, pB_z, pB_o, mzt_0, mzt_1, mzt_B, ↓gbd_s, gbd_s, ↓gnn_s, ↓grf_s, eq_self, ↓reduceIte, Nat.reduceEqDiff, Nat.reduceLeDiff, Nat.reduceLT, Nat.reduceMul, Nat.reduceAdd, not_true_eq_false, not_false_eq_true, Bool.false_eq_true]
  rfl
theorem m_four (hN : 1000 ≤ N) {t : Nat} (ht : t + 4 ≤ 940) (e : M.1 2 = Int32.ofNat t) (x : Int32) : fX5_four N M x = some (Int32.ofNat 0, mF (mR M 1 (fourF (M.2.2.1 1) t x)) 2 (Int32.ofNat (t + 4))) := by
  obtain ⟨n, rfl⟩ : ∃ n, N = n + 5 := ⟨N - 5, by omega⟩
  have b24 : vp_nar .byte ((x >>> (Int32.ofNat 24 &&& Int32.ofNat 31)).toInt8.toInt32) = byt x 24 := rfl
  have b16 : vp_nar .byte ((x >>> (Int32.ofNat 16 &&& Int32.ofNat 31)).toInt8.toInt32) = byt x 16 := rfl
  have b8 : vp_nar .byte ((x >>> (Int32.ofNat 8 &&& Int32.ofNat 31)).toInt8.toInt32) = byt x 8 := rfl
  have b0 : vp_nar .byte ((x >>> (Int32.ofNat 0 &&& Int32.ofNat 31)).toInt8.toInt32) = byt x 0 := rfl
  simp only [fX5_four, bX5_four_0, bX5_four_3L, bX5_four_3, pq_lit]
  simp (disch := omega) only [↓mpt, e, s24, s16, s8, s0, ↓mwr_n, mwr_n, mF_e, mF_ne, mA_i, mF_a, mA_e, ma_s, mF_mR, mF_mF, mR_mR, b24, b16, b8, b0, eq_self, ↓reduceIte, Nat.reduceEqDiff, Nat.reduceLeDiff, Nat.reduceLT, Nat.reduceMul, Nat.reduceAdd, not_true_eq_false, not_false_eq_true, Bool.false_eq_true, pq_lit, pq_add, pq_le, pq_lt, pq_eq, pq_en, pq_ne, pq_nle, pq_nlt, pq_len, pq_ltn, pB_z, pB_o, mzt_0, mzt_1, mzt_B]
  rfl
end OG
