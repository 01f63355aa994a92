/-! land, road, now, person; feed, end -/
def setF (f : Nat → Bool) : Int32 → Nat → Nat → Int32
  | v, _, 0 => v
  | v, p, k + 1 => setF f (if f p = true then v ||| p1 p else v) (p + 1) k
def sumF (g : Nat → Int32) : Int32 → Nat → Nat → Int32
  | v, _, 0 => v
  | v, l, k + 1 => sumF g (v + g l) (l + 1) k
theorem sumF_z {g : Nat → Int32} : ∀ (k l : Nat) (v : Int32), (∀ q, l ≤ q → q < l + k → g q = Int32.ofNat 0) → sumF g v l k = v
  | 0, _, _, _ => rfl
  | k + 1, l, v, h => by
    show sumF g (v + g l) (l + 1) k = v
    rw [h l (by omega) (by omega), sumF_z k (l + 1) _ (fun q h1 h2 => h q (by omega) (by omega))]
    simp
theorem sumF_add {g : Nat → Int32} : ∀ (k m l : Nat) (v : Int32), sumF g v l (k + m) = sumF g (sumF g v l k) (l + k) m
  | 0, m, l, v => by simp [sumF]
  | k + 1, m, l, v => by
    rw [show k + 1 + m = (k + m) + 1 by omega]
    show sumF g (v + g l) (l + 1) (k + m) = sumF g (sumF g (v + g l) (l + 1) k) (l + (k + 1)) m
    rw [sumF_add k m (l + 1), show l + 1 + k = l + (k + 1) by omega]
section OF
variable {E : gE} {N b : Nat} {A : FA} {S : GS} {M : MS}
theorem c_landL {a : Nat} {d : AD} (h3 : aR A 3 = some a) (hT : TA b S A 0 a d) {l : Nat} (hl : l < 7) : ∀ (k p n : Nat) (v : Int32), p + k = nP (tS A 0) → k < n → bX1_land_96L E N b n (put b A S) (Int32.ofNat l) v (Int32.ofNat p) = some (setF (fun p => decide (tS A 0 (108 + p) = Int32.ofNat l)) v p k, put b A S)
  | k, p, 0, _, _, h => by omega
  | 0, p, n + 1, v, hk, _ => by
    have h6 := hT.2.2.2.p6
    have q : nP (tS A 0) ≤ p := by omega
    simp only [bX1_land_96L, bX1_land_126, bX1_land_96, bX1_land_0, fX1_land, pq_lit]
    simp (disch := omega) only [↓gbd_h (k_persons h3 hT.2.2.1), k_persons h3 hT.2.2.1, q, pq_lit, pq_add, pq_le, pq_lt, pq_eq, pq_en, pq_ne, pq_nle, pq_nlt, pq_len, pq_ltn, pB_z, pB_o, mzt_0, mzt_1, mzt_B, ↓gbd_s, gbd_s, ↓gnn_s, ↓grf_s, eq_self, ↓reduceIte, Nat.reduceEqDiff, Nat.reduceLeDiff, Nat.reduceLT, Nat.reduceMul, Nat.reduceAdd, not_true_eq_false, not_false_eq_true, Bool.false_eq_true, setF]
  | k + 1, p, n + 1, v, hk, hn => by
    have h6 := hT.2.2.2.p6
    have q : ¬ nP (tS A 0) ≤ p := by omega
    have ih := fun v => c_landL h3 hT hl k (p + 1) n v (by omega) (by omega)
    simp only [bX1_land_96L, bX1_land_126, bX1_land_96, bX1_land_0, fX1_land, pq_lit]
    simp (disch := omega) only [↓gbd_h (k_persons h3 hT.2.2.1), k_persons h3 hT.2.2.1, q, ↓f_4, ↓t_34, t_34, ↓t_g3, t_g3, pq_lit, pq_add, pq_le, pq_lt, pq_eq, pq_en, pq_ne, pq_nle, pq_nlt, pq_len, pq_ltn, pB_z, pB_o, mzt_0, mzt_1, mzt_B, ↓gbd_s, gbd_s, ↓gnn_s, ↓grf_s, eq_self, ↓reduceIte, Nat.reduceEqDiff, Nat.reduceLeDiff, Nat.reduceLT, Nat.reduceMul, Nat.reduceAdd, not_true_eq_false, not_false_eq_true, Bool.false_eq_true, ih, setF, decide_eq_true_eq, p1_e]
    split <;> rfl
theorem m_landL (hI : IvS (M.2.2.1 6)) {l : Nat} (hl : l < 7) {x2 : Int32} : ∀ (k p n : Nat) (v : Int32), p + k = nP (M.2.2.1 6) → k < n → bX5_land_20L N n M (Int32.ofNat l) x2 v (Int32.ofNat p) = some ((if x2 = Int32.ofNat 0 then M.2.2.1 6 (3 + l) else if x2 = Int32.ofNat 1 then M.2.2.1 6 (10 + l) else if x2 = Int32.ofNat 2 then M.2.2.1 6 (94 + l) else if x2 = Int32.ofNat 3 then M.2.2.1 6 (101 + l) else if x2 = Int32.ofNat 4 then setF (fun p => decide (M.2.2.1 6 (108 + p) = Int32.ofNat l)) v p k else -Int32.ofNat 1), M)
  | k, p, 0, _, _, h => by omega
  | 0, p, n + 1, v, hk, _ => by
    have h6 := hI.p6
    have q : nP (M.2.2.1 6) ≤ p := by omega
    simp only [bX5_land_20L, bX5_land_54, bX5_land_20, bX5_land_0, fX5_land, pq_lit]
    simp (disch := omega) only [↓mrd_n, mrd_n, hI.c2, q, eq_self, ↓reduceIte, Nat.reduceEqDiff, Nat.reduceLeDiff, Nat.reduceLT, Nat.reduceMul, Nat.reduceAdd, not_true_eq_false, not_false_eq_true, Bool.false_eq_true, pq_lit, pq_add, pq_le, pq_lt, pq_eq, pq_en, pq_ne, pq_nle, pq_nlt, pq_len, pq_ltn, pB_z, pB_o, mzt_0, mzt_1, mzt_B, setF]
    repeat' split
    all_goals rfl
  | k + 1, p, n + 1, v, hk, hn => by
    have h6 := hI.p6
    have q : ¬ nP (M.2.2.1 6) ≤ p := by omega
    have ih := fun v => m_landL hI hl (x2 := x2) k (p + 1) n v (by omega) (by omega)
    simp only [bX5_land_20L, bX5_land_54, bX5_land_20, bX5_land_0, fX5_land, pq_lit]
    simp (disch := omega) only [↓mrd_n, mrd_n, hI.c2, q, eq_self, ↓reduceIte, Nat.reduceEqDiff, Nat.reduceLeDiff, Nat.reduceLT, Nat.reduceMul, Nat.reduceAdd, not_true_eq_false, not_false_eq_true, Bool.false_eq_true, pq_lit, pq_add, pq_le, pq_lt, pq_eq, pq_en, pq_ne, pq_nle, pq_nlt, pq_len, pq_ltn, pB_z, pB_o, mzt_0, mzt_1, mzt_B, p1_e, pq_or0, ih, setF, decide_eq_true_eq]
    by_cases w : M.2.2.1 6 (108 + p) = Int32.ofNat l
    · rw [if_pos w, if_pos w]
    · rw [if_neg w, if_neg w]
theorem o_land (h : Rel E b A S M) (hN : 1000 ≤ N) (x y : Int32) : Op E b S 0 0 (fX1_land E N (put b A S) b x y) (fX5_land N M x y) := by
  obtain ⟨a, d, u, h3, h0, hs, hW, hU⟩ := h.2.2.1
  have hI := hW.2.2.2.1
  have h6 := hI.p6
  have h7 := hI.l7
  have hI0 : IvS ((mF M 0 (Int32.ofNat 0)).2.2.1 6) := hI
  have hT : TA b S A 0 a d := ⟨by omega, h0, by rw [hs]; exact hW.1, by rw [hs]; exact hI⟩
  by_cases e1 : inN x (nL (M.2.2.1 6)) = true
  · obtain ⟨l, hl, rfl⟩ := (inN_i (by omega)).mp e1
    have g1 := c_landL (E := E) (N := N) h3 hT (show l < 7 by omega) (nP (tS A 0)) 0 N (Int32.ofNat 0) (by omega) (by rw [hs]; omega)
    have g2 := m_landL (N := N) hI0 (show l < 7 by omega) (x2 := y) (nP (M.2.2.1 6)) 0 N (Int32.ofNat 0) (Nat.zero_add _) (by omega)
    have ct := c_take (E := E) (N := N) hT (l := l) (by rw [hs]; exact hl)
    rw [hs] at g1 ct
    refine ⟨_, A, S, mF M 0 (Int32.ofNat 0), ?_, (by
      simp only [fX5_land, bX5_land_0, pq_lit]
      simp (disch := omega) only [↓mpt, ↓mbd_h (m_isLand hI0 _), m_isLand hI0 _, mF_a, e1, eq_self, ↓reduceIte, Nat.reduceEqDiff, Nat.reduceLeDiff, Nat.reduceLT, Nat.reduceMul, Nat.reduceAdd, not_true_eq_false, not_false_eq_true, Bool.false_eq_true, pq_lit, pq_add, pq_le, pq_lt, pq_eq, pq_en, pq_ne, pq_nle, pq_nlt, pq_len, pq_ltn, pB_z, pB_o, mzt_0, mzt_1, mzt_B]
      exact g2), h.m0 _, Nat.le_refl _, Nat.le_refl _⟩
    simp only [fX1_land, bX1_land_0, pq_lit]
    simp (disch := omega) only [↓gbd_h (k_isL h3 hW.1 _), k_isL h3 hW.1 _, e1, ↓f_4, ↓f_3, h3, ↓gbd_h (ct), ct, ↓a_25 hW.1, ↓gbd_h (a_gL hW.1 hl), a_gL hW.1 hl, ↓a_cL hW.1 hl, ↓a_63 hW.1 hl, ↓t_32, t_32, ↓t_33, t_33, ↓t_g1, t_g1, ↓t_g2, t_g2, hs, g1, pq_lit, pq_add, pq_le, pq_lt, pq_eq, pq_en, pq_ne, pq_nle, pq_nlt, pq_len, pq_ltn, pB_z, pB_o, mzt_0, mzt_1, mzt_B, ↓gbd_s, gbd_s, ↓gnn_s, ↓grf_s, eq_self, ↓reduceIte, Nat.reduceEqDiff, Nat.reduceLeDiff, Nat.reduceLT, Nat.reduceMul, Nat.reduceAdd, not_true_eq_false, not_false_eq_true, Bool.false_eq_true, mF_a]
    repeat' split
    all_goals rfl
  · refine ⟨-Int32.ofNat 1, A, S, mF M 0 (Int32.ofNat 0), ?_, ?_, h.m0 _, Nat.le_refl _, Nat.le_refl _⟩
    · simp only [fX1_land, bX1_land_0, pq_lit]
      simp (disch := omega) only [↓gbd_h (k_isL h3 hW.1 _), k_isL h3 hW.1 _, e1, pq_lit, pq_add, pq_le, pq_lt, pq_eq, pq_en, pq_ne, pq_nle, pq_nlt, pq_len, pq_ltn, pB_z, pB_o, mzt_0, mzt_1, mzt_B, ↓gbd_s, gbd_s, ↓gnn_s, ↓grf_s, eq_self, ↓reduceIte, Nat.reduceEqDiff, Nat.reduceLeDiff, Nat.reduceLT, Nat.reduceMul, Nat.reduceAdd, not_true_eq_false, not_false_eq_true, Bool.false_eq_true]
    · simp only [fX5_land, bX5_land_0, pq_lit]
      simp (disch := omega) only [↓mpt, ↓mbd_h (m_isLand hI0 _), m_isLand hI0 _, mF_a, e1, eq_self, ↓reduceIte, Nat.reduceEqDiff, Nat.reduceLeDiff, Nat.reduceLT, Nat.reduceMul, Nat.reduceAdd, not_true_eq_false, not_false_eq_true, Bool.false_eq_true, pq_lit, pq_add, pq_le, pq_lt, pq_eq, pq_en, pq_ne, pq_nle, pq_nlt, pq_len, pq_ltn, pB_z, pB_o, mzt_0, mzt_1, mzt_B]
theorem bt_n (x k : Int32) : (x >>> (k &&& Int32.ofNat 31)) &&& Int32.ofNat 1 = if bt x k = true then Int32.ofNat 1 else Int32.ofNat 0 := by
  unfold bt
  by_cases e : (x >>> (k &&& Int32.ofNat 31)) &&& Int32.ofNat 1 = Int32.ofNat 1
  · rw [e]; simp
  · rw [if_neg (by simpa using e)]
    generalize x >>> (k &&& Int32.ofNat 31) = z at *
    apply bt_ext
    intro l hl
    have hz : z &&& Int32.ofNat 1 ≠ Int32.ofNat 1 := e
    rw [bt_and hl, bt_0 hl]
    have b1 : bt (Int32.ofNat 1) (Int32.ofNat l) = decide (0 = l) := bt_p1 (l := 0) (by omega) hl
    rw [b1]
    by_cases q : 0 = l
    · subst q
      simp only [decide_true, Bool.and_true]
      cases w : bt z (Int32.ofNat 0) with
      | false => rfl
      | true =>
        exfalso
        apply hz
        apply bt_ext
        intro j hj
        have b2 : bt (Int32.ofNat 1) (Int32.ofNat j) = decide (0 = j) := bt_p1 (l := 0) (by omega) hj
        rw [bt_and hj, b2]
        by_cases q2 : 0 = j
        · subst q2; rw [w]; simp
        · simp [q2]
    · simp [q]
theorem o_road (h : Rel E b A S M) (x y : Int32) : Op E b S 0 0 (fX1_road E N (put b A S) b x y) (fX5_road N M x y) := by
  obtain ⟨a, d, u, h3, h0, hs, hW, hU⟩ := h.2.2.1
  have hI := hW.2.2.2.1
  have h12 := hI.r12
  have hI0 : IvS ((mF M 0 (Int32.ofNat 0)).2.2.1 6) := hI
  have hA := hW.1
  have e0 : (inN x (nR (M.2.2.1 6)) = true) = (Int32.ofNat 0 ≤ x ∧ x ≤ Int32.ofNat (nR (M.2.2.1 6)) - Int32.ofNat 1) := by unfold inN; simp
  by_cases e1 : inN x (nR (M.2.2.1 6)) = true
  · have e2 := e1
    rw [e0] at e2
    obtain ⟨r, hr, rfl⟩ := (inN_i (by omega)).mp e1
    refine ⟨if y = Int32.ofNat 0 then M.2.2.1 6 (24 + r) else if y = Int32.ofNat 1 then M.2.2.1 6 (36 + r) else if y = Int32.ofNat 2 then M.2.2.1 6 (48 + r) else if y = Int32.ofNat 3 then M.2.2.1 6 (60 + r) else if y = Int32.ofNat 4 then (if bt (M.2.2.1 6 93) (Int32.ofNat r) = true then Int32.ofNat 1 else Int32.ofNat 0) else -Int32.ofNat 1, A, S, mF M 0 (Int32.ofNat 0), ?_, ?_, h.m0 _, Nat.le_refl _, Nat.le_refl _⟩
    · simp only [fX1_road, bX1_road_0, vInchBorders_Atlas_isRoad__I_Z, pq_lit]
      simp (disch := omega) only [↓f_3, h3, ↓a_cls hA, ↓gbd_h (a_isR hA _), a_isR hA _, e1, ↓a_26 hA, ↓gbd_h (a_gR hA hr), a_gR hA hr, ↓a_cR hA hr, ↓a_67 hA hr, ↓a_68 hA hr, ↓a_69 hA hr, ↓a_70 hA hr, ↓f_4, ↓t_31, t_31, hs, bt_n, pq_lit, pq_add, pq_le, pq_lt, pq_eq, pq_en, pq_ne, pq_nle, pq_nlt, pq_len, pq_ltn, pB_z, pB_o, mzt_0, mzt_1, mzt_B, ↓gbd_s, gbd_s, ↓gnn_s, ↓grf_s, eq_self, ↓reduceIte, Nat.reduceEqDiff, Nat.reduceLeDiff, Nat.reduceLT, Nat.reduceMul, Nat.reduceAdd, not_true_eq_false, not_false_eq_true, Bool.false_eq_true]
      repeat' split
      all_goals rfl
    · simp only [fX5_road, bX5_road_0, bX5_road_113, pq_lit]
      cases w : bt (M.2.2.1 6 93) (Int32.ofNat r)
      · simp (disch := omega) only [↓mpt, ↓mrd_n, mrd_n, mF_a, hI.c1, ↓mbd_h (m_isIn _ _ _), m_isIn _ _ _, e2, and_self, ↓mbd_h (m_open _), m_open _, w, eq_self, ↓reduceIte, Nat.reduceEqDiff, Nat.reduceLeDiff, Nat.reduceLT, Nat.reduceMul, Nat.reduceAdd, not_true_eq_false, not_false_eq_true, Bool.false_eq_true, pq_lit, pq_add, pq_le, pq_lt, pq_eq, pq_en, pq_ne, pq_nle, pq_nlt, pq_len, pq_ltn, pB_z, pB_o, mzt_0, mzt_1, mzt_B]
        repeat' split
        all_goals rfl
      · simp (disch := omega) only [↓mpt, ↓mrd_n, mrd_n, mF_a, hI.c1, ↓mbd_h (m_isIn _ _ _), m_isIn _ _ _, e2, and_self, ↓mbd_h (m_open _), m_open _, w, eq_self, ↓reduceIte, Nat.reduceEqDiff, Nat.reduceLeDiff, Nat.reduceLT, Nat.reduceMul, Nat.reduceAdd, not_true_eq_false, not_false_eq_true, Bool.false_eq_true, pq_lit, pq_add, pq_le, pq_lt, pq_eq, pq_en, pq_ne, pq_nle, pq_nlt, pq_len, pq_ltn, pB_z, pB_o, mzt_0, mzt_1, mzt_B]
        repeat' split
        all_goals rfl
  · have e2 := e1
    rw [e0] at e2
    refine ⟨-Int32.ofNat 1, A, S, mF M 0 (Int32.ofNat 0), ?_, ?_, h.m0 _, Nat.le_refl _, Nat.le_refl _⟩
    · simp only [fX1_road, bX1_road_0, vInchBorders_Atlas_isRoad__I_Z, pq_lit]
      simp (disch := omega) only [↓f_3, h3, ↓a_cls hA, ↓gbd_h (a_isR hA _), a_isR hA _, e1, pq_lit, pq_add, pq_le, pq_lt, pq_eq, pq_en, pq_ne, pq_nle, pq_nlt, pq_len, pq_ltn, pB_z, pB_o, mzt_0, mzt_1, mzt_B, ↓gbd_s, gbd_s, ↓gnn_s, ↓grf_s, eq_self, ↓reduceIte, Nat.reduceEqDiff, Nat.reduceLeDiff, Nat.reduceLT, Nat.reduceMul, Nat.reduceAdd, not_true_eq_false, not_false_eq_true, Bool.false_eq_true]
    · simp only [fX5_road, bX5_road_0, pq_lit]
      simp (disch := omega) only [↓mpt, ↓mrd_n, mrd_n, mF_a, hI.c1, ↓mbd_h (m_isIn _ _ _), m_isIn _ _ _, e2, eq_self, ↓reduceIte, Nat.reduceEqDiff, Nat.reduceLeDiff, Nat.reduceLT, Nat.reduceMul, Nat.reduceAdd, not_true_eq_false, not_false_eq_true, Bool.false_eq_true, pq_lit, pq_add, pq_le, pq_lt, pq_eq, pq_en, pq_ne, pq_nle, pq_nlt, pq_len, pq_ltn, pB_z, pB_o, mzt_0, mzt_1, mzt_B]
theorem o_end (h : Rel E b A S M) (x : Int32) : Op E b S 0 0 (fX1_end E N (put b A S) b x) (fX5_end N M x) := by
  obtain ⟨r1, ⟨r2, ⟨t, t1, t2, t3⟩, r3⟩, r4, r5⟩ := h
  have hE := r1.1
  have h : Rel E b A S M := ⟨r1, ⟨r2, ⟨t, t1, t2, t3⟩, r3⟩, r4, r5⟩
  by_cases e1 : x < Int32.ofNat 0
  · refine ⟨Int32.ofNat 0, A, S, mF M 0 (Int32.ofNat 0), ?_, ?_, h.m0 _, Nat.le_refl _, Nat.le_refl _⟩
    · simp only [bX1_end_12, bX1_end_0, fX1_end, pq_lit]
      simp (disch := omega) only [e1, pq_lit, pq_add, pq_le, pq_lt, pq_eq, pq_en, pq_ne, pq_nle, pq_nlt, pq_len, pq_ltn, pB_z, pB_o, mzt_0, mzt_1, mzt_B, ↓gbd_s, gbd_s, ↓gnn_s, ↓grf_s, eq_self, ↓reduceIte, Nat.reduceEqDiff, Nat.reduceLeDiff, Nat.reduceLT, Nat.reduceMul, Nat.reduceAdd, not_true_eq_false, not_false_eq_true, Bool.false_eq_true]
    · simp only [bX5_end_17, bX5_end_0, fX5_end, pq_lit]
      simp (disch := omega) only [↓mpt, e1, eq_self, ↓reduceIte, Nat.reduceEqDiff, Nat.reduceLeDiff, Nat.reduceLT, Nat.reduceMul, Nat.reduceAdd, not_true_eq_false, not_false_eq_true, Bool.false_eq_true, pq_lit, pq_add, pq_le, pq_lt, pq_eq, pq_en, pq_ne, pq_nle, pq_nlt, pq_len, pq_ltn, pB_z, pB_o, mzt_0, mzt_1, mzt_B]
  · by_cases e2 : x ≤ Int32.ofNat t
    · have e0 := e2
      obtain ⟨k, hk, rfl⟩ := pq_ofle (Int32.not_lt.mp e1) e2 (by omega)
      refine ⟨Int32.ofNat 1, sI A 1 (Int32.ofNat k), S, mF (mF M 0 (Int32.ofNat 0)) 2 (Int32.ofNat k), ?_, ?_, ?_, Nat.le_refl _, Nat.le_refl _⟩
      · simp only [bX1_end_12, bX1_end_0, fX1_end, pq_lit]
        simp (disch := omega) only [e1, ↓f_1, t2, e0, ↓f_p1, hk, pq_lit, pq_add, pq_le, pq_lt, pq_eq, pq_en, pq_ne, pq_nle, pq_nlt, pq_len, pq_ltn, pB_z, pB_o, mzt_0, mzt_1, mzt_B, ↓gbd_s, gbd_s, ↓gnn_s, ↓grf_s, eq_self, ↓reduceIte, Nat.reduceEqDiff, Nat.reduceLeDiff, Nat.reduceLT, Nat.reduceMul, Nat.reduceAdd, not_true_eq_false, not_false_eq_true, Bool.false_eq_true]
      · simp only [bX5_end_17, bX5_end_0, fX5_end, pq_lit]
        simp (disch := omega) only [↓mpt, e1, mF_ne, t3, e0, hk, eq_self, ↓reduceIte, Nat.reduceEqDiff, Nat.reduceLeDiff, Nat.reduceLT, Nat.reduceMul, Nat.reduceAdd, not_true_eq_false, not_false_eq_true, Bool.false_eq_true, pq_lit, pq_add, pq_le, pq_lt, pq_eq, pq_en, pq_ne, pq_nle, pq_nlt, pq_len, pq_ltn, pB_z, pB_o, mzt_0, mzt_1, mzt_B]
      · refine ⟨r1, ⟨r2, ⟨k, by omega, rfl, rfl⟩, r3⟩, r4, r5.eq Ext.rf ?_ (mRst.of (ks := [0, 2]) ((mSm.rf.mF _ (by decide)).mF _ (by decide)) (by decide))⟩
        exact ⟨fun k hk => if_neg (by rintro rfl; revert hk; decide), fun _ _ => rfl, rfl, fun _ => rfl, rfl, rfl⟩
    · refine ⟨Int32.ofNat 0, A, S, mF M 0 (Int32.ofNat 0), ?_, ?_, h.m0 _, Nat.le_refl _, Nat.le_refl _⟩
      · simp only [bX1_end_12, bX1_end_0, fX1_end, pq_lit]
        simp (disch := omega) only [e1, ↓f_1, t2, e2, pq_lit, pq_add, pq_le, pq_lt, pq_eq, pq_en, pq_ne, pq_nle, pq_nlt, pq_len, pq_ltn, pB_z, pB_o, mzt_0, mzt_1, mzt_B, ↓gbd_s, gbd_s, ↓gnn_s, ↓grf_s, eq_self, ↓reduceIte, Nat.reduceEqDiff, Nat.reduceLeDiff, Nat.reduceLT, Nat.reduceMul, Nat.reduceAdd, not_true_eq_false, not_false_eq_true, Bool.false_eq_true]
      · simp only [bX5_end_17, bX5_end_0, fX5_end, pq_lit]
        simp (disch := omega) only [↓mpt, e1, mF_ne, t3, e2, eq_self, ↓reduceIte, Nat.reduceEqDiff, Nat.reduceLeDiff, Nat.reduceLT, Nat.reduceMul, Nat.reduceAdd, not_true_eq_false, not_false_eq_true, Bool.false_eq_true, pq_lit, pq_add, pq_le, pq_lt, pq_eq, pq_en, pq_ne, pq_nle, pq_nlt, pq_len, pq_ltn, pB_z, pB_o, mzt_0, mzt_1, mzt_B]
end OF
