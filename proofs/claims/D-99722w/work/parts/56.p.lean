/-! part -/
section OP
variable {E : gE} {N b : Nat} {A : FA} {S : GS} {M : MS}
theorem rdI {z x y : Nat} (hx : x < 7) (hy : y < 7) : Int32.ofNat z ||| (Int32.ofNat 1 <<< (Int32.ofNat x &&& Int32.ofNat 31) ||| Int32.ofNat 1 <<< (Int32.ofNat y &&& Int32.ofNat 31)) = Int32.ofNat (z ||| (2 ^ x ||| 2 ^ y)) := by
  rw [p1_e, p1_e, p1_n _ (by omega), p1_n _ (by omega), or_n, or_n]
theorem c_reaR (hN : 1000 ≤ N) {a : Nat} {d : AD} {s : St} (h3 : aR A 3 = some a) (hA : AtD b S a s d) (hs : Ends s) (K7 : GS → Int32 → Int32 → Int32 → Option (Int32 × GS)) (w i : Nat) : ∀ (k r q z : Nat), r + k = nR s → k < q → bX1_reach_17L E N b K7 q (put b A S) (Int32.ofNat w) (Int32.ofNat z) (Int32.ofNat i) (Int32.ofNat r) = K7 (put b A S) (Int32.ofNat w) (Int32.ofNat (rdF s w k r z)) (Int32.ofNat (i + 1))
  | k, r, 0, z, _, h => by omega
  | 0, r, q + 1, z, hk, _ => by
    have y : nR s ≤ r := by omega
    have h12 := hs.2.1
    simp only [bX1_reach_17L, bX1_reach_17, pq_lit]
    simp (disch := omega) only [↓f_3, h3, ↓a_26 hA, ↓gbd_h (a_sR hA), a_sR hA, y, rdF, pq_lit, pq_add, pq_le, pq_lt, pq_eq, pq_en, pq_ne, pq_nle, pq_nlt, pq_len, pq_ltn, pB_z, pB_o, mzt_0, mzt_1, mzt_B, ↓gbd_s, gbd_s, ↓gnn_s, ↓grf_s, eq_self, ↓reduceIte, Nat.reduceEqDiff, Nat.reduceLeDiff, Nat.reduceLT, Nat.reduceMul, Nat.reduceAdd, not_true_eq_false, not_false_eq_true, Bool.false_eq_true]
  | k + 1, r, q + 1, z, hk, hq => by
    have y : ¬ nR s ≤ r := by omega
    have hr : r < nR s := by omega
    have h7 := hs.1
    have h12 := hs.2.1
    obtain ⟨e1, e2, e3, e4⟩ := hs.2.2 r hr
    have ih := fun z => c_reaR hN h3 hA hs K7 w i k (r + 1) q z (by omega) (by omega)
    have o := rdI (z := z) (x := ea s r) (y := eb s r) (by omega) (by omega)
    have b1 : bt (Int32.ofNat w) (Int32.ofNat r) = w.testBit r := bt_nat (by omega)
    have b2 : bt (Int32.ofNat z) (Int32.ofNat (ea s r)) = z.testBit (ea s r) := bt_nat (by omega)
    have b3 : bt (Int32.ofNat z) (Int32.ofNat (eb s r)) = z.testBit (eb s r) := bt_nat (by omega)
    simp only [bX1_reach_17L, bX1_reach_17, bX1_reach_103, bX1_reach_85, pq_lit]
    cases c1 : w.testBit r with
    | true =>
      have ez : rdS s w z r = z := by unfold rdS; rw [if_neg (by simp [c1])]
      simp (disch := omega) only [↓f_3, h3, ↓a_26 hA, ↓gbd_h (a_sR hA), a_sR hA, y, ↓gbd_h (a_gR hA hr), a_gR hA hr, ↓a_cR hA hr, ↓gbd_h (c_bt _ _), c_bt _ _, b1, c1, pB_T, ih, rdF, ez, pq_lit, pq_add, pq_le, pq_lt, pq_eq, pq_en, pq_ne, pq_nle, pq_nlt, pq_len, pq_ltn, pB_z, pB_o, mzt_0, mzt_1, mzt_B, ↓gbd_s, gbd_s, ↓gnn_s, ↓grf_s, eq_self, ↓reduceIte, Nat.reduceEqDiff, Nat.reduceLeDiff, Nat.reduceLT, Nat.reduceMul, Nat.reduceAdd, not_true_eq_false, not_false_eq_true, Bool.false_eq_true]
    | false =>
      cases c2 : z.testBit (ea s r) with
      | true =>
        have ez : rdS s w z r = z ||| (2 ^ ea s r ||| 2 ^ eb s r) := by unfold rdS; rw [if_pos (by simp [c1, c2])]
        simp (disch := omega) only [↓f_3, h3, ↓a_26 hA, ↓gbd_h (a_sR hA), a_sR hA, y, ↓gbd_h (a_gR hA hr), a_gR hA hr, ↓a_cR hA hr, ↓a_67 hA hr, ↓a_68 hA hr, ↓gbd_h (c_bt _ _), c_bt _ _, e1, e3, b1, b2, c1, c2, pB_T, pB_F, o, ih, rdF, ez, pq_lit, pq_add, pq_le, pq_lt, pq_eq, pq_en, pq_ne, pq_nle, pq_nlt, pq_len, pq_ltn, pB_z, pB_o, mzt_0, mzt_1, mzt_B, ↓gbd_s, gbd_s, ↓gnn_s, ↓grf_s, eq_self, ↓reduceIte, Nat.reduceEqDiff, Nat.reduceLeDiff, Nat.reduceLT, Nat.reduceMul, Nat.reduceAdd, not_true_eq_false, not_false_eq_true, Bool.false_eq_true]
      | false =>
        cases c3 : z.testBit (eb s r) with
        | true =>
          have ez : rdS s w z r = z ||| (2 ^ ea s r ||| 2 ^ eb s r) := by unfold rdS; rw [if_pos (by simp [c1, c2, c3])]
          simp (disch := omega) only [↓f_3, h3, ↓a_26 hA, ↓gbd_h (a_sR hA), a_sR hA, y, ↓gbd_h (a_gR hA hr), a_gR hA hr, ↓a_cR hA hr, ↓a_67 hA hr, ↓a_68 hA hr, ↓gbd_h (c_bt _ _), c_bt _ _, e1, e3, b1, b2, b3, c1, c2, c3, pB_T, pB_F, o, ih, rdF, ez, pq_lit, pq_add, pq_le, pq_lt, pq_eq, pq_en, pq_ne, pq_nle, pq_nlt, pq_len, pq_ltn, pB_z, pB_o, mzt_0, mzt_1, mzt_B, ↓gbd_s, gbd_s, ↓gnn_s, ↓grf_s, eq_self, ↓reduceIte, Nat.reduceEqDiff, Nat.reduceLeDiff, Nat.reduceLT, Nat.reduceMul, Nat.reduceAdd, not_true_eq_false, not_false_eq_true, Bool.false_eq_true]
        | false =>
          have ez : rdS s w z r = z := by unfold rdS; rw [if_neg (by simp [c1, c2, c3])]
          simp (disch := omega) only [↓f_3, h3, ↓a_26 hA, ↓gbd_h (a_sR hA), a_sR hA, y, ↓gbd_h (a_gR hA hr), a_gR hA hr, ↓a_cR hA hr, ↓a_67 hA hr, ↓a_68 hA hr, ↓gbd_h (c_bt _ _), c_bt _ _, e1, e3, b1, b2, b3, c1, c2, c3, pB_T, pB_F, o, ih, rdF, ez, pq_lit, pq_add, pq_le, pq_lt, pq_eq, pq_en, pq_ne, pq_nle, pq_nlt, pq_len, pq_ltn, pB_z, pB_o, mzt_0, mzt_1, mzt_B, ↓gbd_s, gbd_s, ↓gnn_s, ↓grf_s, eq_self, ↓reduceIte, Nat.reduceEqDiff, Nat.reduceLeDiff, Nat.reduceLT, Nat.reduceMul, Nat.reduceAdd, not_true_eq_false, not_false_eq_true, Bool.false_eq_true]
theorem c_rea7 (hN : 1000 ≤ N) {a : Nat} {d : AD} {s : St} (h3 : aR A 3 = some a) (hA : AtD b S a s d) (hs : Ends s) (w : Nat) : ∀ (k i q z : Nat), i + k = 7 → k < q → bX1_reach_7L E N b q (put b A S) (Int32.ofNat w) (Int32.ofNat z) (Int32.ofNat i) = some (Int32.ofNat (rpF s w k z), put b A S)
  | k, i, 0, z, _, h => by omega
  | 0, i, q + 1, z, hk, _ => by
    have y : 7 ≤ i := by omega
    simp only [bX1_reach_7L, bX1_reach_7, pq_lit]
    simp (disch := omega) only [y, rpF, pq_lit, pq_add, pq_le, pq_lt, pq_eq, pq_en, pq_ne, pq_nle, pq_nlt, pq_len, pq_ltn, pB_z, pB_o, mzt_0, mzt_1, mzt_B, ↓gbd_s, gbd_s, ↓gnn_s, ↓grf_s, eq_self, ↓reduceIte, Nat.reduceEqDiff, Nat.reduceLeDiff, Nat.reduceLT, Nat.reduceMul, Nat.reduceAdd, not_true_eq_false, not_false_eq_true, Bool.false_eq_true]
  | k + 1, i, q + 1, z, hk, hq => by
    have y : ¬ 7 ≤ i := by omega
    have h12 := hs.2.1
    have r := c_reaR (E := E) hN h3 hA hs (bX1_reach_7L E N b q) w i (nR s) 0 N z (by omega) (by omega)
    have ih := fun z => c_rea7 hN h3 hA hs w k (i + 1) q z (by omega) (by omega)
    simp only [bX1_reach_7L, bX1_reach_7, pq_lit]
    simp (disch := omega) only [y, r, ih, rpF, pq_lit, pq_add, pq_le, pq_lt, pq_eq, pq_en, pq_ne, pq_nle, pq_nlt, pq_len, pq_ltn, pB_z, pB_o, mzt_0, mzt_1, mzt_B, ↓gbd_s, gbd_s, ↓gnn_s, ↓grf_s, eq_self, ↓reduceIte, Nat.reduceEqDiff, Nat.reduceLeDiff, Nat.reduceLT, Nat.reduceMul, Nat.reduceAdd, not_true_eq_false, not_false_eq_true, Bool.false_eq_true]
theorem c_reach (hN : 1000 ≤ N) {a : Nat} {d : AD} {s : St} (h3 : aR A 3 = some a) (hA : AtD b S a s d) (hs : Ends s) {x : Nat} (hx : x < 7) (w : Nat) : vInchBorders_reach__II_I E N (put b A S) (some b) (Int32.ofNat x) (Int32.ofNat w) = some (Int32.ofNat (rpF s w 7 (2 ^ x)), put b A S) := by
  have r := c_rea7 (E := E) hN h3 hA hs w 7 0 N (2 ^ x) (by omega) (by omega)
  simp only [vInchBorders_reach__II_I, fX1_reach, bX1_reach_0, pq_lit]
  simp (disch := omega) only [↓f_cls, p1_e, p1_n x (by omega), r, pq_lit, pq_add, pq_le, pq_lt, pq_eq, pq_en, pq_ne, pq_nle, pq_nlt, pq_len, pq_ltn, pB_z, pB_o, mzt_0, mzt_1, mzt_B, ↓gbd_s, gbd_s, ↓gnn_s, ↓grf_s, eq_self, ↓reduceIte, Nat.reduceEqDiff, Nat.reduceLeDiff, Nat.reduceLT, Nat.reduceMul, Nat.reduceAdd, not_true_eq_false, not_false_eq_true, Bool.false_eq_true]
theorem m_areR (hN : 1000 ≤ N) {s : St} (hI : IvS s) (hs : Ends s) (h6 : M.2.2.1 6 = s) (K8 : MS → Int32 → Int32 → Int32 → Int32 → Option (Int32 × MS)) (x2 : Int32) (w i : Nat) : ∀ (k r q z : Nat), r + k = nR s → k < q → bX5_areParted_22L N K8 q M x2 (Int32.ofNat w) (Int32.ofNat z) (Int32.ofNat i) (Int32.ofNat r) = K8 M x2 (Int32.ofNat w) (Int32.ofNat (rdF s w k r z)) (Int32.ofNat (i + 1))
  | k, r, 0, z, _, h => by omega
  | 0, r, q + 1, z, hk, _ => by
    have y : nR s ≤ r := by omega
    have h12 := hs.2.1
    simp only [bX5_areParted_22L, bX5_areParted_22, pq_lit]
    simp (disch := omega) only [↓mrd_n, mrd_n, h6, hI.c1, y, rdF, eq_self, ↓reduceIte, Nat.reduceEqDiff, Nat.reduceLeDiff, Nat.reduceLT, Nat.reduceMul, Nat.reduceAdd, not_true_eq_false, not_false_eq_true, Bool.false_eq_true, pq_lit, pq_add, pq_le, pq_lt, pq_eq, pq_en, pq_ne, pq_nle, pq_nlt, pq_len, pq_ltn, pB_z, pB_o, mzt_0, mzt_1, mzt_B]
  | k + 1, r, q + 1, z, hk, hq => by
    have y : ¬ nR s ≤ r := by omega
    have hr : r < nR s := by omega
    have h7 := hs.1
    have h12 := hs.2.1
    obtain ⟨e1, e2, e3, e4⟩ := hs.2.2 r hr
    have ih := fun z => m_areR hN hI hs h6 K8 x2 w i k (r + 1) q z (by omega) (by omega)
    have o := rdI (z := z) (x := ea s r) (y := eb s r) (by omega) (by omega)
    have b1 : bt (Int32.ofNat w) (Int32.ofNat r) = w.testBit r := bt_nat (by omega)
    have b2 : bt (Int32.ofNat z) (Int32.ofNat (ea s r)) = z.testBit (ea s r) := bt_nat (by omega)
    have b3 : bt (Int32.ofNat z) (Int32.ofNat (eb s r)) = z.testBit (eb s r) := bt_nat (by omega)
    simp only [bX5_areParted_22L, bX5_areParted_22, bX5_areParted_111, bX5_areParted_81, pq_lit]
    cases c1 : w.testBit r with
    | true =>
      have ez : rdS s w z r = z := by unfold rdS; rw [if_neg (by simp [c1])]
      simp (disch := omega) only [↓mrd_n, mrd_n, h6, hI.c1, y, pq_add, ↓mbd_h (m_bt _ _), m_bt _ _, b1, c1, pB_T, ih, rdF, ez, eq_self, ↓reduceIte, Nat.reduceEqDiff, Nat.reduceLeDiff, Nat.reduceLT, Nat.reduceMul, Nat.reduceAdd, not_true_eq_false, not_false_eq_true, Bool.false_eq_true, pq_lit, pq_add, pq_le, pq_lt, pq_eq, pq_en, pq_ne, pq_nle, pq_nlt, pq_len, pq_ltn, pB_z, pB_o, mzt_0, mzt_1, mzt_B]
    | false =>
      cases c2 : z.testBit (ea s r) with
      | true =>
        have ez : rdS s w z r = z ||| (2 ^ ea s r ||| 2 ^ eb s r) := by unfold rdS; rw [if_pos (by simp [c1, c2])]
        simp (disch := omega) only [↓mrd_n, mrd_n, h6, hI.c1, y, pq_add, ↓mbd_h (m_bt _ _), m_bt _ _, e1, e3, b1, b2, c1, c2, pB_T, pB_F, o, ih, rdF, ez, eq_self, ↓reduceIte, Nat.reduceEqDiff, Nat.reduceLeDiff, Nat.reduceLT, Nat.reduceMul, Nat.reduceAdd, not_true_eq_false, not_false_eq_true, Bool.false_eq_true, pq_lit, pq_add, pq_le, pq_lt, pq_eq, pq_en, pq_ne, pq_nle, pq_nlt, pq_len, pq_ltn, pB_z, pB_o, mzt_0, mzt_1, mzt_B]
      | false =>
        cases c3 : z.testBit (eb s r) with
        | true =>
          have ez : rdS s w z r = z ||| (2 ^ ea s r ||| 2 ^ eb s r) := by unfold rdS; rw [if_pos (by simp [c1, c2, c3])]
          simp (disch := omega) only [↓mrd_n, mrd_n, h6, hI.c1, y, pq_add, ↓mbd_h (m_bt _ _), m_bt _ _, e1, e3, b1, b2, b3, c1, c2, c3, pB_T, pB_F, o, ih, rdF, ez, eq_self, ↓reduceIte, Nat.reduceEqDiff, Nat.reduceLeDiff, Nat.reduceLT, Nat.reduceMul, Nat.reduceAdd, not_true_eq_false, not_false_eq_true, Bool.false_eq_true, pq_lit, pq_add, pq_le, pq_lt, pq_eq, pq_en, pq_ne, pq_nle, pq_nlt, pq_len, pq_ltn, pB_z, pB_o, mzt_0, mzt_1, mzt_B]
        | false =>
          have ez : rdS s w z r = z := by unfold rdS; rw [if_neg (by simp [c1, c2, c3])]
          simp (disch := omega) only [↓mrd_n, mrd_n, h6, hI.c1, y, pq_add, ↓mbd_h (m_bt _ _), m_bt _ _, e1, e3, b1, b2, b3, c1, c2, c3, pB_T, pB_F, o, ih, rdF, ez, eq_self, ↓reduceIte, Nat.reduceEqDiff, Nat.reduceLeDiff, Nat.reduceLT, Nat.reduceMul, Nat.reduceAdd, not_true_eq_false, not_false_eq_true, Bool.false_eq_true, pq_lit, pq_add, pq_le, pq_lt, pq_eq, pq_en, pq_ne, pq_nle, pq_nlt, pq_len, pq_ltn, pB_z, pB_o, mzt_0, mzt_1, mzt_B]
theorem m_are8 (hN : 1000 ≤ N) {s : St} (hI : IvS s) (hs : Ends s) (h6 : M.2.2.1 6 = s) {y : Nat} (hy : y < 7) (w : Nat) : ∀ (k i q z : Nat), i + k = nL s → k < q → bX5_areParted_8L N q M (Int32.ofNat y) (Int32.ofNat w) (Int32.ofNat z) (Int32.ofNat i) = some (pB ((rpF s w k z).testBit y = false), M)
  | k, i, 0, z, _, h => by omega
  | 0, i, q + 1, z, hk, _ => by
    have u : nL s ≤ i := by omega
    have h7 := hs.1
    have b1 : bt (Int32.ofNat z) (Int32.ofNat y) = z.testBit y := bt_nat (by omega)
    simp only [bX5_areParted_8L, bX5_areParted_8, bX5_areParted_137, pq_lit]
    cases c1 : z.testBit y with
    | true =>
      simp (disch := omega) only [↓mrd_n, mrd_n, h6, hI.c0, u, ↓mbd_h (m_bt _ _), m_bt _ _, b1, c1, pB_T, pB_F, mzt_0, mzt_1, rpF, eq_self, ↓reduceIte, Nat.reduceEqDiff, Nat.reduceLeDiff, Nat.reduceLT, Nat.reduceMul, Nat.reduceAdd, not_true_eq_false, not_false_eq_true, Bool.false_eq_true, pq_lit, pq_add, pq_le, pq_lt, pq_eq, pq_en, pq_ne, pq_nle, pq_nlt, pq_len, pq_ltn, pB_z, pB_o, mzt_0, mzt_1, mzt_B]
      rfl
    | false =>
      simp (disch := omega) only [↓mrd_n, mrd_n, h6, hI.c0, u, ↓mbd_h (m_bt _ _), m_bt _ _, b1, c1, pB_T, pB_F, mzt_0, mzt_1, rpF, eq_self, ↓reduceIte, Nat.reduceEqDiff, Nat.reduceLeDiff, Nat.reduceLT, Nat.reduceMul, Nat.reduceAdd, not_true_eq_false, not_false_eq_true, Bool.false_eq_true, pq_lit, pq_add, pq_le, pq_lt, pq_eq, pq_en, pq_ne, pq_nle, pq_nlt, pq_len, pq_ltn, pB_z, pB_o, mzt_0, mzt_1, mzt_B]
  | k + 1, i, q + 1, z, hk, hq => by
    have u : ¬ nL s ≤ i := by omega
    have h7 := hs.1
    have h12 := hs.2.1
    have r := m_areR hN hI hs h6 (bX5_areParted_8L N q) (Int32.ofNat y) w i (nR s) 0 N z (by omega) (by omega)
    have ih := fun z => m_are8 hN hI hs h6 hy w k (i + 1) q z (by omega) (by omega)
    simp only [bX5_areParted_8L, bX5_areParted_8, pq_lit]
    simp (disch := omega) only [↓mrd_n, mrd_n, h6, hI.c0, u, r, ih, rpF, eq_self, ↓reduceIte, Nat.reduceEqDiff, Nat.reduceLeDiff, Nat.reduceLT, Nat.reduceMul, Nat.reduceAdd, not_true_eq_false, not_false_eq_true, Bool.false_eq_true, pq_lit, pq_add, pq_le, pq_lt, pq_eq, pq_en, pq_ne, pq_nle, pq_nlt, pq_len, pq_ltn, pB_z, pB_o, mzt_0, mzt_1, mzt_B]
    rfl
theorem m_are (hN : 1000 ≤ N) {s : St} (hI : IvS s) (hs : Ends s) (h6 : M.2.2.1 6 = s) {x y : Nat} (hx : x < nL s) (hy : y < nL s) (w : Nat) : fX5_areParted N M (Int32.ofNat x) (Int32.ofNat y) (Int32.ofNat w) = some (pB (prt s x y w = true), M) := by
  have h7 := hs.1
  have r := m_are8 hN hI hs h6 (y := y) (by omega) w (nL s) 0 N (2 ^ x) (by omega) (by omega)
  simp only [fX5_areParted, bX5_areParted_0, pq_lit]
  rw [p1_e, p1_n x (by omega), r, ← rp_7 hs hx]
  unfold prt
  cases (rpF s w 7 (2 ^ x)).testBit y <;> rfl
end OP
