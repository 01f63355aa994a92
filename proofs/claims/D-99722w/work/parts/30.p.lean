theorem qTT (A : FA) (j : Nat) (x : FT) (i : Nat) : aT (sT A j x) i = if i = j then x else aT A i := rfl
theorem qTI (A : FA) (j : Nat) (x : Int32) (i : Nat) : aT (sI A j x) i = aT A i := rfl
theorem qTR (A : FA) (j : Nat) (x : Option Nat) (i : Nat) : aT (sR A j x) i = aT A i := rfl
theorem qTV (A : FA) (j : Nat) (x : Nat → Int32) (i : Nat) : aT (sV A j x) i = aT A i := rfl
theorem qTC (A : FA) (x : Nat) (i : Nat) : aT (sC A x) i = aT A i := rfl
theorem qTK (A : FA) (j : Nat) (x : Option Nat × Option Nat) (i : Nat) : aT (sK A j x) i = aT A i := rfl
theorem qTs (A : FA) (j : Nat) (s : Nat → Int32) (i : Nat) : aT (sS A j s) i = if i = j then ((aT A j).1, (aT A j).2.1, s) else aT A i := rfl
theorem qIT (A : FA) (j : Nat) (x : FT) (i : Nat) : aI (sT A j x) i = aI A i := rfl
theorem qII (A : FA) (j : Nat) (x : Int32) (i : Nat) : aI (sI A j x) i = if i = j then x else aI A i := rfl
theorem qIR (A : FA) (j : Nat) (x : Option Nat) (i : Nat) : aI (sR A j x) i = aI A i := rfl
theorem qIV (A : FA) (j : Nat) (x : Nat → Int32) (i : Nat) : aI (sV A j x) i = aI A i := rfl
theorem qIC (A : FA) (x : Nat) (i : Nat) : aI (sC A x) i = aI A i := rfl
theorem qIK (A : FA) (j : Nat) (x : Option Nat × Option Nat) (i : Nat) : aI (sK A j x) i = aI A i := rfl
theorem qIs (A : FA) (j : Nat) (s : Nat → Int32) (i : Nat) : aI (sS A j s) i = aI A i := rfl
theorem qRT (A : FA) (j : Nat) (x : FT) (i : Nat) : aR (sT A j x) i = aR A i := rfl
theorem qRI (A : FA) (j : Nat) (x : Int32) (i : Nat) : aR (sI A j x) i = aR A i := rfl
theorem qRR (A : FA) (j : Nat) (x : Option Nat) (i : Nat) : aR (sR A j x) i = if i = j then x else aR A i := rfl
theorem qRV (A : FA) (j : Nat) (x : Nat → Int32) (i : Nat) : aR (sV A j x) i = aR A i := rfl
theorem qRC (A : FA) (x : Nat) (i : Nat) : aR (sC A x) i = aR A i := rfl
theorem qRK (A : FA) (j : Nat) (x : Option Nat × Option Nat) (i : Nat) : aR (sK A j x) i = aR A i := rfl
theorem qRs (A : FA) (j : Nat) (s : Nat → Int32) (i : Nat) : aR (sS A j s) i = aR A i := rfl
theorem qVT (A : FA) (j : Nat) (x : FT) (i : Nat) : aV (sT A j x) i = aV A i := rfl
theorem qVI (A : FA) (j : Nat) (x : Int32) (i : Nat) : aV (sI A j x) i = aV A i := rfl
theorem qVR (A : FA) (j : Nat) (x : Option Nat) (i : Nat) : aV (sR A j x) i = aV A i := rfl
theorem qVV (A : FA) (j : Nat) (x : Nat → Int32) (i : Nat) : aV (sV A j x) i = if i = j then x else aV A i := rfl
theorem qVC (A : FA) (x : Nat) (i : Nat) : aV (sC A x) i = aV A i := rfl
theorem qVK (A : FA) (j : Nat) (x : Option Nat × Option Nat) (i : Nat) : aV (sK A j x) i = aV A i := rfl
theorem qVs (A : FA) (j : Nat) (s : Nat → Int32) (i : Nat) : aV (sS A j s) i = aV A i := rfl
theorem qCT (A : FA) (j : Nat) (x : FT) : aC (sT A j x) = aC A := rfl
theorem qCI (A : FA) (j : Nat) (x : Int32) : aC (sI A j x) = aC A := rfl
theorem qCR (A : FA) (j : Nat) (x : Option Nat) : aC (sR A j x) = aC A := rfl
theorem qCV (A : FA) (j : Nat) (x : Nat → Int32) : aC (sV A j x) = aC A := rfl
theorem qCC (A : FA) (x : Nat) : aC (sC A x) = x := rfl
theorem qCK (A : FA) (j : Nat) (x : Option Nat × Option Nat) : aC (sK A j x) = aC A := rfl
theorem qCs (A : FA) (j : Nat) (s : Nat → Int32) : aC (sS A j s) = aC A := rfl
theorem qKT (A : FA) (j : Nat) (x : FT) (i : Nat) : aK (sT A j x) i = aK A i := rfl
theorem qKI (A : FA) (j : Nat) (x : Int32) (i : Nat) : aK (sI A j x) i = aK A i := rfl
theorem qKR (A : FA) (j : Nat) (x : Option Nat) (i : Nat) : aK (sR A j x) i = aK A i := rfl
theorem qKV (A : FA) (j : Nat) (x : Nat → Int32) (i : Nat) : aK (sV A j x) i = aK A i := rfl
theorem qKC (A : FA) (x : Nat) (i : Nat) : aK (sC A x) i = aK A i := rfl
theorem qKK (A : FA) (j : Nat) (x : Option Nat × Option Nat) (i : Nat) : aK (sK A j x) i = if i = j then x else aK A i := rfl
theorem qKs (A : FA) (j : Nat) (s : Nat → Int32) (i : Nat) : aK (sS A j s) i = aK A i := rfl
/-! calls in a bind; reads and writes at a place -/
theorem gbd_h {α β : Type} {o : Option (α × GS)} {r : α} {S' : GS} (h : o = some (r, S')) (K : α → GS → Option β) : gbd o K = K r S' := by rw [h]; rfl
theorem mbd_h {α β : Type} {o : Option (α × MS)} {r : α} {S' : MS} (h : o = some (r, S')) (K : α → MS → Option β) : mbd o K = K r S' := by rw [h]; rfl
theorem mrd_l {β : Type} {a : Nat → Int32} {n i : Nat} {K : Int32 → Option β} (h : i < n) (hn : n ≤ 65536) : mrd a n (OfNat.ofNat i) K = K (a i) := mrd_n h hn
theorem mrd_p {β : Type} {a : Nat → Int32} {n i j : Nat} {K : Int32 → Option β} (h : i + j < n) (hn : n ≤ 65536) : mrd a n ((OfNat.ofNat i : Int32) + Int32.ofNat j) K = K (a (i + j)) := by
  rw [pq_lit, pq_add]
  exact mrd_n h hn
theorem mwr_l {β : Type} {S : MS} {k n i : Nat} {v : Int32} {K : MS → Option β} (h : i < n) (hn : n ≤ 65536) : mwr S k n (OfNat.ofNat i) v K = K (mA S k i v) := mwr_n h hn
theorem mwr_p {β : Type} {S : MS} {k n i j : Nat} {v : Int32} {K : MS → Option β} (h : i + j < n) (hn : n ≤ 65536) : mwr S k n ((OfNat.ofNat i : Int32) + Int32.ofNat j) v K = K (mA S k (i + j) v) := by
  rw [pq_lit, pq_add]
  exact mwr_n h hn
/-! acts by words of s: why not, and what they do -/
theorem whyS_n (s : St) (fr : Int32) (l : Nat) (m : Int32) (sp : Bool) : whyS s fr l m sp = Int32.ofNat (whyS s fr l m sp).toNatClampNeg ∧ (whyS s fr l m sp).toNatClampNeg ≤ 5 := by
  unfold whyS
  split
  · exact ⟨rfl, by decide⟩
  · split
    · exact ⟨rfl, by decide⟩
    · split
      · exact ⟨rfl, by decide⟩
      · split
        · exact ⟨rfl, by decide⟩
        · split
          · exact ⟨rfl, by decide⟩
          · exact ⟨rfl, by decide⟩
def actN (s : St) (k x y n : Nat) : Nat := match k with
  | 0 => (whyC s x y).toNatClampNeg
  | 1 => if x = y then 1 else if bt (s (101 + x)) (Int32.ofNat y) = true then 2 else 0
  | 2 => if bt (s (101 + x)) (Int32.ofNat y) = true then 0 else 1
  | 3 => if x < nR s then (if bt (s 93) (Int32.ofNat x) = true then 2 else 0) else 1
  | 4 => if x < nR s then (if bt (s 93) (Int32.ofNat x) = true then 0 else 2) else 1
  | 5 => if x = y then 1 else if s (94 + x) < Int32.ofNat n then 2 else 0
  | _ => if s 91 + Int32.ofNat x ≤ Int32.ofNat 400 then 0 else 1
def actS (s : St) (k x y n : Nat) : St := match k with
  | 0 => crS s x y
  | 1 => upd s (101 + x) (s (101 + x) ^^^ p1 y)
  | 2 => upd s (101 + x) (s (101 + x) ^^^ p1 y)
  | 3 => upd s 93 (s 93 ^^^ p1 x)
  | 4 => upd s 93 (s 93 ^^^ p1 x)
  | 5 => upd (upd s (94 + x) (s (94 + x) - Int32.ofNat n)) (94 + y) (s (94 + y) + Int32.ofNat n)
  | _ => (goF x 0 s).2
def actF (s : St) (k x y n : Nat) : St := if actN s k x y n = 0 then actS s k x y n else s
def totN (k w : Nat) : Nat := if w = 0 then 0 else 10 * k + w
def ActOk (s : St) (k x y n : Nat) : Prop := k ≤ 6 ∧ (k = 0 → x < nP s ∧ y < nL s) ∧ (k = 1 ∨ k = 2 ∨ k = 5 → x < nL s ∧ y < nL s) ∧ (k = 3 ∨ k = 4 → x < 12) ∧ (k = 6 → x ≤ 60) ∧ n ≤ 99
theorem actN_le (s : St) {k x y n : Nat} (hk : k ≤ 6) : actN s k x y n ≤ 5 := by
  match k, hk with
  | 0, _ => exact (whyS_n _ _ _ _ _).2
  | 1, _ => unfold actN; simp only []; repeat' split
            all_goals omega
  | 2, _ => unfold actN; simp only []; repeat' split
            all_goals omega
  | 3, _ => unfold actN; simp only []; repeat' split
            all_goals omega
  | 4, _ => unfold actN; simp only []; repeat' split
            all_goals omega
  | 5, _ => unfold actN; simp only []; repeat' split
            all_goals omega
  | 6, _ => unfold actN; simp only []; repeat' split
            all_goals omega
theorem or_xor {v : Int32} {y : Nat} (hy : y < 32) (h : bt v (Int32.ofNat y) = false) : v ||| p1 y = v ^^^ p1 y := by
  apply bt_ext
  intro l hl
  rw [bt_or hl, bt_xor hl, bt_p1 hy hl]
  by_cases e : y = l
  · subst e; rw [h]; simp
  · simp [e]
section AC
variable {N : Nat} {S : MS}
theorem m_act (hI : IvS (S.2.2.1 6)) (hN : 1000 ≤ N) {k x y n : Nat} (ho : ActOk (S.2.2.1 6) k x y n) : fX5_does N S (Int32.ofNat k) (Int32.ofNat x) (Int32.ofNat y) (Int32.ofNat n) = some (Int32.ofNat (totN k (actN (S.2.2.1 6) k x y n)), mR S 6 (actF (S.2.2.1 6) k x y n)) := by
  obtain ⟨hk, h0, h1, h2, h3, h4⟩ := ho
  have h7 := hI.l7
  have h6 := hI.p6
  have h12 := hI.r12
  match k, hk with
  | 0, _ =>
    obtain ⟨hx, hy⟩ := h0 rfl
    have hw := whyS_n (S.2.2.1 6) (S.2.2.1 6 (108 + x)) y (S.2.2.1 6 (114 + x)) (spd (S.2.2.1 6) x y)
    have hw1 : whyC (S.2.2.1 6) x y = Int32.ofNat (actN (S.2.2.1 6) 0 x y n) := hw.1
    have hw2 : actN (S.2.2.1 6) 0 x y n ≤ 5 := hw.2
    unfold totN actF
    by_cases e : actN (S.2.2.1 6) 0 x y n = 0
    · simp (disch := omega) only [bX5_does_247, bX5_does_231, bX5_does_155, bX5_does_143, bX5_does_118, bX5_does_0, fX5_does, ↓mbd_h (m_whyC hI (show 100 ≤ N by omega) hx (show y < 7 by omega)), m_whyC hI (show 100 ≤ N by omega) hx (show y < 7 by omega), ↓mbd_h (m_cr hI hx hy), m_cr hI hx hy, hw1, e, pq_lit, pq_add, pq_le, pq_lt, pq_eq, pq_en, pq_ne, pq_nle, pq_nlt, pq_len, pq_ltn, pB_z, pB_o, mzt_0, mzt_1, mzt_B, ↓mrd_p, ↓mrd_l, ↓mrd_n, mrd_n, ↓mwr_p, ↓mwr_l, ↓mwr_n, mwr_n, ↓mbd_s, mbd_s, ↓mpt, mF_a, mF_w, mF_L, mF_e, mF_ne, mA_e, mA_n, mA_w, mA_i, mA_L, ma_s, eq_self, ↓reduceIte, Nat.reduceEqDiff, Nat.reduceLeDiff, Nat.reduceLT, Nat.reduceMul, Nat.reduceAdd, not_true_eq_false, not_false_eq_true, Bool.false_eq_true, actS]
    · have e2 : ¬ actN (S.2.2.1 6) 0 x y n ≤ 0 := by omega
      simp (disch := omega) only [bX5_does_247, bX5_does_231, bX5_does_155, bX5_does_143, bX5_does_118, bX5_does_0, fX5_does, ↓mbd_h (m_whyC hI (show 100 ≤ N by omega) hx (show y < 7 by omega)), m_whyC hI (show 100 ≤ N by omega) hx (show y < 7 by omega), ↓mbd_h (m_cr hI hx hy), m_cr hI hx hy, hw1, e, e2, pq_lit, pq_add, pq_le, pq_lt, pq_eq, pq_en, pq_ne, pq_nle, pq_nlt, pq_len, pq_ltn, pB_z, pB_o, mzt_0, mzt_1, mzt_B, ↓mrd_p, ↓mrd_l, ↓mrd_n, mrd_n, ↓mwr_p, ↓mwr_l, ↓mwr_n, mwr_n, ↓mbd_s, mbd_s, ↓mpt, mF_a, mF_w, mF_L, mF_e, mF_ne, mA_e, mA_n, mA_w, mA_i, mA_L, ma_s, eq_self, ↓reduceIte, Nat.reduceEqDiff, Nat.reduceLeDiff, Nat.reduceLT, Nat.reduceMul, Nat.reduceAdd, not_true_eq_false, not_false_eq_true, Bool.false_eq_true, pq_mul, mR_id]
  | 1, _ =>
    obtain ⟨hx, hy⟩ := h1 (by omega)
    unfold totN actF actN actS
    by_cases e : x = y
    · subst e
      simp (disch := omega) only [bX5_does_247, bX5_does_231, bX5_does_155, bX5_does_143, bX5_does_118, bX5_does_0, fX5_does, bX5_whyPact_30, bX5_whyPact_0, fX5_whyPact, pq_lit, pq_add, pq_le, pq_lt, pq_eq, pq_en, pq_ne, pq_nle, pq_nlt, pq_len, pq_ltn, pB_z, pB_o, mzt_0, mzt_1, mzt_B, ↓mrd_p, ↓mrd_l, ↓mrd_n, mrd_n, ↓mwr_p, ↓mwr_l, ↓mwr_n, mwr_n, ↓mbd_s, mbd_s, ↓mpt, mF_a, mF_w, mF_L, mF_e, mF_ne, mA_e, mA_n, mA_w, mA_i, mA_L, ma_s, eq_self, ↓reduceIte, Nat.reduceEqDiff, Nat.reduceLeDiff, Nat.reduceLT, Nat.reduceMul, Nat.reduceAdd, not_true_eq_false, not_false_eq_true, Bool.false_eq_true, pq_mul, mR_id]
    · cases e2 : bt (S.2.2.1 6 (101 + x)) (Int32.ofNat y) with
      | true => simp (disch := omega) only [bX5_does_247, bX5_does_231, bX5_does_155, bX5_does_143, bX5_does_118, bX5_does_0, fX5_does, bX5_whyPact_30, bX5_whyPact_0, fX5_whyPact, ↓mbd_h (m_bt _ _), m_bt _ _, e, e2, pq_lit, pq_add, pq_le, pq_lt, pq_eq, pq_en, pq_ne, pq_nle, pq_nlt, pq_len, pq_ltn, pB_z, pB_o, mzt_0, mzt_1, mzt_B, ↓mrd_p, ↓mrd_l, ↓mrd_n, mrd_n, ↓mwr_p, ↓mwr_l, ↓mwr_n, mwr_n, ↓mbd_s, mbd_s, ↓mpt, mF_a, mF_w, mF_L, mF_e, mF_ne, mA_e, mA_n, mA_w, mA_i, mA_L, ma_s, eq_self, ↓reduceIte, Nat.reduceEqDiff, Nat.reduceLeDiff, Nat.reduceLT, Nat.reduceMul, Nat.reduceAdd, not_true_eq_false, not_false_eq_true, Bool.false_eq_true, pq_mul, mR_id]
      | false => simp (disch := omega) only [bX5_does_247, bX5_does_231, bX5_does_155, bX5_does_143, bX5_does_118, bX5_does_0, fX5_does, bX5_whyPact_30, bX5_whyPact_0, fX5_whyPact, ↓mbd_h (m_bt _ _), m_bt _ _, e, e2, pq_lit, pq_add, pq_le, pq_lt, pq_eq, pq_en, pq_ne, pq_nle, pq_nlt, pq_len, pq_ltn, pB_z, pB_o, mzt_0, mzt_1, mzt_B, ↓mrd_p, ↓mrd_l, ↓mrd_n, mrd_n, ↓mwr_p, ↓mwr_l, ↓mwr_n, mwr_n, ↓mbd_s, mbd_s, ↓mpt, mF_a, mF_w, mF_L, mF_e, mF_ne, mA_e, mA_n, mA_w, mA_i, mA_L, ma_s, eq_self, ↓reduceIte, Nat.reduceEqDiff, Nat.reduceLeDiff, Nat.reduceLT, Nat.reduceMul, Nat.reduceAdd, not_true_eq_false, not_false_eq_true, Bool.false_eq_true, pq_mul, p1_e, or_xor (show y < 32 by omega) e2]
  | 2, _ =>
    obtain ⟨hx, hy⟩ := h1 (by omega)
    unfold totN actF actN actS
    cases e2 : bt (S.2.2.1 6 (101 + x)) (Int32.ofNat y) with
    | true => simp (disch := omega) only [bX5_does_247, bX5_does_231, bX5_does_155, bX5_does_143, bX5_does_118, bX5_does_0, fX5_does, ↓mbd_h (m_bt _ _), m_bt _ _, e2, pq_lit, pq_add, pq_le, pq_lt, pq_eq, pq_en, pq_ne, pq_nle, pq_nlt, pq_len, pq_ltn, pB_z, pB_o, mzt_0, mzt_1, mzt_B, ↓mrd_p, ↓mrd_l, ↓mrd_n, mrd_n, ↓mwr_p, ↓mwr_l, ↓mwr_n, mwr_n, ↓mbd_s, mbd_s, ↓mpt, mF_a, mF_w, mF_L, mF_e, mF_ne, mA_e, mA_n, mA_w, mA_i, mA_L, ma_s, eq_self, ↓reduceIte, Nat.reduceEqDiff, Nat.reduceLeDiff, Nat.reduceLT, Nat.reduceMul, Nat.reduceAdd, not_true_eq_false, not_false_eq_true, Bool.false_eq_true, pq_mul, p1_e]
    | false => simp (disch := omega) only [bX5_does_247, bX5_does_231, bX5_does_155, bX5_does_143, bX5_does_118, bX5_does_0, fX5_does, ↓mbd_h (m_bt _ _), m_bt _ _, e2, pq_lit, pq_add, pq_le, pq_lt, pq_eq, pq_en, pq_ne, pq_nle, pq_nlt, pq_len, pq_ltn, pB_z, pB_o, mzt_0, mzt_1, mzt_B, ↓mrd_p, ↓mrd_l, ↓mrd_n, mrd_n, ↓mwr_p, ↓mwr_l, ↓mwr_n, mwr_n, ↓mbd_s, mbd_s, ↓mpt, mF_a, mF_w, mF_L, mF_e, mF_ne, mA_e, mA_n, mA_w, mA_i, mA_L, ma_s, eq_self, ↓reduceIte, Nat.reduceEqDiff, Nat.reduceLeDiff, Nat.reduceLT, Nat.reduceMul, Nat.reduceAdd, not_true_eq_false, not_false_eq_true, Bool.false_eq_true, pq_mul, mR_id]
  | 3, _ =>
    have hx := h2 (by omega)
    unfold totN actF actN actS
    by_cases e : x < nR (S.2.2.1 6)
    · cases e2 : bt (S.2.2.1 6 93) (Int32.ofNat x) with
      | true => simp (disch := omega) only [bX5_does_247, bX5_does_231, bX5_does_155, bX5_does_143, bX5_does_118, bX5_does_0, fX5_does, bX5_whyTurn_28, bX5_whyTurn_0, fX5_whyTurn, ↓mbd_h (m_open _), m_open _, hI.c1, e, e2, pq_lit, pq_add, pq_le, pq_lt, pq_eq, pq_en, pq_ne, pq_nle, pq_nlt, pq_len, pq_ltn, pB_z, pB_o, mzt_0, mzt_1, mzt_B, ↓mrd_p, ↓mrd_l, ↓mrd_n, mrd_n, ↓mwr_p, ↓mwr_l, ↓mwr_n, mwr_n, ↓mbd_s, mbd_s, ↓mpt, mF_a, mF_w, mF_L, mF_e, mF_ne, mA_e, mA_n, mA_w, mA_i, mA_L, ma_s, eq_self, ↓reduceIte, Nat.reduceEqDiff, Nat.reduceLeDiff, Nat.reduceLT, Nat.reduceMul, Nat.reduceAdd, not_true_eq_false, not_false_eq_true, Bool.false_eq_true, pq_mul, mR_id]
      | false => simp (disch := omega) only [bX5_does_247, bX5_does_231, bX5_does_155, bX5_does_143, bX5_does_118, bX5_does_0, fX5_does, bX5_whyTurn_28, bX5_whyTurn_0, fX5_whyTurn, ↓mbd_h (m_open _), m_open _, hI.c1, e, e2, pq_lit, pq_add, pq_le, pq_lt, pq_eq, pq_en, pq_ne, pq_nle, pq_nlt, pq_len, pq_ltn, pB_z, pB_o, mzt_0, mzt_1, mzt_B, ↓mrd_p, ↓mrd_l, ↓mrd_n, mrd_n, ↓mwr_p, ↓mwr_l, ↓mwr_n, mwr_n, ↓mbd_s, mbd_s, ↓mpt, mF_a, mF_w, mF_L, mF_e, mF_ne, mA_e, mA_n, mA_w, mA_i, mA_L, ma_s, eq_self, ↓reduceIte, Nat.reduceEqDiff, Nat.reduceLeDiff, Nat.reduceLT, Nat.reduceMul, Nat.reduceAdd, not_true_eq_false, not_false_eq_true, Bool.false_eq_true, pq_mul, p1_e]
    · simp (disch := omega) only [bX5_does_247, bX5_does_231, bX5_does_155, bX5_does_143, bX5_does_118, bX5_does_0, fX5_does, bX5_whyTurn_28, bX5_whyTurn_0, fX5_whyTurn, ↓mbd_h (m_open _), m_open _, hI.c1, e, pq_lit, pq_add, pq_le, pq_lt, pq_eq, pq_en, pq_ne, pq_nle, pq_nlt, pq_len, pq_ltn, pB_z, pB_o, mzt_0, mzt_1, mzt_B, ↓mrd_p, ↓mrd_l, ↓mrd_n, mrd_n, ↓mwr_p, ↓mwr_l, ↓mwr_n, mwr_n, ↓mbd_s, mbd_s, ↓mpt, mF_a, mF_w, mF_L, mF_e, mF_ne, mA_e, mA_n, mA_w, mA_i, mA_L, ma_s, eq_self, ↓reduceIte, Nat.reduceEqDiff, Nat.reduceLeDiff, Nat.reduceLT, Nat.reduceMul, Nat.reduceAdd, not_true_eq_false, not_false_eq_true, Bool.false_eq_true, pq_mul, mR_id]
  | 4, _ =>
    have hx := h2 (by omega)
    unfold totN actF actN actS
    by_cases e : x < nR (S.2.2.1 6)
    · cases e2 : bt (S.2.2.1 6 93) (Int32.ofNat x) with
      | true => simp (disch := omega) only [bX5_does_247, bX5_does_231, bX5_does_155, bX5_does_143, bX5_does_118, bX5_does_0, fX5_does, bX5_whyTurn_28, bX5_whyTurn_0, fX5_whyTurn, ↓mbd_h (m_open _), m_open _, hI.c1, e, e2, pq_lit, pq_add, pq_le, pq_lt, pq_eq, pq_en, pq_ne, pq_nle, pq_nlt, pq_len, pq_ltn, pB_z, pB_o, mzt_0, mzt_1, mzt_B, ↓mrd_p, ↓mrd_l, ↓mrd_n, mrd_n, ↓mwr_p, ↓mwr_l, ↓mwr_n, mwr_n, ↓mbd_s, mbd_s, ↓mpt, mF_a, mF_w, mF_L, mF_e, mF_ne, mA_e, mA_n, mA_w, mA_i, mA_L, ma_s, eq_self, ↓reduceIte, Nat.reduceEqDiff, Nat.reduceLeDiff, Nat.reduceLT, Nat.reduceMul, Nat.reduceAdd, not_true_eq_false, not_false_eq_true, Bool.false_eq_true, pq_mul, p1_e]
      | false => simp (disch := omega) only [bX5_does_247, bX5_does_231, bX5_does_155, bX5_does_143, bX5_does_118, bX5_does_0, fX5_does, bX5_whyTurn_28, bX5_whyTurn_0, fX5_whyTurn, ↓mbd_h (m_open _), m_open _, hI.c1, e, e2, pq_lit, pq_add, pq_le, pq_lt, pq_eq, pq_en, pq_ne, pq_nle, pq_nlt, pq_len, pq_ltn, pB_z, pB_o, mzt_0, mzt_1, mzt_B, ↓mrd_p, ↓mrd_l, ↓mrd_n, mrd_n, ↓mwr_p, ↓mwr_l, ↓mwr_n, mwr_n, ↓mbd_s, mbd_s, ↓mpt, mF_a, mF_w, mF_L, mF_e, mF_ne, mA_e, mA_n, mA_w, mA_i, mA_L, ma_s, eq_self, ↓reduceIte, Nat.reduceEqDiff, Nat.reduceLeDiff, Nat.reduceLT, Nat.reduceMul, Nat.reduceAdd, not_true_eq_false, not_false_eq_true, Bool.false_eq_true, pq_mul, mR_id]
    · simp (disch := omega) only [bX5_does_247, bX5_does_231, bX5_does_155, bX5_does_143, bX5_does_118, bX5_does_0, fX5_does, bX5_whyTurn_28, bX5_whyTurn_0, fX5_whyTurn, ↓mbd_h (m_open _), m_open _, hI.c1, e, pq_lit, pq_add, pq_le, pq_lt, pq_eq, pq_en, pq_ne, pq_nle, pq_nlt, pq_len, pq_ltn, pB_z, pB_o, mzt_0, mzt_1, mzt_B, ↓mrd_p, ↓mrd_l, ↓mrd_n, mrd_n, ↓mwr_p, ↓mwr_l, ↓mwr_n, mwr_n, ↓mbd_s, mbd_s, ↓mpt, mF_a, mF_w, mF_L, mF_e, mF_ne, mA_e, mA_n, mA_w, mA_i, mA_L, ma_s, eq_self, ↓reduceIte, Nat.reduceEqDiff, Nat.reduceLeDiff, Nat.reduceLT, Nat.reduceMul, Nat.reduceAdd, not_true_eq_false, not_false_eq_true, Bool.false_eq_true, pq_mul, mR_id]
  | 5, _ =>
    obtain ⟨hx, hy⟩ := h1 (by omega)
    unfold totN actF actN actS
    by_cases e : x = y
    · subst e
      simp (disch := omega) only [bX5_does_247, bX5_does_231, bX5_does_155, bX5_does_143, bX5_does_118, bX5_does_0, fX5_does, bX5_whyLend_27, bX5_whyLend_0, fX5_whyLend, bX5_lends_0, fX5_lends, pq_lit, pq_add, pq_le, pq_lt, pq_eq, pq_en, pq_ne, pq_nle, pq_nlt, pq_len, pq_ltn, pB_z, pB_o, mzt_0, mzt_1, mzt_B, ↓mrd_p, ↓mrd_l, ↓mrd_n, mrd_n, ↓mwr_p, ↓mwr_l, ↓mwr_n, mwr_n, ↓mbd_s, mbd_s, ↓mpt, mF_a, mF_w, mF_L, mF_e, mF_ne, mA_e, mA_n, mA_w, mA_i, mA_L, ma_s, eq_self, ↓reduceIte, Nat.reduceEqDiff, Nat.reduceLeDiff, Nat.reduceLT, Nat.reduceMul, Nat.reduceAdd, not_true_eq_false, not_false_eq_true, Bool.false_eq_true, pq_mul, mR_id]
    · by_cases e2 : Int32.ofNat n ≤ S.2.2.1 6 (94 + x)
      · simp (disch := omega) only [bX5_does_247, bX5_does_231, bX5_does_155, bX5_does_143, bX5_does_118, bX5_does_0, fX5_does, bX5_whyLend_27, bX5_whyLend_0, fX5_whyLend, bX5_lends_0, fX5_lends, pq_lit, pq_add, pq_le, pq_lt, pq_eq, pq_en, pq_ne, pq_nle, pq_nlt, pq_len, pq_ltn, pB_z, pB_o, mzt_0, mzt_1, mzt_B, ↓mrd_p, ↓mrd_l, ↓mrd_n, mrd_n, ↓mwr_p, ↓mwr_l, ↓mwr_n, mwr_n, ↓mbd_s, mbd_s, ↓mpt, mF_a, mF_w, mF_L, mF_e, mF_ne, mA_e, mA_n, mA_w, mA_i, mA_L, ma_s, eq_self, ↓reduceIte, Nat.reduceEqDiff, Nat.reduceLeDiff, Nat.reduceLT, Nat.reduceMul, Nat.reduceAdd, not_true_eq_false, not_false_eq_true, Bool.false_eq_true, e, e2, ← Int32.not_le, pq_mul, mR_mR, upd_o]
      · simp (disch := omega) only [bX5_does_247, bX5_does_231, bX5_does_155, bX5_does_143, bX5_does_118, bX5_does_0, fX5_does, bX5_whyLend_27, bX5_whyLend_0, fX5_whyLend, bX5_lends_0, fX5_lends, pq_lit, pq_add, pq_le, pq_lt, pq_eq, pq_en, pq_ne, pq_nle, pq_nlt, pq_len, pq_ltn, pB_z, pB_o, mzt_0, mzt_1, mzt_B, ↓mrd_p, ↓mrd_l, ↓mrd_n, mrd_n, ↓mwr_p, ↓mwr_l, ↓mwr_n, mwr_n, ↓mbd_s, mbd_s, ↓mpt, mF_a, mF_w, mF_L, mF_e, mF_ne, mA_e, mA_n, mA_w, mA_i, mA_L, ma_s, eq_self, ↓reduceIte, Nat.reduceEqDiff, Nat.reduceLeDiff, Nat.reduceLT, Nat.reduceMul, Nat.reduceAdd, not_true_eq_false, not_false_eq_true, Bool.false_eq_true, e, e2, ← Int32.not_le, pq_mul, mR_id]
  | 6, _ =>
    have hx := h3 rfl
    unfold totN actF actN actS
    by_cases e : S.2.2.1 6 91 + Int32.ofNat x ≤ Int32.ofNat 400
    · simp (disch := omega) only [bX5_does_247, bX5_does_231, bX5_does_155, bX5_does_143, bX5_does_118, bX5_does_0, fX5_does, m_go hI hN, e, pq_lit, pq_add, pq_le, pq_lt, pq_eq, pq_en, pq_ne, pq_nle, pq_nlt, pq_len, pq_ltn, pB_z, pB_o, mzt_0, mzt_1, mzt_B, ↓mrd_p, ↓mrd_l, ↓mrd_n, mrd_n, ↓mwr_p, ↓mwr_l, ↓mwr_n, mwr_n, ↓mbd_s, mbd_s, ↓mpt, mF_a, mF_w, mF_L, mF_e, mF_ne, mA_e, mA_n, mA_w, mA_i, mA_L, ma_s, eq_self, ↓reduceIte, Nat.reduceEqDiff, Nat.reduceLeDiff, Nat.reduceLT, Nat.reduceMul, Nat.reduceAdd, not_true_eq_false, not_false_eq_true, Bool.false_eq_true, pq_mul]
    · simp (disch := omega) only [bX5_does_247, bX5_does_231, bX5_does_155, bX5_does_143, bX5_does_118, bX5_does_0, fX5_does, m_go hI hN, e, pq_lit, pq_add, pq_le, pq_lt, pq_eq, pq_en, pq_ne, pq_nle, pq_nlt, pq_len, pq_ltn, pB_z, pB_o, mzt_0, mzt_1, mzt_B, ↓mrd_p, ↓mrd_l, ↓mrd_n, mrd_n, ↓mwr_p, ↓mwr_l, ↓mwr_n, mwr_n, ↓mbd_s, mbd_s, ↓mpt, mF_a, mF_w, mF_L, mF_e, mF_ne, mA_e, mA_n, mA_w, mA_i, mA_L, ma_s, eq_self, ↓reduceIte, Nat.reduceEqDiff, Nat.reduceLeDiff, Nat.reduceLT, Nat.reduceMul, Nat.reduceAdd, not_true_eq_false, not_false_eq_true, Bool.false_eq_true, pq_mul, mR_id]
end AC
def ActAt (b : Nat) (S : GS) (q k x y n : Nat) : Prop := match k with
  | 0 => Cel b S q (.inr (9, [.int (Int32.ofNat x), .int (Int32.ofNat y)]))
  | 1 => Cel b S q (.inr (12, [.int (Int32.ofNat x), .int (Int32.ofNat y), .int (Int32.ofNat 1)]))
  | 2 => Cel b S q (.inr (12, [.int (Int32.ofNat x), .int (Int32.ofNat y), .int (Int32.ofNat 0)]))
  | 3 => Cel b S q (.inr (10, [.int (Int32.ofNat x), .int (Int32.ofNat 1)]))
  | 4 => Cel b S q (.inr (10, [.int (Int32.ofNat x), .int (Int32.ofNat 0)]))
  | 5 => Cel b S q (.inr (11, [.int (Int32.ofNat x), .int (Int32.ofNat y), .int (Int32.ofNat n)]))
  | _ => Cel b S q (.inr (17, [.int (Int32.ofNat x)]))
section AC2
variable {E : gE} {N b : Nat} {A : FA} {S : GS} {j a : Nat} {d : AD}
theorem c_act (h : TA b S A j a d) (hE : E.1 ≤ b) (hN : 1000 ≤ N) (hD : IvD (tS A j)) {q k x y n : Nat} (hq : ActAt b S q k x y n) (ho : ActOk (tS A j) k x y n) : vInchBorders_Act_does__LInchBorders_Times__I E N (put b A S) (some q) (some (tad b j)) = some (Int32.ofNat (totN k (actN (tS A j) k x y n)), put b (sS A j (actF (tS A j) k x y n)) S) := by
  obtain ⟨hk, h0, h1, h2, h3, h4⟩ := ho
  have ht := h
  obtain ⟨hj, ha, hA, hI⟩ := h
  have h7 := hI.l7
  have h6 := hI.p6
  have h12 := hI.r12
  match k, hk with
  | 0, _ =>
    have hq : Cel b S q (.inr (9, [.int (Int32.ofNat x), .int (Int32.ofNat y)])) := hq
    obtain ⟨hx, hy⟩ := h0 rfl
    have hw := whyS_n (tS A j) (tS A j (108 + x)) y (tS A j (114 + x)) (spd (tS A j) x y)
    have hw1 : whyC (tS A j) x y = Int32.ofNat (actN (tS A j) 0 x y n) := hw.1
    have hw2 : actN (tS A j) 0 x y n ≤ 5 := hw.2
    unfold totN actF
    by_cases e : actN (tS A j) 0 x y n = 0
    · simp (disch := omega) only [vInchBorders_Act_does__LInchBorders_Times__I, ↓kc hq, bX14_does_29, bX14_does_0, fX14_does, ↓r9_73 hq, ↓r9_74 hq, ↓gbd_h (c_whyC ht (show 100 ≤ N by omega) hx hy), c_whyC ht (show 100 ≤ N by omega) hx hy, ↓gbd_h (c_cr ht hE hx hy), c_cr ht hE hx hy, hw1, e, pq_lit, pq_add, pq_le, pq_lt, pq_eq, pq_en, pq_ne, pq_nle, pq_nlt, pq_len, pq_ltn, pB_z, pB_o, mzt_0, mzt_1, mzt_B, ↓gbd_s, gbd_s, ↓gnn_s, ↓grf_s, eq_self, ↓reduceIte, Nat.reduceEqDiff, Nat.reduceLeDiff, Nat.reduceLT, Nat.reduceMul, Nat.reduceAdd, not_true_eq_false, not_false_eq_true, Bool.false_eq_true, actS]
    · simp (disch := omega) only [vInchBorders_Act_does__LInchBorders_Times__I, ↓kc hq, bX14_does_29, bX14_does_0, fX14_does, ↓r9_73 hq, ↓r9_74 hq, ↓gbd_h (c_whyC ht (show 100 ≤ N by omega) hx hy), c_whyC ht (show 100 ≤ N by omega) hx hy, hw1, e, pq_lit, pq_add, pq_le, pq_lt, pq_eq, pq_en, pq_ne, pq_nle, pq_nlt, pq_len, pq_ltn, pB_z, pB_o, mzt_0, mzt_1, mzt_B, ↓gbd_s, gbd_s, ↓gnn_s, ↓grf_s, eq_self, ↓reduceIte, Nat.reduceEqDiff, Nat.reduceLeDiff, Nat.reduceLT, Nat.reduceMul, Nat.reduceAdd, not_true_eq_false, not_false_eq_true, Bool.false_eq_true, sS_id, Nat.zero_add, Nat.mul_zero]
  | 1, _ =>
    have hq : Cel b S q (.inr (12, [.int (Int32.ofNat x), .int (Int32.ofNat y), .int (Int32.ofNat 1)])) := hq
    obtain ⟨hx, hy⟩ := h1 (by omega)
    unfold totN actF actN actS
    by_cases e : x = y
    · subst e
      simp (disch := omega) only [vInchBorders_Act_does__LInchBorders_Times__I, ↓kc hq, bX18_does_98, bX18_does_83, bX18_does_60, bX18_does_0, fX18_does, bX13_told_11, bX13_told_0, fX13_told, ↓r12_77 hq, ↓r12_78 hq, ↓r12_80 hq, ↓gbd_h (c_bt _ _), c_bt _ _, ↓t_33, t_33, ↓t_g2, t_g2, pq_lit, pq_add, pq_le, pq_lt, pq_eq, pq_en, pq_ne, pq_nle, pq_nlt, pq_len, pq_ltn, pB_z, pB_o, mzt_0, mzt_1, mzt_B, ↓gbd_s, gbd_s, ↓gnn_s, ↓grf_s, eq_self, ↓reduceIte, Nat.reduceEqDiff, Nat.reduceLeDiff, Nat.reduceLT, Nat.reduceMul, Nat.reduceAdd, not_true_eq_false, not_false_eq_true, Bool.false_eq_true, sS_id]
    · cases e2 : bt (tS A j (101 + x)) (Int32.ofNat y) with
      | true => simp (disch := omega) only [vInchBorders_Act_does__LInchBorders_Times__I, ↓kc hq, bX18_does_98, bX18_does_83, bX18_does_60, bX18_does_0, fX18_does, bX13_told_11, bX13_told_0, fX13_told, ↓r12_77 hq, ↓r12_78 hq, ↓r12_80 hq, ↓gbd_h (c_bt _ _), c_bt _ _, ↓t_33, t_33, ↓t_g2, t_g2, e, e2, pq_lit, pq_add, pq_le, pq_lt, pq_eq, pq_en, pq_ne, pq_nle, pq_nlt, pq_len, pq_ltn, pB_z, pB_o, mzt_0, mzt_1, mzt_B, ↓gbd_s, gbd_s, ↓gnn_s, ↓grf_s, eq_self, ↓reduceIte, Nat.reduceEqDiff, Nat.reduceLeDiff, Nat.reduceLT, Nat.reduceMul, Nat.reduceAdd, not_true_eq_false, not_false_eq_true, Bool.false_eq_true, sS_id]
      | false => simp (disch := omega) only [vInchBorders_Act_does__LInchBorders_Times__I, ↓kc hq, bX18_does_98, bX18_does_83, bX18_does_60, bX18_does_0, fX18_does, bX13_told_11, bX13_told_0, fX13_told, ↓r12_77 hq, ↓r12_78 hq, ↓r12_80 hq, ↓gbd_h (c_bt _ _), c_bt _ _, ↓t_33, t_33, ↓t_g2, t_g2, ↓t_w2, t_w2, e, e2, pq_lit, pq_add, pq_le, pq_lt, pq_eq, pq_en, pq_ne, pq_nle, pq_nlt, pq_len, pq_ltn, pB_z, pB_o, mzt_0, mzt_1, mzt_B, ↓gbd_s, gbd_s, ↓gnn_s, ↓grf_s, eq_self, ↓reduceIte, Nat.reduceEqDiff, Nat.reduceLeDiff, Nat.reduceLT, Nat.reduceMul, Nat.reduceAdd, not_true_eq_false, not_false_eq_true, Bool.false_eq_true, p1_e]
  | 2, _ =>
    have hq : Cel b S q (.inr (12, [.int (Int32.ofNat x), .int (Int32.ofNat y), .int (Int32.ofNat 0)])) := hq
    obtain ⟨hx, hy⟩ := h1 (by omega)
    unfold totN actF actN actS
    cases e2 : bt (tS A j (101 + x)) (Int32.ofNat y) with
    | true => simp (disch := omega) only [vInchBorders_Act_does__LInchBorders_Times__I, ↓kc hq, bX18_does_98, bX18_does_83, bX18_does_60, bX18_does_0, fX18_does, bX13_told_11, bX13_told_0, fX13_told, ↓r12_77 hq, ↓r12_78 hq, ↓r12_80 hq, ↓gbd_h (c_bt _ _), c_bt _ _, ↓t_33, t_33, ↓t_g2, t_g2, ↓t_w2, t_w2, e2, pq_lit, pq_add, pq_le, pq_lt, pq_eq, pq_en, pq_ne, pq_nle, pq_nlt, pq_len, pq_ltn, pB_z, pB_o, mzt_0, mzt_1, mzt_B, ↓gbd_s, gbd_s, ↓gnn_s, ↓grf_s, eq_self, ↓reduceIte, Nat.reduceEqDiff, Nat.reduceLeDiff, Nat.reduceLT, Nat.reduceMul, Nat.reduceAdd, not_true_eq_false, not_false_eq_true, Bool.false_eq_true, p1_e]
    | false => simp (disch := omega) only [vInchBorders_Act_does__LInchBorders_Times__I, ↓kc hq, bX18_does_98, bX18_does_83, bX18_does_60, bX18_does_0, fX18_does, bX13_told_11, bX13_told_0, fX13_told, ↓r12_77 hq, ↓r12_78 hq, ↓r12_80 hq, ↓gbd_h (c_bt _ _), c_bt _ _, ↓t_33, t_33, ↓t_g2, t_g2, e2, pq_lit, pq_add, pq_le, pq_lt, pq_eq, pq_en, pq_ne, pq_nle, pq_nlt, pq_len, pq_ltn, pB_z, pB_o, mzt_0, mzt_1, mzt_B, ↓gbd_s, gbd_s, ↓gnn_s, ↓grf_s, eq_self, ↓reduceIte, Nat.reduceEqDiff, Nat.reduceLeDiff, Nat.reduceLT, Nat.reduceMul, Nat.reduceAdd, not_true_eq_false, not_false_eq_true, Bool.false_eq_true, sS_id]
  | 3, _ =>
    have hq : Cel b S q (.inr (10, [.int (Int32.ofNat x), .int (Int32.ofNat 1)])) := hq
    have hx := h2 (by omega)
    have hr : (inN (Int32.ofNat x) (nR (tS A j)) = true) = (x < nR (tS A j)) := by rw [inN_k (by omega), Nat.mod_eq_of_lt (by omega)]
    unfold totN actF actN actS
    by_cases e : x < nR (tS A j)
    · cases e2 : bt (tS A j 93) (Int32.ofNat x) with
      | true => simp (disch := omega) only [vInchBorders_Act_does__LInchBorders_Times__I, vInchBorders_Atlas_isRoad__I_Z, a_cls hA, a_isR hA, hr, ↓kc hq, bX15_does_76, bX15_does_61, bX15_does_41, bX15_does_0, fX15_does, bX13_told_11, bX13_told_0, fX13_told, ↓r10_75 hq, ↓r10_76 hq, ha, ↓gbd_h (c_bt _ _), c_bt _ _, ↓t_a, t_a, ↓t_31, t_31, ↓t_p31, t_p31, e, e2, pq_lit, pq_add, pq_le, pq_lt, pq_eq, pq_en, pq_ne, pq_nle, pq_nlt, pq_len, pq_ltn, pB_z, pB_o, mzt_0, mzt_1, mzt_B, ↓gbd_s, gbd_s, ↓gnn_s, ↓grf_s, eq_self, ↓reduceIte, Nat.reduceEqDiff, Nat.reduceLeDiff, Nat.reduceLT, Nat.reduceMul, Nat.reduceAdd, not_true_eq_false, not_false_eq_true, Bool.false_eq_true, sS_id]
      | false => simp (disch := omega) only [vInchBorders_Act_does__LInchBorders_Times__I, vInchBorders_Atlas_isRoad__I_Z, a_cls hA, a_isR hA, hr, ↓kc hq, bX15_does_76, bX15_does_61, bX15_does_41, bX15_does_0, fX15_does, bX13_told_11, bX13_told_0, fX13_told, ↓r10_75 hq, ↓r10_76 hq, ha, ↓gbd_h (c_bt _ _), c_bt _ _, ↓t_a, t_a, ↓t_31, t_31, ↓t_p31, t_p31, e, e2, pq_lit, pq_add, pq_le, pq_lt, pq_eq, pq_en, pq_ne, pq_nle, pq_nlt, pq_len, pq_ltn, pB_z, pB_o, mzt_0, mzt_1, mzt_B, ↓gbd_s, gbd_s, ↓gnn_s, ↓grf_s, eq_self, ↓reduceIte, Nat.reduceEqDiff, Nat.reduceLeDiff, Nat.reduceLT, Nat.reduceMul, Nat.reduceAdd, not_true_eq_false, not_false_eq_true, Bool.false_eq_true, p1_e]
    · simp (disch := omega) only [vInchBorders_Act_does__LInchBorders_Times__I, vInchBorders_Atlas_isRoad__I_Z, a_cls hA, a_isR hA, hr, ↓kc hq, bX15_does_76, bX15_does_61, bX15_does_41, bX15_does_0, fX15_does, bX13_told_11, bX13_told_0, fX13_told, ↓r10_75 hq, ↓r10_76 hq, ha, ↓gbd_h (c_bt _ _), c_bt _ _, ↓t_a, t_a, ↓t_31, t_31, ↓t_p31, t_p31, e, pq_lit, pq_add, pq_le, pq_lt, pq_eq, pq_en, pq_ne, pq_nle, pq_nlt, pq_len, pq_ltn, pB_z, pB_o, mzt_0, mzt_1, mzt_B, ↓gbd_s, gbd_s, ↓gnn_s, ↓grf_s, eq_self, ↓reduceIte, Nat.reduceEqDiff, Nat.reduceLeDiff, Nat.reduceLT, Nat.reduceMul, Nat.reduceAdd, not_true_eq_false, not_false_eq_true, Bool.false_eq_true, sS_id]
  | 4, _ =>
    have hq : Cel b S q (.inr (10, [.int (Int32.ofNat x), .int (Int32.ofNat 0)])) := hq
    have hx := h2 (by omega)
    have hr : (inN (Int32.ofNat x) (nR (tS A j)) = true) = (x < nR (tS A j)) := by rw [inN_k (by omega), Nat.mod_eq_of_lt (by omega)]
    unfold totN actF actN actS
    by_cases e : x < nR (tS A j)
    · cases e2 : bt (tS A j 93) (Int32.ofNat x) with
      | true => simp (disch := omega) only [vInchBorders_Act_does__LInchBorders_Times__I, vInchBorders_Atlas_isRoad__I_Z, a_cls hA, a_isR hA, hr, ↓kc hq, bX15_does_76, bX15_does_61, bX15_does_41, bX15_does_0, fX15_does, bX13_told_11, bX13_told_0, fX13_told, ↓r10_75 hq, ↓r10_76 hq, ha, ↓gbd_h (c_bt _ _), c_bt _ _, ↓t_a, t_a, ↓t_31, t_31, ↓t_p31, t_p31, e, e2, pq_lit, pq_add, pq_le, pq_lt, pq_eq, pq_en, pq_ne, pq_nle, pq_nlt, pq_len, pq_ltn, pB_z, pB_o, mzt_0, mzt_1, mzt_B, ↓gbd_s, gbd_s, ↓gnn_s, ↓grf_s, eq_self, ↓reduceIte, Nat.reduceEqDiff, Nat.reduceLeDiff, Nat.reduceLT, Nat.reduceMul, Nat.reduceAdd, not_true_eq_false, not_false_eq_true, Bool.false_eq_true, p1_e]
      | false => simp (disch := omega) only [vInchBorders_Act_does__LInchBorders_Times__I, vInchBorders_Atlas_isRoad__I_Z, a_cls hA, a_isR hA, hr, ↓kc hq, bX15_does_76, bX15_does_61, bX15_does_41, bX15_does_0, fX15_does, bX13_told_11, bX13_told_0, fX13_told, ↓r10_75 hq, ↓r10_76 hq, ha, ↓gbd_h (c_bt _ _), c_bt _ _, ↓t_a, t_a, ↓t_31, t_31, ↓t_p31, t_p31, e, e2, pq_lit, pq_add, pq_le, pq_lt, pq_eq, pq_en, pq_ne, pq_nle, pq_nlt, pq_len, pq_ltn, pB_z, pB_o, mzt_0, mzt_1, mzt_B, ↓gbd_s, gbd_s, ↓gnn_s, ↓grf_s, eq_self, ↓reduceIte, Nat.reduceEqDiff, Nat.reduceLeDiff, Nat.reduceLT, Nat.reduceMul, Nat.reduceAdd, not_true_eq_false, not_false_eq_true, Bool.false_eq_true, sS_id]
    · simp (disch := omega) only [vInchBorders_Act_does__LInchBorders_Times__I, vInchBorders_Atlas_isRoad__I_Z, a_cls hA, a_isR hA, hr, ↓kc hq, bX15_does_76, bX15_does_61, bX15_does_41, bX15_does_0, fX15_does, bX13_told_11, bX13_told_0, fX13_told, ↓r10_75 hq, ↓r10_76 hq, ha, ↓gbd_h (c_bt _ _), c_bt _ _, ↓t_a, t_a, ↓t_31, t_31, ↓t_p31, t_p31, e, pq_lit, pq_add, pq_le, pq_lt, pq_eq, pq_en, pq_ne, pq_nle, pq_nlt, pq_len, pq_ltn, pB_z, pB_o, mzt_0, mzt_1, mzt_B, ↓gbd_s, gbd_s, ↓gnn_s, ↓grf_s, eq_self, ↓reduceIte, Nat.reduceEqDiff, Nat.reduceLeDiff, Nat.reduceLT, Nat.reduceMul, Nat.reduceAdd, not_true_eq_false, not_false_eq_true, Bool.false_eq_true, sS_id]
  | 5, _ =>
    have hq : Cel b S q (.inr (11, [.int (Int32.ofNat x), .int (Int32.ofNat y), .int (Int32.ofNat n)])) := hq
    obtain ⟨hx, hy⟩ := h1 (by omega)
    unfold totN actF actN actS
    by_cases e : x = y
    · subst e
      simp (disch := omega) only [vInchBorders_Act_does__LInchBorders_Times__I, ↓kc hq, bX17_does_36, bX17_does_0, fX17_does, bX13_told_11, bX13_told_0, fX13_told, ↓r11_77 hq, ↓r11_78 hq, ↓r11_79 hq, pq_lit, pq_add, pq_le, pq_lt, pq_eq, pq_en, pq_ne, pq_nle, pq_nlt, pq_len, pq_ltn, pB_z, pB_o, mzt_0, mzt_1, mzt_B, ↓gbd_s, gbd_s, ↓gnn_s, ↓grf_s, eq_self, ↓reduceIte, Nat.reduceEqDiff, Nat.reduceLeDiff, Nat.reduceLT, Nat.reduceMul, Nat.reduceAdd, not_true_eq_false, not_false_eq_true, Bool.false_eq_true, sS_id]
    · by_cases e2 : Int32.ofNat n ≤ tS A j (94 + x)
      · simp (disch := omega) only [vInchBorders_Act_does__LInchBorders_Times__I, ↓kc hq, bX17_does_36, bX17_does_0, fX17_does, bX13_told_11, bX13_told_0, fX13_told, ↓r11_77 hq, ↓r11_78 hq, ↓r11_79 hq, ↓t_32, t_32, ↓t_g1, t_g1, ↓t_w1, t_w1, aT_sS, sS_sS, pq_lit, pq_add, pq_le, pq_lt, pq_eq, pq_en, pq_ne, pq_nle, pq_nlt, pq_len, pq_ltn, pB_z, pB_o, mzt_0, mzt_1, mzt_B, ↓gbd_s, gbd_s, ↓gnn_s, ↓grf_s, eq_self, ↓reduceIte, Nat.reduceEqDiff, Nat.reduceLeDiff, Nat.reduceLT, Nat.reduceMul, Nat.reduceAdd, not_true_eq_false, not_false_eq_true, Bool.false_eq_true, e, e2, ← Int32.not_le, upd_o]
      · simp (disch := omega) only [vInchBorders_Act_does__LInchBorders_Times__I, ↓kc hq, bX17_does_36, bX17_does_0, fX17_does, bX13_told_11, bX13_told_0, fX13_told, ↓r11_77 hq, ↓r11_78 hq, ↓r11_79 hq, ↓t_32, t_32, ↓t_g1, t_g1, pq_lit, pq_add, pq_le, pq_lt, pq_eq, pq_en, pq_ne, pq_nle, pq_nlt, pq_len, pq_ltn, pB_z, pB_o, mzt_0, mzt_1, mzt_B, ↓gbd_s, gbd_s, ↓gnn_s, ↓grf_s, eq_self, ↓reduceIte, Nat.reduceEqDiff, Nat.reduceLeDiff, Nat.reduceLT, Nat.reduceMul, Nat.reduceAdd, not_true_eq_false, not_false_eq_true, Bool.false_eq_true, e, e2, ← Int32.not_le, sS_id]
  | 6, _ =>
    have hq : Cel b S q (.inr (17, [.int (Int32.ofNat x)])) := hq
    have hx := h3 rfl
    unfold totN actF actN actS
    by_cases e : tS A j 91 + Int32.ofNat x ≤ Int32.ofNat 400
    · simp (disch := omega) only [vInchBorders_Act_does__LInchBorders_Times__I, vInchBorders_Times_passAll__I_I, ↓t_cls, t_cls, ↓kc hq, bX24_does_0, fX24_does, ↓r17_96 hq, c_go ht hE hN hD, ↓t_29, t_29, e, pq_lit, pq_add, pq_le, pq_lt, pq_eq, pq_en, pq_ne, pq_nle, pq_nlt, pq_len, pq_ltn, pB_z, pB_o, mzt_0, mzt_1, mzt_B, ↓gbd_s, gbd_s, ↓gnn_s, ↓grf_s, eq_self, ↓reduceIte, Nat.reduceEqDiff, Nat.reduceLeDiff, Nat.reduceLT, Nat.reduceMul, Nat.reduceAdd, not_true_eq_false, not_false_eq_true, Bool.false_eq_true]
    · simp (disch := omega) only [vInchBorders_Act_does__LInchBorders_Times__I, vInchBorders_Times_passAll__I_I, ↓t_cls, t_cls, ↓kc hq, bX24_does_0, fX24_does, ↓r17_96 hq, c_go ht hE hN hD, ↓t_29, t_29, e, pq_lit, pq_add, pq_le, pq_lt, pq_eq, pq_en, pq_ne, pq_nle, pq_nlt, pq_len, pq_ltn, pB_z, pB_o, mzt_0, mzt_1, mzt_B, ↓gbd_s, gbd_s, ↓gnn_s, ↓grf_s, eq_self, ↓reduceIte, Nat.reduceEqDiff, Nat.reduceLeDiff, Nat.reduceLT, Nat.reduceMul, Nat.reduceAdd, not_true_eq_false, not_false_eq_true, Bool.false_eq_true, sS_id]
end AC2
