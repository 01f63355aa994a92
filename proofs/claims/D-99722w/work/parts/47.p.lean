/-! feed, image, restore -/
section OH
variable {E : gE} {N b : Nat} {A : FA} {S : GS} {M : MS}
theorem o_feed (h : Rel E b A S M) (hN : 1000 ≤ N) (x1 x2 x3 x4 x5 : Int32) : Op E b S 0 0 (fX1_feed E N (put b A S) b x1 x2 x3 x4 x5) (fX5_feed N M x1 x2 x3 x4 x5) := by
  have h0 := h
  obtain ⟨r1, ⟨r2, ⟨t, t1, t2, t3⟩, r3⟩, r4, r5⟩ := h
  have hE := r1.1
  have e0 : (Int32.ofNat (t + 20) ≤ Int32.ofNat 940) = (t + 20 ≤ 940) := pq_le (by omega) (by omega)
  by_cases e : t + 20 ≤ 940
  · obtain ⟨f, hf⟩ : ∃ f, f = fourF (fourF (fourF (fourF (fourF (M.2.2.1 1) t x1) (t + 4) x2) (t + 4 + 4) x3) (t + 4 + 4 + 4) x4) (t + 4 + 4 + 4 + 4) x5 := ⟨_, rfl⟩
    refine ⟨Int32.ofNat (t + 4 + 4 + 4 + 4 + 4), sI (sV A 0 f) 1 (Int32.ofNat (t + 4 + 4 + 4 + 4 + 4)), S, mF (mR (mF M 0 (Int32.ofNat 0)) 1 f) 2 (Int32.ofNat (t + 4 + 4 + 4 + 4 + 4)), ?_, ?_, ?_, Nat.le_refl _, Nat.le_refl _⟩
    · have k1 := c_four (E := E) (N := N) (b := b) (A := A) (S := S) hE hN (t := t) (by omega) t2 x1
      have k2 := fun g => c_four (E := E) (N := N) (b := b) (A := sI (sV A 0 g) 1 (Int32.ofNat (t + 4))) (S := S) hE hN (t := t + 4) (by omega) rfl x2
      have k3 := fun g => c_four (E := E) (N := N) (b := b) (A := sI (sV A 0 g) 1 (Int32.ofNat (t + 4 + 4))) (S := S) hE hN (t := t + 4 + 4) (by omega) rfl x3
      have k4 := fun g => c_four (E := E) (N := N) (b := b) (A := sI (sV A 0 g) 1 (Int32.ofNat (t + 4 + 4 + 4))) (S := S) hE hN (t := t + 4 + 4 + 4) (by omega) rfl x4
      have k5 := fun g => c_four (E := E) (N := N) (b := b) (A := sI (sV A 0 g) 1 (Int32.ofNat (t + 4 + 4 + 4 + 4))) (S := S) hE hN (t := t + 4 + 4 + 4 + 4) (by omega) rfl x5
      have v0 : ∀ g k, aV (sI (sV A 0 g) 1 k) 0 = g := fun g k => rfl
      simp only [sI_sV, sV_sV, sI_sI, v0] at k2 k3 k4 k5
      simp only [fX1_feed, bX1_feed_0, pq_lit]
      simp (disch := omega) only [↓f_1, t2, pq_add, e0, e, ↓gbd_h (k1), k1, ↓gbd_h (k2 _), k2 _, ↓gbd_h (k3 _), k3 _, ↓gbd_h (k4 _), k4 _, ↓gbd_h (k5 _), k5 _, r2, ← hf, qII, if_true, ↓reduceIte]
    · have k1 := m_four (N := N) (M := mF M 0 (Int32.ofNat 0)) hN (t := t) (by omega) t3 x1
      have k2 := fun g => m_four (N := N) (M := mF (mR (mF M 0 (Int32.ofNat 0)) 1 g) 2 (Int32.ofNat (t + 4))) hN (t := t + 4) (by omega) rfl x2
      have k3 := fun g => m_four (N := N) (M := mF (mR (mF M 0 (Int32.ofNat 0)) 1 g) 2 (Int32.ofNat (t + 4 + 4))) hN (t := t + 4 + 4) (by omega) rfl x3
      have k4 := fun g => m_four (N := N) (M := mF (mR (mF M 0 (Int32.ofNat 0)) 1 g) 2 (Int32.ofNat (t + 4 + 4 + 4))) hN (t := t + 4 + 4 + 4) (by omega) rfl x4
      have k5 := fun g => m_four (N := N) (M := mF (mR (mF M 0 (Int32.ofNat 0)) 1 g) 2 (Int32.ofNat (t + 4 + 4 + 4 + 4))) hN (t := t + 4 + 4 + 4 + 4) (by omega) rfl x5
      simp only [mF_mR, mR_mR, mF_mF, mA_e, mF_a] at k1 k2 k3 k4 k5
      simp only [fX5_feed, bX5_feed_0, pq_lit]
      simp (disch := omega) only [↓mpt, mF_ne, t3, pq_add, e0, e, ↓mbd_h (k1), k1, ↓mbd_h (k2 _), k2 _, ↓mbd_h (k3 _), k3 _, ↓mbd_h (k4 _), k4 _, ↓mbd_h (k5 _), k5 _, ← hf, if_true, ↓reduceIte, mA_i, mF_e, mF_mR]
    · refine ⟨r1, ⟨?_, ⟨t + 4 + 4 + 4 + 4 + 4, by omega, rfl, rfl⟩, r3⟩, r4, r5.eq Ext.rf ?_ (mRst.of (ks := [0, 1, 2]) (((mSm.rf.mF _ (by decide)).mR _ (by decide)).mF _ (by decide)) (by decide))⟩
      · show f = _
        rw [mF_a, mA_e]
      · exact ⟨fun k hk => if_neg (by rintro rfl; revert hk; decide), fun k hk => if_neg (by rintro rfl; revert hk; decide), rfl, fun _ => rfl, rfl, rfl⟩
  · refine ⟨-Int32.ofNat 1, A, S, mF M 0 (Int32.ofNat 0), ?_, ?_, h0.m0 _, Nat.le_refl _, Nat.le_refl _⟩
    · simp only [fX1_feed, bX1_feed_0, pq_lit]
      simp (disch := omega) only [↓f_1, t2, pq_add, e0, e, pq_lit, pq_add, pq_le, pq_lt, pq_eq, pq_en, pq_ne, pq_nle, pq_nlt, pq_len, pq_ltn, pB_z, pB_o, mzt_0, mzt_1, mzt_B, ↓gbd_s, gbd_s, ↓gnn_s, ↓grf_s, eq_self, ↓reduceIte, Nat.reduceEqDiff, Nat.reduceLeDiff, Nat.reduceLT, Nat.reduceMul, Nat.reduceAdd, not_true_eq_false, not_false_eq_true, Bool.false_eq_true]
    · simp only [fX5_feed, bX5_feed_0, pq_lit]
      simp (disch := omega) only [↓mpt, mF_ne, t3, pq_add, e0, e, eq_self, ↓reduceIte, Nat.reduceEqDiff, Nat.reduceLeDiff, Nat.reduceLT, Nat.reduceMul, Nat.reduceAdd, not_true_eq_false, not_false_eq_true, Bool.false_eq_true]
/-! the kept ones: their cells -/
theorem kp_e (k : Nat) (hk : k < 2) : core b A (if k = 0 then 29 else 38) = some (.inr (3, [va_rf (aK A k).1, va_rf (aK A k).2, .ref (tad b (10 + k))])) := by
  match k, hk with
  | 0, _ => rfl
  | 1, _ => rfl
def kad (b k : Nat) : Nat := b + (if k = 0 then 29 else 38)
theorem kp_c {k : Nat} (hk : k < 2) : (put b A S).1 (kad b k) = some (.inr (3, [va_rf (aK A k).1, va_rf (aK A k).2, .ref (tad b (10 + k))])) := by
  unfold kad
  rw [put_m (by unfold isM; split <;> omega), kp_e k hk]
theorem kp_23 {k : Nat} (hk : k < 2) {β : Type} (K : Option Nat → Option β) : gar (put b A S) (some (b + 28)) (Int32.ofNat k) K = K (some (kad b k)) := by
  have c : (put b A S).1 (b + 28) = some (.inl (4, 2, .inr (.inr (.inr (.inr (fun k => if k = 0 then some (b + 29) else if k = 1 then some (b + 38) else none)))))) := put_m (k := 28) (by unfold isM; omega)
  rw [gar_at c (And.intro (by omega) (by omega)) hk (by omega)]
  unfold kad
  match k, hk with
  | 0, _ => rfl
  | 1, _ => rfl
theorem kp_40 {k : Nat} (hk : k < 2) {β : Type} (K : Option Nat → Option β) : ggr (put b A S) (some (kad b k)) 40 K = K (aK A k).1 := ggr_at (kp_c hk) rfl rfl K
theorem kp_41 {k : Nat} (hk : k < 2) {β : Type} (K : Option Nat → Option β) : ggr (put b A S) (some (kad b k)) 41 K = K (aK A k).2 := ggr_at (kp_c hk) rfl rfl K
theorem kp_42 {k : Nat} (hk : k < 2) {β : Type} (K : Option Nat → Option β) : ggr (put b A S) (some (kad b k)) 42 K = K (some (tad b (10 + k))) := ggr_as (kp_c hk) rfl rfl K
theorem kp_u {k : Nat} (hk : k < 2) (x : Option Nat × Option Nat) : gup (put b A S) (kad b k) (.inr (3, [va_rf x.1, va_rf x.2, .ref (tad b (10 + k))])) = put b (sK A k x) S := by
  unfold kad
  refine gup_put (by unfold isM; split <;> omega) (fun k' hk' => ?_)
  by_cases e : k' = (if k = 0 then 29 else 38)
  · have a1 : aK (sK A k x) k = x := if_pos rfl
    rw [if_pos e, e, kp_e k hk, a1]
  · rw [if_neg e]
    unfold core
    cases hl : tloc k' with
    | some p => rfl
    | none =>
      show fcell b (sK A k x) k' = fcell b A k'
      have k0 : ∀ j, j ≠ k → aK (sK A k x) j = aK A j := fun j hj => if_neg hj
      unfold fcell
      split <;> first | rfl | skip
      · rw [k0 0 (by rintro rfl; exact e rfl)]
      · rw [k0 1 (by rintro rfl; exact e rfl)]
theorem kp_p40 (hE : E.1 ≤ b) {k : Nat} (hk : k < 2) (v : Option Nat) {β : Type} (K : GS → Option β) : gpv E (put b A S) (some (kad b k)) 40 (va_rf v) K = K (put b (sK A k (v, (aK A k).2)) S) := by
  rw [gpv_at (kp_c hk) rfl (by simp) (by unfold kad; omega)]
  congr 1
  exact kp_u hk (v, (aK A k).2)
theorem kp_p41 (hE : E.1 ≤ b) {k : Nat} (hk : k < 2) (v : Option Nat) {β : Type} (K : GS → Option β) : gpv E (put b A S) (some (kad b k)) 41 (va_rf v) K = K (put b (sK A k ((aK A k).1, v)) S) := by
  rw [gpv_at (kp_c hk) rfl (by simp) (by unfold kad; omega)]
  congr 1
  exact kp_u hk ((aK A k).1, v)
def cpL (f g : Nat → Int64) (o p n : Nat) : Nat → Int64 := fun k => if o ≤ k ∧ k < o + n then g (p + (k - o)) else f k
theorem cpL_0 (f g : Nat → Int64) (o p : Nat) : cpL f g o p 0 = f := by
  funext k
  unfold cpL
  rw [if_neg (by omega)]
theorem cpL_s (f g : Nat → Int64) (o p k : Nat) : cpL (vp_updL f o (g p)) g (o + 1) (p + 1) k = cpL f g o p (k + 1) := by
  funext i
  unfold cpL vp_updL
  by_cases h : i = o
  · subst h
    rw [if_neg (by omega), if_pos rfl, if_pos (by omega)]
    exact congrArg g (by omega)
  · by_cases h2 : o + 1 ≤ i ∧ i < o + 1 + k
    · rw [if_pos h2, if_pos (by omega)]
      exact congrArg g (by omega)
    · rw [if_neg h2, if_neg h, if_neg (by omega)]
/-- the model's row of longs is another one -/
def mQ (S : MS) (k : Nat) (f : Nat → Int64) : MS := (S.1, S.2.1, S.2.2.1, va_up S.2.2.2 k f)
theorem ml_s (S : MS) (k i : Nat) (v : Int64) : mL S k i v = mQ S k (vp_updL (S.2.2.2 k) i v) := rfl
theorem mQ_e (S : MS) (k : Nat) (f : Nat → Int64) : (mQ S k f).2.2.2 k = f := if_pos rfl
theorem mQ_n (S : MS) {k : Nat} (f : Nat → Int64) {j : Nat} (h : j ≠ k) : (mQ S k f).2.2.2 j = S.2.2.2 j := if_neg h
theorem mQ_id (S : MS) (k : Nat) : mQ S k (S.2.2.2 k) = S := by
  unfold mQ
  refine Prod.ext rfl (Prod.ext rfl (Prod.ext rfl (funext fun j => ?_)))
  show va_up S.2.2.2 k (S.2.2.2 k) j = S.2.2.2 j
  unfold va_up
  split <;> simp_all
theorem mQ_mQ (S : MS) (k : Nat) (f g : Nat → Int64) : mQ (mQ S k f) k g = mQ S k g := by
  unfold mQ
  simp only [va_up_up]
theorem m_imB (hN : 1000 ≤ N) {x : Nat} (hx : x < 2) : ∀ (k i n : Nat) (S : MS), i + k = 13 → k < n → bX5_image_51L N n S (Int32.ofNat x) (Int32.ofNat i) = some (Int32.ofNat 1, mR (mQ S 58 (cpL (S.2.2.2 58) (S.2.2.2 9) (13 * x + i) i k)) 59 (upd (S.2.2.1 59) x (Int32.ofNat 1)))
  | k, i, 0, S, _, h => by omega
  | 0, i, n + 1, S, h, _ => by
    have q : 13 ≤ i := by omega
    have e : vp_nar .boolean (Int32.ofNat 1) = Int32.ofNat 1 := by decide
    simp only [bX5_image_51L, bX5_image_51, pq_lit]
    simp (disch := omega) only [q, ↓mwr_n, mwr_n, e, cpL_0, mQ_id, ma_s, eq_self, ↓reduceIte, Nat.reduceEqDiff, Nat.reduceLeDiff, Nat.reduceLT, Nat.reduceMul, Nat.reduceAdd, not_true_eq_false, not_false_eq_true, Bool.false_eq_true, pq_lit, pq_add, pq_le, pq_lt, pq_eq, pq_en, pq_ne, pq_nle, pq_nlt, pq_len, pq_ltn, pB_z, pB_o, mzt_0, mzt_1, mzt_B]
  | k + 1, i, n + 1, S, h, hk => by
    have q : ¬ 13 ≤ i := by omega
    have ih := m_imB hN hx k (i + 1) n (mQ S 58 (vp_updL (S.2.2.2 58) (13 * x + i) (S.2.2.2 9 i))) (by omega) (by omega)
    have e1 : ∀ f, (mQ S 58 f).2.2.1 = S.2.2.1 := fun f => rfl
    simp (disch := omega) only [mQ_e, mQ_n, mQ_mQ, ← Nat.add_assoc, cpL_s, e1] at ih
    simp only [bX5_image_51L, bX5_image_51, pq_lit]
    simp (disch := omega) only [q, ↓mrdL_n, mrdL_n, pq_mul, pq_add, mwrL_n, ml_s, ih, eq_self, ↓reduceIte, Nat.reduceEqDiff, Nat.reduceLeDiff, Nat.reduceLT, Nat.reduceMul, Nat.reduceAdd, not_true_eq_false, not_false_eq_true, Bool.false_eq_true, pq_lit, pq_add, pq_le, pq_lt, pq_eq, pq_en, pq_ne, pq_nle, pq_nlt, pq_len, pq_ltn, pB_z, pB_o, mzt_0, mzt_1, mzt_B]
theorem m_imA (hN : 1000 ≤ N) {x : Nat} (hx : x < 2) : ∀ (k i n : Nat) (S : MS), i + k = 319 → k < n → bX5_image_18L N n S (Int32.ofNat x) (Int32.ofNat i) = bX5_image_51L N N (mR S 57 (cpF (S.2.2.1 57) (S.2.2.1 6) (319 * x + i) i k)) (Int32.ofNat x) (Int32.ofNat 0)
  | k, i, 0, S, _, h => by omega
  | 0, i, n + 1, S, h, _ => by
    have q : 319 ≤ i := by omega
    simp only [bX5_image_18L, bX5_image_18, pq_lit]
    simp (disch := omega) only [q, cpF_0, mR_id, eq_self, ↓reduceIte, Nat.reduceEqDiff, Nat.reduceLeDiff, Nat.reduceLT, Nat.reduceMul, Nat.reduceAdd, not_true_eq_false, not_false_eq_true, Bool.false_eq_true, pq_lit, pq_add, pq_le, pq_lt, pq_eq, pq_en, pq_ne, pq_nle, pq_nlt, pq_len, pq_ltn, pB_z, pB_o, mzt_0, mzt_1, mzt_B]
  | k + 1, i, n + 1, S, h, hk => by
    have q : ¬ 319 ≤ i := by omega
    have ih := m_imA hN hx k (i + 1) n (mR S 57 (upd (S.2.2.1 57) (319 * x + i) (S.2.2.1 6 i))) (by omega) (by omega)
    simp (disch := omega) only [mA_e, mA_n, mR_mR, ← Nat.add_assoc, cpF_s] at ih
    simp only [bX5_image_18L, bX5_image_18, pq_lit]
    simp (disch := omega) only [q, ↓mrd_n, mrd_n, pq_mul, pq_add, mwr_n, ma_s, ih, eq_self, ↓reduceIte, Nat.reduceEqDiff, Nat.reduceLeDiff, Nat.reduceLT, Nat.reduceMul, Nat.reduceAdd, not_true_eq_false, not_false_eq_true, Bool.false_eq_true, pq_lit, pq_add, pq_le, pq_lt, pq_eq, pq_en, pq_ne, pq_nle, pq_nlt, pq_len, pq_ltn, pB_z, pB_o, mzt_0, mzt_1, mzt_B]
theorem m_reB (hN : 1000 ≤ N) {x : Nat} (hx : x < 2) : ∀ (k i n : Nat) (S : MS), i + k = 13 → k < n → bX5_restore_60L N n S (Int32.ofNat x) (Int32.ofNat i) = some (Int32.ofNat 1, mF (mQ S 9 (cpL (S.2.2.2 9) (S.2.2.2 58) i (13 * x + i) k)) 23 (Int32.ofNat 0))
  | k, i, 0, S, _, h => by omega
  | 0, i, n + 1, S, h, _ => by
    have q : 13 ≤ i := by omega
    simp only [bX5_restore_60L, bX5_restore_60, pq_lit]
    simp (disch := omega) only [q, ↓mpt, cpL_0, mQ_id, eq_self, ↓reduceIte, Nat.reduceEqDiff, Nat.reduceLeDiff, Nat.reduceLT, Nat.reduceMul, Nat.reduceAdd, not_true_eq_false, not_false_eq_true, Bool.false_eq_true, pq_lit, pq_add, pq_le, pq_lt, pq_eq, pq_en, pq_ne, pq_nle, pq_nlt, pq_len, pq_ltn, pB_z, pB_o, mzt_0, mzt_1, mzt_B]
  | k + 1, i, n + 1, S, h, hk => by
    have q : ¬ 13 ≤ i := by omega
    have ih := m_reB hN hx k (i + 1) n (mQ S 9 (vp_updL (S.2.2.2 9) i (S.2.2.2 58 (13 * x + i)))) (by omega) (by omega)
    simp (disch := omega) only [mQ_e, mQ_n, mQ_mQ, ← Nat.add_assoc, cpL_s] at ih
    simp only [bX5_restore_60L, bX5_restore_60, pq_lit]
    simp (disch := omega) only [q, pq_mul, pq_add, mrdL_n, mwrL_n, ml_s, ih, eq_self, ↓reduceIte, Nat.reduceEqDiff, Nat.reduceLeDiff, Nat.reduceLT, Nat.reduceMul, Nat.reduceAdd, not_true_eq_false, not_false_eq_true, Bool.false_eq_true, pq_lit, pq_add, pq_le, pq_lt, pq_eq, pq_en, pq_ne, pq_nle, pq_nlt, pq_len, pq_ltn, pB_z, pB_o, mzt_0, mzt_1, mzt_B]
theorem m_reA (hN : 1000 ≤ N) {x : Nat} (hx : x < 2) : ∀ (k i n : Nat) (S : MS), i + k = 319 → k < n → bX5_restore_27L N n S (Int32.ofNat x) (Int32.ofNat i) = bX5_restore_60L N N (mR S 6 (cpF (S.2.2.1 6) (S.2.2.1 57) i (319 * x + i) k)) (Int32.ofNat x) (Int32.ofNat 0)
  | k, i, 0, S, _, h => by omega
  | 0, i, n + 1, S, h, _ => by
    have q : 319 ≤ i := by omega
    simp only [bX5_restore_27L, bX5_restore_27, pq_lit]
    simp (disch := omega) only [q, cpF_0, mR_id, eq_self, ↓reduceIte, Nat.reduceEqDiff, Nat.reduceLeDiff, Nat.reduceLT, Nat.reduceMul, Nat.reduceAdd, not_true_eq_false, not_false_eq_true, Bool.false_eq_true, pq_lit, pq_add, pq_le, pq_lt, pq_eq, pq_en, pq_ne, pq_nle, pq_nlt, pq_len, pq_ltn, pB_z, pB_o, mzt_0, mzt_1, mzt_B]
  | k + 1, i, n + 1, S, h, hk => by
    have q : ¬ 319 ≤ i := by omega
    have ih := m_reA hN hx k (i + 1) n (mR S 6 (upd (S.2.2.1 6) i (S.2.2.1 57 (319 * x + i)))) (by omega) (by omega)
    simp (disch := omega) only [mA_e, mA_n, mR_mR, ← Nat.add_assoc, cpF_s] at ih
    simp only [bX5_restore_27L, bX5_restore_27, pq_lit]
    simp (disch := omega) only [q, pq_mul, pq_add, mrd_n, mwr_n, ma_s, ih, eq_self, ↓reduceIte, Nat.reduceEqDiff, Nat.reduceLeDiff, Nat.reduceLT, Nat.reduceMul, Nat.reduceAdd, not_true_eq_false, not_false_eq_true, Bool.false_eq_true, pq_lit, pq_add, pq_le, pq_lt, pq_eq, pq_en, pq_ne, pq_nle, pq_nlt, pq_len, pq_ltn, pB_z, pB_o, mzt_0, mzt_1, mzt_B]
end OH
