/-! the model: copies, what is kept, rests, odds; bits counted -/
def cpF (f g : Nat → Int32) (o p n : Nat) : Nat → Int32 := fun k => if o ≤ k ∧ k < o + n then g (p + (k - o)) else f k
theorem cpF_0 (f g : Nat → Int32) (o p : Nat) : cpF f g o p 0 = f := by
  funext k
  unfold cpF
  rw [if_neg (by omega)]
theorem cpF_s (f g : Nat → Int32) (o p k : Nat) : cpF (upd f o (g p)) g (o + 1) (p + 1) k = cpF f g o p (k + 1) := by
  funext i
  unfold cpF upd
  by_cases h : i = o
  · subst h
    rw [if_neg (by omega), if_pos rfl, if_pos (by omega)]
    congr 1
    omega
  · by_cases h2 : o + 1 ≤ i ∧ i < o + 1 + k
    · rw [if_pos h2, if_pos (by omega)]
      congr 1
      omega
    · rw [if_neg h2, if_neg h, if_neg (by omega)]
theorem mA_e (S : MS) (k : Nat) (f : Nat → Int32) : (mR S k f).2.2.1 k = f := if_pos rfl
theorem mA_n (S : MS) {k : Nat} (f : Nat → Int32) {j : Nat} (h : j ≠ k) : (mR S k f).2.2.1 j = S.2.2.1 j := if_neg h
theorem mF_e (S : MS) (k : Nat) (v : Int32) : (mF S k v).1 k = v := if_pos rfl
theorem mF_ne (S : MS) {k : Nat} (v : Int32) {j : Nat} (h : j ≠ k) : (mF S k v).1 j = S.1 j := if_neg h
/-! bits counted -/
def popL : Nat → Int32 → Int32 → Option Int32
  | 0, _, _ => none
  | n + 1, a, x => if x = Int32.ofNat 0 then some a else popL n (a + Int32.ofNat 1) (x &&& (x - Int32.ofNat 1))
theorem popL_le : ∀ (n m : Nat) (a x r : Int32), popL n a x = some r → n ≤ m → popL m a x = some r
  | 0, _, _, _, _, h, _ => by cases h
  | n + 1, 0, _, _, _, _, h => by omega
  | n + 1, m + 1, a, x, r, h, hm => by
    unfold popL at h ⊢
    split
    · rename_i q
      rw [if_pos q] at h
      exact h
    · rename_i q
      rw [if_neg q] at h
      exact popL_le n m _ _ r h (by omega)
noncomputable def mny (x : Int32) : Int32 := ((fJ17_bitCount (0, fun _ => 0, fun _ => none) 0 (fun _ => none, 0, 0, 0) x).map (·.1)).getD 0
theorem c_mny {E : gE} {N : Nat} {S : GS} (x : Int32) : fX1_many E N S x = some (mny x, S) := rfl
def pcn : Nat → Nat → Nat
  | 0, _ => 0
  | k + 1, v => (if v.testBit k then 1 else 0) + pcn k v
/-- only what is so has changed -/
def Sm (s s' : St) : Prop := ∀ k, k < 91 ∨ 138 ≤ k → s' k = s k
theorem Sm.rf {s : St} : Sm s s := fun _ _ => rfl
theorem Sm.tr {s s' s'' : St} (h : Sm s s') (h' : Sm s' s'') : Sm s s'' := fun k hk => (h' k hk).trans (h k hk)
theorem Sm.sy {s s' : St} (h : Sm s s') : Sm s' s := fun k hk => (h k hk).symm
theorem Sm.up {s s' : St} (h : Sm s s') {k : Nat} {v : Int32} (hk : 91 ≤ k ∧ k < 138) : Sm s (upd s' k v) := fun i hi => by rw [upd_o _ _ (by omega)]; exact h i hi
theorem Sm.mp {s s' : St} (h : Sm s s') : Mp s s' := fun k hk => h k (Or.inl hk)
theorem sm_cr {s : St} {p l : Nat} (hp : p < 6) (hl : l < 7) : Sm s (crS s p l) := by
  intro k hk
  unfold crS
  simp only []
  rw [upd_o _ _ (by omega), upd_o _ _ (by omega), upd_o _ _ (by omega)]
  split
  · rw [upd_o _ _ (by omega), upd_o _ _ (by omega), upd_o _ _ (by omega)]
  · split
    · rw [upd_o _ _ (by omega), upd_o _ _ (by omega), upd_o _ _ (by omega)]
    · rfl
theorem sm_grow {s : St} (h : IvS s) {p : Nat} (hp : p < nP s) : Sm s (growS s p) := by
  have h1 := h.hl hp
  have h2 := h.l7
  have h3 := h.p6
  unfold growS
  split
  · exact (Sm.rf.up (by omega)).up (by omega)
  · exact Sm.rf
theorem sm_dayF : ∀ (k p : Nat) {s : St}, IvS s → p + k = nP s → Sm s (dayF p k s)
  | 0, _, _, _, _ => Sm.rf
  | k + 1, p, s, h, hk => by
    have h1 := h.grow (p := p) (by omega)
    exact (sm_grow h (by omega)).tr (sm_dayF k (p + 1) h1.1 (by rw [h1.2.1]; omega))
theorem sm_day {s : St} (h : IvS s) : Sm s (dayS s) := (sm_dayF _ 0 h (by omega)).up (by omega)
theorem sm_go : ∀ (k d : Nat) {s : St}, IvS s → Sm s (goF k d s).2
  | 0, _, _, _ => Sm.rf
  | k + 1, d, s, h => by
    unfold goF
    split
    · exact (sm_day h).tr (sm_go k _ h.day.1)
    · exact Sm.rf
theorem sm_drR {sd : Int32} {s : St} : Sm s (drR sd s).2 := by
  unfold drR
  split
  · exact Sm.rf.up (by omega)
  · exact Sm.rf
theorem sm_drP : ∀ (k p : Nat) (sd : Int32) {s : St}, IvS s → p + k = nP s → 0 < nL s → Sm s (drP p k sd s).2
  | 0, _, _, _, _, _, _ => Sm.rf
  | k + 1, p, sd, s, h, hk, h0 => by
    have h1 := iv_drP1 h (p := p) sd (by omega) h0
    have h6 := h.p6
    have h7 := h.l7
    have hl := drw_lt (dsd sd) h0
    unfold drP
    refine Sm.tr ?_ (sm_drP k _ _ h1.1 (by rw [h1.2.1]; omega) (by rw [h1.2.2.1]; exact h0))
    split
    · exact sm_cr (by omega) (by omega)
    · exact Sm.rf
theorem sm_drD {sd : Int32} {s : St} (h : IvS s) (h0 : 0 < nL s) : Sm s (drD sd s).2 := by
  have h1 := iv_drR h sd
  have h2 := iv_drP (nP s) 0 (drR sd s).1 h1.1 (by rw [h1.2.1]; omega) (by rw [h1.2.2.1]; exact h0)
  exact (sm_drR.tr (sm_drP _ _ _ h1.1 (by rw [h1.2.1]; omega) (by rw [h1.2.2.1]; exact h0))).tr (sm_day h2.1)
theorem sm_dr : ∀ (k e : Nat) (sd : Int32) {s : St}, IvS s → 0 < nL s → Sm s (drF k e sd s).2.2
  | 0, _, _, _, _, _ => Sm.rf
  | k + 1, e, sd, s, h, h0 => by
    unfold drF
    split
    · have h1 := iv_drD h sd h0
      exact (sm_drD h h0).tr (sm_dr k _ _ h1.1 (by rw [h1.2.2.1]; exact h0))
    · exact Sm.rf
/-- what is so as the row at i holds it -/
def bk (s g : St) (i : Nat) : St := cpF s g 91 i 47
theorem bk_sm {s s' : St} (h : Sm s s') {f : St} (o : Nat) : bk s' (cpF f s o 91 47) o = s := by
  funext k
  unfold bk cpF
  by_cases hk : 91 ≤ k ∧ k < 91 + 47
  · rw [if_pos hk, if_pos (by omega)]
    congr 1
    omega
  · rw [if_neg hk]
    exact h k (by omega)
section MK2
variable {N : Nat}
theorem m_triesL : ∀ (k i n : Nat) (S : MS), i + k = 47 → k < n → bX5_tries_2L N n S (Int32.ofNat i) = some (Int32.ofNat 0, mR S 22 (cpF (S.2.2.1 22) (S.2.2.1 6) i (91 + i) k))
  | k, i, 0, S, _, h => by omega
  | 0, i, n + 1, S, h, _ => by
    simp (disch := omega) only [bX5_tries_2L, bX5_tries_2, bX5_tries_0, fX5_tries, pq_lit, pq_add, pq_le, pq_lt, pq_eq, pq_en, pq_ne, pq_nle, pq_nlt, pq_len, pq_ltn, pB_z, pB_o, mzt_0, mzt_1, mzt_B, mrd_n, mwr_n, mbd_s, mpt, mF_a, mF_w, mF_i, mF_L, mA_a, mA_w, mA_i, mA_L, ma_s, cpF_0, mR_id]
    rw [if_pos (by omega)]
  | k + 1, i, n + 1, S, h, hk => by
    have ih := m_triesL k (i + 1) n (mR S 22 (upd (S.2.2.1 22) i (S.2.2.1 6 (91 + i)))) (by omega) (by omega)
    simp (disch := omega) only [mA_a, if_true, if_neg, mR_mR, ← Nat.add_assoc, cpF_s] at ih
    simp (disch := omega) only [bX5_tries_2L, bX5_tries_2, bX5_tries_0, fX5_tries, pq_lit, pq_add, pq_le, pq_lt, pq_eq, pq_en, pq_ne, pq_nle, pq_nlt, pq_len, pq_ltn, pB_z, pB_o, mzt_0, mzt_1, mzt_B, mrd_n, mwr_n, mbd_s, mpt, mF_a, mF_w, mF_i, mF_L, mA_a, mA_w, mA_i, mA_L, ma_s, ih]
    rw [if_neg (by omega)]
theorem m_tries (hN : 1000 ≤ N) (S : MS) : fX5_tries N S = some (Int32.ofNat 0, mR S 22 (cpF (S.2.2.1 22) (S.2.2.1 6) 0 91 47)) := m_triesL 47 0 N S (by omega) (by omega)
theorem m_backL : ∀ (k i n : Nat) (S : MS), i + k = 47 → k < n → bX5_back_2L N n S (Int32.ofNat i) = some (Int32.ofNat 0, mR S 6 (cpF (S.2.2.1 6) (S.2.2.1 22) (91 + i) i k))
  | k, i, 0, S, _, h => by omega
  | 0, i, n + 1, S, h, _ => by
    simp (disch := omega) only [bX5_back_2L, bX5_back_2, bX5_back_0, fX5_back, pq_lit, pq_add, pq_le, pq_lt, pq_eq, pq_en, pq_ne, pq_nle, pq_nlt, pq_len, pq_ltn, pB_z, pB_o, mzt_0, mzt_1, mzt_B, mrd_n, mwr_n, mbd_s, mpt, mF_a, mF_w, mF_i, mF_L, mA_a, mA_w, mA_i, mA_L, ma_s, cpF_0, mR_id]
    rw [if_pos (by omega)]
  | k + 1, i, n + 1, S, h, hk => by
    have ih := m_backL k (i + 1) n (mR S 6 (upd (S.2.2.1 6) (91 + i) (S.2.2.1 22 i))) (by omega) (by omega)
    simp (disch := omega) only [mA_a, if_true, if_neg, mR_mR, ← Nat.add_assoc, cpF_s] at ih
    simp (disch := omega) only [bX5_back_2L, bX5_back_2, bX5_back_0, fX5_back, pq_lit, pq_add, pq_le, pq_lt, pq_eq, pq_en, pq_ne, pq_nle, pq_nlt, pq_len, pq_ltn, pB_z, pB_o, mzt_0, mzt_1, mzt_B, mrd_n, mwr_n, mbd_s, mpt, mF_a, mF_w, mF_i, mF_L, mA_a, mA_w, mA_i, mA_L, ma_s, ih]
    rw [if_neg (by omega)]
theorem m_back (hN : 1000 ≤ N) (S : MS) : fX5_back N S = some (Int32.ofNat 0, mR S 6 (bk (S.2.2.1 6) (S.2.2.1 22) 0)) := m_backL 47 0 N S (by omega) (by omega)
theorem m_keepA {u : Nat} (hu : u < 8) : ∀ (k i n : Nat) (S : MS), S.1 23 = Int32.ofNat u → i + k = 47 → k < n → bX5_keep_47L N n S (Int32.ofNat i) = some (Int32.ofNat 0, mR (mF S 23 (Int32.ofNat (u + 1))) 21 (cpF (S.2.2.1 21) (S.2.2.1 6) (47 * u + i) (91 + i) k))
  | k, i, 0, S, _, _, h => by omega
  | 0, i, n + 1, S, e, h, _ => by
    have h1 : mR (mF S 23 (Int32.ofNat (u + 1))) 21 (S.2.2.1 21) = mF S 23 (Int32.ofNat (u + 1)) := mR_id (mF S 23 (Int32.ofNat (u + 1))) 21
    simp (disch := omega) only [bX5_keep_47L, bX5_keep_47, bX5_keep_45, bX5_keep_11, bX5_keep_0, fX5_keep, pq_lit, pq_add, pq_le, pq_lt, pq_eq, pq_en, pq_ne, pq_nle, pq_nlt, pq_len, pq_ltn, pB_z, pB_o, mzt_0, mzt_1, mzt_B, mrd_n, mwr_n, mbd_s, mpt, mF_a, mF_w, mF_i, mF_L, mA_a, mA_w, mA_i, mA_L, ma_s, cpF_0, e, h1]
    rw [if_pos (by omega)]
  | k + 1, i, n + 1, S, e, h, hk => by
    have ih := m_keepA hu k (i + 1) n (mR S 21 (upd (S.2.2.1 21) (47 * u + i) (S.2.2.1 6 (91 + i)))) e (by omega) (by omega)
    simp (disch := omega) only [mA_a, if_true, if_neg, mF_mR, mR_mR, ← Nat.add_assoc, cpF_s] at ih
    simp (disch := omega) only [bX5_keep_47L, bX5_keep_47, bX5_keep_45, bX5_keep_11, bX5_keep_0, fX5_keep, pq_lit, pq_add, pq_le, pq_lt, pq_eq, pq_en, pq_ne, pq_nle, pq_nlt, pq_len, pq_ltn, pB_z, pB_o, mzt_0, mzt_1, mzt_B, mrd_n, mwr_n, mbd_s, mpt, mF_a, mF_w, mF_i, mF_L, mA_a, mA_w, mA_i, mA_L, ma_s, e, pq_mul, ih]
    rw [if_neg (by omega)]
/-- rows one place on -/
def shF (f : Nat → Int32) (i k : Nat) : Nat → Int32 := fun j => if i ≤ j ∧ j < i + k then f (j + 47) else f j
theorem shF_s (f : Nat → Int32) (i k : Nat) : shF (upd f i (f (i + 47))) (i + 1) k = shF f i (k + 1) := by
  funext j
  unfold shF upd
  grind
theorem m_keepB : ∀ (k i n : Nat) (S : MS), i + k = 329 → k < n → bX5_keep_11L N n S (Int32.ofNat i) = bX5_keep_45 N (mF (mR S 21 (shF (S.2.2.1 21) i k)) 23 (Int32.ofNat 7))
  | k, i, 0, S, _, h => by omega
  | 0, i, n + 1, S, h, _ => by
    have h1 : shF (S.2.2.1 21) i 0 = S.2.2.1 21 := by
      funext j
      unfold shF
      rw [if_neg (by omega)]
    simp (disch := omega) only [bX5_keep_11L, bX5_keep_11, pq_lit, pq_add, pq_le, pq_lt, pq_eq, pq_en, pq_ne, pq_nle, pq_nlt, pq_len, pq_ltn, pB_z, pB_o, mzt_0, mzt_1, mzt_B, mrd_n, mwr_n, mbd_s, mpt, mF_a, mF_w, mF_i, mF_L, mA_a, mA_w, mA_i, mA_L, ma_s, h1, mR_id]
    rw [if_pos (by omega)]
  | k + 1, i, n + 1, S, h, hk => by
    have ih := m_keepB k (i + 1) n (mR S 21 (upd (S.2.2.1 21) i (S.2.2.1 21 (i + 47)))) (by omega) (by omega)
    simp (disch := omega) only [mA_a, if_true, mR_mR, shF_s] at ih
    simp (disch := omega) only [bX5_keep_11L, bX5_keep_11, pq_lit, pq_add, pq_le, pq_lt, pq_eq, pq_en, pq_ne, pq_nle, pq_nlt, pq_len, pq_ltn, pB_z, pB_o, mzt_0, mzt_1, mzt_B, mrd_n, mwr_n, mbd_s, mpt, mF_a, mF_w, mF_i, mF_L, mA_a, mA_w, mA_i, mA_L, ma_s, ih]
    rw [if_neg (by omega)]
/-- what is so, kept: rows, how many -/
def kpF (f s : St) (u : Nat) : St := if u = 8 then cpF (shF f 0 329) s 329 91 47 else cpF f s (47 * u) 91 47
def kpN (u : Nat) : Nat := if u = 8 then 8 else u + 1
theorem m_keep (hN : 1000 ≤ N) {S : MS} {u : Nat} (hu : u ≤ 8) (e : S.1 23 = Int32.ofNat u) : fX5_keep N S = some (Int32.ofNat 0, mR (mF S 23 (Int32.ofNat (kpN u))) 21 (kpF (S.2.2.1 21) (S.2.2.1 6) u)) := by
  simp (disch := omega) only [fX5_keep, bX5_keep_0, pq_lit, e, pq_eq]
  unfold kpF kpN
  by_cases h : u = 8
  · have h2 := m_keepA (N := N) (u := 7) (by omega) 47 0 N (mF (mR S 21 (shF (S.2.2.1 21) 0 329)) 23 (Int32.ofNat 7)) rfl (by omega) (by omega)
    rw [if_pos h, if_pos h, if_pos h, m_keepB 329 0 N S (by omega) (by omega)]
    simp (disch := omega) only [mF_mR, mF_mF, mR_mR, mA_e, mA_n, mF_a] at h2
    simp only [bX5_keep_45, pq_lit, mF_mR, h2]
  · have h2 := m_keepA (N := N) (u := u) (by omega) 47 0 N S e (by omega) (by omega)
    rw [if_neg h, if_neg h, if_neg h]
    simp only [bX5_keep_45, pq_lit, h2]
    rfl
theorem m_undoL {u : Nat} (hu : u < 8) : ∀ (k i n : Nat) (S : MS), S.1 23 = Int32.ofNat u → i + k = 47 → k < n → bX5_undo_26L N n S (Int32.ofNat i) = some (Int32.ofNat u, mR S 6 (cpF (S.2.2.1 6) (S.2.2.1 21) (91 + i) (47 * u + i) k))
  | k, i, 0, S, _, _, h => by omega
  | 0, i, n + 1, S, e, h, _ => by
    simp (disch := omega) only [bX5_undo_26L, bX5_undo_26, bX5_undo_0, fX5_undo, pq_lit, pq_add, pq_le, pq_lt, pq_eq, pq_en, pq_ne, pq_nle, pq_nlt, pq_len, pq_ltn, pB_z, pB_o, mzt_0, mzt_1, mzt_B, mrd_n, mwr_n, mbd_s, mpt, mF_a, mF_w, mF_i, mF_L, mA_a, mA_w, mA_i, mA_L, ma_s, cpF_0, e, mR_id]
    rw [if_pos (by omega)]
  | k + 1, i, n + 1, S, e, h, hk => by
    have ih := m_undoL hu k (i + 1) n (mR S 6 (upd (S.2.2.1 6) (91 + i) (S.2.2.1 21 (47 * u + i)))) e (by omega) (by omega)
    simp (disch := omega) only [mA_a, if_true, if_neg, mR_mR, ← Nat.add_assoc, cpF_s] at ih
    simp (disch := omega) only [bX5_undo_26L, bX5_undo_26, bX5_undo_0, fX5_undo, pq_lit, pq_add, pq_le, pq_lt, pq_eq, pq_en, pq_ne, pq_nle, pq_nlt, pq_len, pq_ltn, pB_z, pB_o, mzt_0, mzt_1, mzt_B, mrd_n, mwr_n, mbd_s, mpt, mF_a, mF_w, mF_i, mF_L, mA_a, mA_w, mA_i, mA_L, ma_s, e, pq_mul, ih]
    rw [if_neg (by omega)]
theorem m_undo (hN : 1000 ≤ N) {S : MS} {u : Nat} (hu : u ≤ 8) (e : S.1 23 = Int32.ofNat u) : fX5_undo N S = if u = 0 then some (-Int32.ofNat 1, mF S 0 (Int32.ofNat 0)) else some (Int32.ofNat (u - 1), mR (mF (mF S 0 (Int32.ofNat 0)) 23 (Int32.ofNat (u - 1))) 6 (bk (S.2.2.1 6) (S.2.2.1 21) (47 * (u - 1)))) := by
  simp only [fX5_undo, bX5_undo_0, mpt, pq_lit, mF_ne S (Int32.ofNat 0) (show 23 ≠ 0 by omega), e]
  simp (disch := omega) only [pq_eq]
  by_cases h : u = 0
  · rw [if_pos h, if_pos h]
  · rw [if_neg h, if_neg h, pq_sub (by omega)]
    rw [m_undoL (u := u - 1) (by omega) 47 0 N _ rfl (by omega) (by omega)]
    rfl
theorem m_restL {S : MS} (hI : IvS (S.2.2.1 6)) : ∀ (k p n : Nat) (t : Bool), p + k = nP (S.2.2.1 6) → k < n → bX5_isRest_4L N n S (pB (t = true)) (Int32.ofNat p) = some (pB ((t && !anyF (S.2.2.1 6) p k) = true), S)
  | k, p, 0, _, _, h => by omega
  | 0, p, n + 1, t, h, _ => by
    have h6 := hI.p6
    simp (disch := omega) only [bX5_isRest_4L, bX5_isRest_31, bX5_isRest_30, bX5_isRest_4, bX5_isRest_0, fX5_isRest, pq_lit, pq_add, pq_le, pq_lt, pq_eq, pq_en, pq_ne, pq_nle, pq_nlt, pq_len, pq_ltn, pB_z, pB_o, mzt_0, mzt_1, mzt_B, mrd_n, mwr_n, mbd_s, mpt, mF_a, mF_w, mF_i, mF_L, mA_a, mA_w, mA_i, mA_L, ma_s, hI.c2]
    rw [if_pos (by omega)]
    simp [anyF]
  | k + 1, p, n + 1, t, h, hk => by
    have h6 := hI.p6
    have ih := fun t => m_restL hI k (p + 1) n t (by omega) (by omega)
    have i0 := ih false
    have i1 := ih true
    rw [pB_f (show ¬ (false = true) by decide), pB_f (show ¬ ((false && !anyF (S.2.2.1 6) (p + 1) k) = true) by simp)] at i0
    rw [pB_t (show true = true from rfl), Bool.true_and] at i1
    simp (disch := omega) only [bX5_isRest_4L, bX5_isRest_31, bX5_isRest_30, bX5_isRest_4, bX5_isRest_0, fX5_isRest, pq_lit, pq_add, pq_le, pq_lt, pq_eq, pq_en, pq_ne, pq_nle, pq_nlt, pq_len, pq_ltn, pB_z, pB_o, mzt_0, mzt_1, mzt_B, mrd_n, mwr_n, mbd_s, mpt, mF_a, mF_w, mF_i, mF_L, mA_a, mA_w, mA_i, mA_L, ma_s, hI.c2, m_grow hI, i0, i1]
    rw [if_neg (by omega)]
    cases t <;> cases e : growB (S.2.2.1 6) p <;> simp [anyF, e, pB]
theorem m_rest {S : MS} (hI : IvS (S.2.2.1 6)) (hN : 1000 ≤ N) : fX5_isRest N S = some (pB (anyF (S.2.2.1 6) 0 (nP (S.2.2.1 6)) = false), S) := by
  have h6 := hI.p6
  have h := m_restL (N := N) hI (nP (S.2.2.1 6)) 0 N true (by omega) (by omega)
  simp only [fX5_isRest, bX5_isRest_0, pq_lit]
  rw [pB_t rfl] at h
  rw [h]
  simp
/-- days until none grows; none: the last day comes first -/
def rsF : Nat → Nat → St → Option Nat × St
  | 0, _, s => (none, s)
  | k + 1, d, s => if s 91 < Int32.ofNat 400 then (if anyF s 0 (nP s) = true then rsF k (d + 1) (dayS s) else (some d, s)) else (none, s)
theorem sm_rs : ∀ (k d : Nat) {s : St}, IvS s → Sm s (rsF k d s).2
  | 0, _, _, _ => Sm.rf
  | k + 1, d, s, h => by
    unfold rsF
    split
    · split
      · exact (sm_day h).tr (sm_rs k _ h.day.1)
      · exact Sm.rf
    · exact Sm.rf
theorem m_rsL (hN : 1000 ≤ N) : ∀ (k d n : Nat) (S : MS), IvS (S.2.2.1 6) → (∃ e, e ≤ 400 ∧ e + k = 401 ∧ S.2.2.1 6 91 = Int32.ofNat e) → k < n → bX5_rests_11L N n S (Int32.ofNat d) = some (oI (rsF k d (S.2.2.1 6)).1, mR S 6 (bk (rsF k d (S.2.2.1 6)).2 (S.2.2.1 22) 0))
  | k, d, 0, S, _, _, h => by omega
  | 0, d, n + 1, S, hI, ⟨e, h1, h2, h3⟩, hk => by omega
  | k + 1, d, n + 1, S, hI, ⟨e, h1, h2, h3⟩, hk => by
    simp (disch := omega) only [bX5_rests_11L, bX5_rests_73, bX5_rests_59, bX5_rests_41, bX5_rests_11, bX5_rests_0, fX5_rests, pq_lit, pq_add, pq_le, pq_lt, pq_eq, pq_en, pq_ne, pq_nle, pq_nlt, pq_len, pq_ltn, pB_z, pB_o, mzt_0, mzt_1, mzt_B, mrd_n, mwr_n, mbd_s, mpt, mF_a, mF_w, mF_i, mF_L, mA_a, mA_w, mA_i, mA_L, ma_s, m_rest hI hN, m_day hI, m_back hN, rsF, h3]
    by_cases q : 400 ≤ e
    · have q' : ¬ e < 400 := by omega
      simp [q, q', oI, mR_id]
    · have q' : e < 400 := by omega
      cases g : anyF (S.2.2.1 6) 0 (nP (S.2.2.1 6)) with
      | true =>
        have ih := m_rsL hN k (d + 1) n (mR S 6 (dayS (S.2.2.1 6))) hI.day.1 ⟨e + 1, by omega, by omega, by
          show dayS (S.2.2.1 6) 91 = _
          unfold dayS
          rw [upd_s, dayF_91, h3, pq_add]⟩ (by omega)
        simp (disch := omega) only [mA_e, mA_n, mR_mR] at ih
        simp [q, q']
        rw [← pq_add] at ih
        exact ih
      | false =>
        simp [q, q', oI]
theorem m_bitsL {S : MS} : ∀ (n : Nat) (a x : Int32), bX5_bits_4L N n S a x = (popL n a x).map (fun r => (r, S))
  | 0, _, _ => rfl
  | n + 1, a, x => by
    simp only [bX5_bits_4L, bX5_bits_4, m_bitsL n, popL, pq_lit]
    split <;> rfl
end MK2
theorem mny_a : ∀ a, a < 64 → ∀ b, b < 64 → popL 13 (Int32.ofNat 0) (Int32.ofNat (64 * a + b)) = some (mny (Int32.ofNat (64 * a + b))) ∧ mny (Int32.ofNat (64 * a + b)) = Int32.ofNat (pcn 12 (64 * a + b)) := by decide +kernel
theorem mny_p {v : Nat} (hv : v < 4096) : popL 13 (Int32.ofNat 0) (Int32.ofNat v) = some (mny (Int32.ofNat v)) ∧ mny (Int32.ofNat v) = Int32.ofNat (pcn 12 v) := by
  have h := mny_a (v / 64) (by omega) (v % 64) (by omega)
  rw [Nat.div_add_mod] at h
  exact h
theorem m_bits {N : Nat} {S : MS} (hN : 100 ≤ N) {v : Nat} (hv : v < 4096) : fX5_bits N S (Int32.ofNat v) = some (mny (Int32.ofNat v), S) := by
  simp only [fX5_bits, bX5_bits_0, pq_lit, m_bitsL, popL_le 13 N _ _ _ (mny_p hv).1 (by omega)]
  rfl
