/-! round and made: the model -/
def mx (a b : Int32) : Int32 := if a < b then b else a
theorem mx_le (a b : Int32) : (if a ≤ b then b else a) = mx a b := by
  unfold mx
  by_cases h : a < b
  · rw [if_pos (Int32.le_of_lt h), if_pos h]
  · rw [if_neg h]
    split
    · rename_i h2
      exact (Int32.le_antisymm h2 (Int32.not_lt.mp h)).symm
    · rfl
def rnd1 (w0 : Int32) (m : Int32) (r : Row) : Int32 := if r.2.1 = w0 then mx m r.2.2 else m
def rndF (w0 : Int32) (L : List Row) (m : Int32) : Int32 := L.foldl (rnd1 w0) m
def rndS (s : St) (h : Nat) (sp w t x : Int32) : Nat → Nat → Int32 → Int32
  | _, 0, m => m
  | k, j + 1, m => rndS s h sp w t x (k + 1) j (rndF w (rows s h sp k w t x) m)
/-- rows behind which one is just so long: how many, the first, where they end -/
abbrev MdS : Type := Nat × List Nat × (Nat → Nat)
def md1 (t : Int32) (q : MdS) (r : Row) : MdS := if r.2.2 = t then (q.1 + 1, (if q.1 = 0 then r.1 else q.2.1), fun l => if l = r.2.1.toNatClampNeg then q.2.2 l + 1 else q.2.2 l) else q
def mdF (t : Int32) (L : List Row) (q : MdS) : MdS := L.foldl (md1 t) q
def mdR (s : St) (h : Nat) (sp w t x tt : Int32) : Nat → Nat → MdS → MdS
  | _, 0, q => q
  | k, j + 1, q => mdR s h sp w t x tt (k + 1) j (mdF tt (rows s h sp k w t x) q)
def mdOk (q : MdS) : Prop := q.1 ≤ 20000 ∧ (∀ l, q.2.2 l ≤ q.1) ∧ q.2.1.length ≤ 4 ∧ (0 < q.1 → 1 ≤ q.2.1.length) ∧ ∀ l, l ∈ q.2.1 → l < 7
def lkS (g : Nat → Nat) : Nat → Nat → Nat → Nat
  | best, _, 0 => best
  | best, l, k + 1 => lkS g (if g best < g l then l else best) (l + 1) k
section RM
variable {N : Nat}
theorem m_gr (S : MS) (a b : Int32) : fX5_greater N S a b = some (mx a b, S) := by
  simp only [fX5_greater, bX5_greater_0, bX5_greater_10, ← mx_le]
  split <;> rfl
theorem m_rndL {s : St} {h : Nat} {sp : Int32} {k : Nat} (hI : IvS s) (hN : 3000000 ≤ N) (hh : h < 7) (hk : 1 ≤ k ∧ k ≤ 5) {K19 : MS → Int32 → Int32 → Int32 → Option (Int32 × MS)} {x1 : Int32} : ∀ (L : List Row) (m : Nat) (M : MS) (x2 : Int32), Gs s h sp k M L → L.length < m → ∃ M', mSm dfs M M' ∧ Fst M M' ∧ bX5_round_29L N K19 m M x1 x2 (Int32.ofNat k) = K19 M' x1 (rndF (M.2.2.1 24 0) L x2) (Int32.ofNat (k + 1))
  | L, 0, M, _, _, h => by omega
  | [], m + 1, M, x2, hG, _ => by
    obtain ⟨M', i1, i2, i3⟩ := (m_goesTo hI hN hh hG).1 rfl
    refine ⟨M', i2, i3, ?_⟩
    simp (disch := omega) only [bX5_round_29L, bX5_round_29, i1, pq_lit, pq_add, pq_le, pq_lt, pq_eq, pq_en, pq_ne, pq_nle, pq_nlt, pq_len, pq_ltn, pB_z, pB_o, mzt_0, mzt_1, mzt_B, mrd_n, mwr_n, mbd_s, mpt, mF_a, mF_w, mF_L, mF_e, mF_ne, mA_e, mA_n, mA_w, mA_i, mA_L, ma_s, if_true]
    rfl
  | r :: L, m + 1, M, x2, hG, hm => by
    obtain ⟨M', i1, i2, i3, i4, i5, i6, i7, i8⟩ := (m_goesTo hI hN hh hG).2 r L rfl
    obtain ⟨M2, j1, j2, j3⟩ := m_rndL hI hN hh hk (K19 := K19) (x1 := x1) L m M' (rnd1 (M.2.2.1 24 0) x2 r) i4 (by simp only [List.length_cons] at hm; omega)
    refine ⟨M2, i2.tr j1, j2.trans i3, ?_⟩
    have e1 : bX5_round_29L N K19 (m + 1) M x1 x2 (Int32.ofNat k) = bX5_round_29L N K19 m M' x1 (rnd1 (M.2.2.1 24 0) x2 r) (Int32.ofNat k) := by
      simp (disch := omega) only [bX5_round_29L, bX5_round_29, i1, pq_lit, pq_add, pq_le, pq_lt, pq_eq, pq_en, pq_ne, pq_nle, pq_nlt, pq_len, pq_ltn, pB_z, pB_o, mzt_0, mzt_1, mzt_B, mrd_n, mwr_n, mbd_s, mpt, mF_a, mF_w, mF_L, mF_e, mF_ne, mA_e, mA_n, mA_w, mA_i, mA_L, ma_s, i5, i6, m_gr]
      rw [if_neg (by omega), i3]
      unfold rnd1
      split <;> rfl
    rw [e1, j3, i3]
    rfl
theorem m_rnd3 {s : St} (hI : IvS s) (hN : 3000000 ≤ N) {p : Nat} (hp : p < nP s) : ∀ (m k q : Nat) (M : MS) (x2 : Int32), M.2.2.1 6 = s → k + m = 6 → 1 ≤ k → m < q → ∃ M', mSm dfw M M' ∧ bX5_round_19L N q M (Int32.ofNat p) x2 (Int32.ofNat k) = some (rndS s (hm s p) (spW s p) (s (108 + p)) (s (114 + p)) (s (94 + hm s p)) k m x2, M')
  | m, k, 0, M, _, _, _, _, h => by omega
  | 0, k, q + 1, M, x2, h6, hk, _, _ => by
    refine ⟨M, mSm.rf, ?_⟩
    simp (disch := omega) only [bX5_round_19L, bX5_round_19, pq_lit, pq_add, pq_le, pq_lt, pq_eq, pq_en, pq_ne, pq_nle, pq_nlt, pq_len, pq_ltn, pB_z, pB_o, mzt_0, mzt_1, mzt_B, mrd_n, mwr_n, mbd_s, mpt, mF_a, mF_w, mF_L, mF_e, mF_ne, mA_e, mA_n, mA_w, mA_i, mA_L, ma_s]
    rw [if_pos (by omega)]
    rfl
  | m + 1, k, q + 1, M, x2, h6, hk, hk1, hq => by
    have h7 := hI.l7
    have hp6 := hI.p6
    have hh := hI.hl hp
    have e1 := m_starts (N := N) (S := M) (p := p) (by rw [h6]; exact hI) (by rw [h6]; exact hp)
    have e6 : (stM M p).2.2.1 6 = s := by
      unfold stM
      simp (disch := omega) only [mF_a, mA_n, h6]
    have e24 : (stM M p).2.2.1 24 0 = s (108 + p) := by
      unfold stM
      simp (disch := omega) only [mF_a, mA_n, mA_e, upd_s, h6]
    have hG := Gs_start0 (S := M) h6 (p := p) (k := k) hk1 (by omega)
    have hc := rows_cnt (s := s) (h := hm s p) (sp := spW s p) h7 k (s (108 + p)) (s (114 + p)) (s (94 + hm s p))
    have h75 : 7 ^ k ≤ 7 ^ 5 := Nat.pow_le_pow_right (by omega) (by omega)
    obtain ⟨M', i1, i2, i3⟩ := m_rndL hI hN (by omega) (by omega) (K19 := bX5_round_19L N q) (x1 := Int32.ofNat p) _ N (stM M p) x2 hG (by omega)
    obtain ⟨M2, j1, j2⟩ := m_rnd3 hI hN hp m (k + 1) q M' (rndF ((stM M p).2.2.1 24 0) (rows s (hm s p) (spW s p) k (s (108 + p)) (s (114 + p)) (s (94 + hm s p))) x2) (((i1.2 6 (by decide)).2).trans e6) (by omega) (by omega) (by omega)
    refine ⟨M2, (stM_sm M p).tr ((i1.su (by decide)).tr j1), ?_⟩
    simp (disch := omega) only [bX5_round_19L, bX5_round_19, e1, pq_lit, pq_add, pq_le, pq_lt, pq_eq, pq_en, pq_ne, pq_nle, pq_nlt, pq_len, pq_ltn, pB_z, pB_o, mzt_0, mzt_1, mzt_B, mrd_n, mwr_n, mbd_s, mpt, mF_a, mF_w, mF_L, mF_e, mF_ne, mA_e, mA_n, mA_w, mA_i, mA_L, ma_s]
    rw [if_neg (by omega), i3, j2, e24]
    rfl
theorem m_lkL {g : Nat → Nat} {x1 : Int32} (hg : ∀ l, g l ≤ 20000) : ∀ (k l best n : Nat) (M : MS), IvS (M.2.2.1 6) → (∀ l, l < 7 → M.2.2.1 33 l = Int32.ofNat (g l)) → M.1 36 = Int32.ofNat best → best < 7 → l + k = nL (M.2.2.1 6) → k < n → bX5_made_172L N n M x1 (Int32.ofNat l) = some (x1, mF M 36 (Int32.ofNat (lkS g best l k)))
  | k, l, best, 0, M, _, _, _, _, _, h => by omega
  | 0, l, best, n + 1, M, hI, h33, h36, hb, hl, _ => by
    have h7 := hI.l7
    have e : mF M 36 (Int32.ofNat best) = M := by rw [← h36]; exact mF_id M 36
    simp (disch := omega) only [bX5_made_172L, bX5_made_172, pq_lit, pq_add, pq_le, pq_lt, pq_eq, pq_en, pq_ne, pq_nle, pq_nlt, pq_len, pq_ltn, pB_z, pB_o, mzt_0, mzt_1, mzt_B, mrd_n, mwr_n, mbd_s, mpt, mF_a, mF_w, mF_L, mF_e, mF_ne, mA_e, mA_n, mA_w, mA_i, mA_L, ma_s, hI.c0, lkS, e]
    rw [if_pos (by omega)]
  | k + 1, l, best, n + 1, M, hI, h33, h36, hb, hl, hk => by
    have h7 := hI.l7
    have g1 := hg l
    have g2 := hg best
    simp (disch := omega) only [bX5_made_172L, bX5_made_172, bX5_made_205, pq_lit, pq_add, pq_le, pq_lt, pq_eq, pq_en, pq_ne, pq_nle, pq_nlt, pq_len, pq_ltn, pB_z, pB_o, mzt_0, mzt_1, mzt_B, mrd_n, mwr_n, mbd_s, mpt, mF_a, mF_w, mF_L, mF_e, mF_ne, mA_e, mA_n, mA_w, mA_i, mA_L, ma_s, hI.c0, h36, h33 l (by omega), h33 best hb, lkS]
    rw [if_neg (by omega)]
    by_cases q : g best < g l
    · have ih := m_lkL (x1 := x1) hg k (l + 1) l n (mF M 36 (Int32.ofNat l)) hI h33 (mF_e _ _ _) (by omega) (by rw [mF_a]; omega) (by omega)
      rw [if_neg (by omega), if_pos q, ih, mF_mF]
    · have ih := m_lkL (x1 := x1) hg k (l + 1) best n M hI h33 h36 hb (by omega) (by omega)
      rw [if_pos (by omega), if_neg q, ih]
/-- the model holds what was made so far -/
def MdM (v : Int32) (f : Nat → Int32) (M : MS) (q : MdS) : Prop := (∀ l, l < 7 → M.2.2.1 33 l = Int32.ofNat (q.2.2 l)) ∧ (0 < q.1 → M.1 35 = Int32.ofNat q.2.1.length ∧ Pth (M.2.2.1 32) q.2.1) ∧ (q.1 = 0 → M.1 35 = v ∧ M.2.2.1 32 = f)
abbrev mdw : List Nat := [24, 25, 26, 27, 28, 29, 30, 32, 33, 35]
theorem m_mdC {K59 K73 : MS → Int32 → Int32 → Option (Int32 × MS)} {x1 : Int32} {m : Nat} (hm : m ≤ 4) : ∀ (k i n : Nat) (M : MS), i + k = m → k < n → bX5_made_109L N K59 K73 n M x1 (Int32.ofNat m) (Int32.ofNat i) = bX5_made_132 N K59 K73 (mR M 32 (cpF (M.2.2.1 32) (M.2.2.1 27) i i k)) x1 (Int32.ofNat m)
  | k, i, 0, M, _, h => by omega
  | 0, i, n + 1, M, h, _ => by
    simp (disch := omega) only [bX5_made_109L, bX5_made_109, pq_lit, pq_add, pq_le, pq_lt, pq_eq, pq_en, pq_ne, pq_nle, pq_nlt, pq_len, pq_ltn, pB_z, pB_o, mzt_0, mzt_1, mzt_B, mrd_n, mwr_n, mbd_s, mpt, mF_a, mF_w, mF_L, mF_e, mF_ne, mA_e, mA_n, mA_w, mA_i, mA_L, ma_s, cpF_0, mR_id]
    rw [if_pos (by omega)]
  | k + 1, i, n + 1, M, h, hk => by
    have ih := m_mdC (K59 := K59) (K73 := K73) (x1 := x1) hm k (i + 1) n (mR M 32 (upd (M.2.2.1 32) i (M.2.2.1 27 i))) (by omega) (by omega)
    simp (disch := omega) only [mA_e, mA_n, mR_mR, cpF_s] at ih
    simp (disch := omega) only [bX5_made_109L, bX5_made_109, pq_lit, pq_add, pq_le, pq_lt, pq_eq, pq_en, pq_ne, pq_nle, pq_nlt, pq_len, pq_ltn, pB_z, pB_o, mzt_0, mzt_1, mzt_B, mrd_n, mwr_n, mbd_s, mpt, mF_a, mF_w, mF_L, mF_e, mF_ne, mA_e, mA_n, mA_w, mA_i, mA_L, ma_s, ih]
    rw [if_neg (by omega)]
theorem md1_ok {t : Int32} {q : MdS} {r : Row} (h : mdOk q) (hq : q.1 < 20000) (hr : r.1.length ≤ 4 ∧ 1 ≤ r.1.length ∧ ∀ l, l ∈ r.1 → l < 7) : mdOk (md1 t q r) := by
  obtain ⟨h1, h2, h3, h4, h5⟩ := h
  unfold md1
  split
  · refine ⟨by simp only []; omega, fun l => ?_, ?_, fun _ => ?_, ?_⟩
    · have := h2 l
      simp only []
      split <;> omega
    · simp only []
      split <;> omega
    · simp only []
      split
      · omega
      · exact h4 (by omega)
    · simp only []
      split
      · exact hr.2.2
      · exact h5
  · exact ⟨h1, h2, h3, h4, h5⟩
theorem md1_cnt (t : Int32) (q : MdS) (r : Row) : (md1 t q r).1 ≤ q.1 + 1 := by
  unfold md1
  split
  · exact Nat.le_refl _
  · omega
theorem m_mdL {s : St} {h : Nat} {sp : Int32} {k : Nat} (hI : IvS s) (hN : 3000000 ≤ N) (hh : h < 7) (hk : 1 ≤ k ∧ k ≤ 4) {K59 : MS → Int32 → Int32 → Option (Int32 × MS)} {tt v35 : Int32} {f32 : Nat → Int32} : ∀ (L : List Row) (m : Nat) (M : MS) (q : MdS), Gs s h sp k M L → (∀ r, r ∈ L → r.1.length = k ∧ (∀ l, l ∈ r.1 → l < nL s) ∧ ∃ l, l < nL s ∧ r.2.1 = Int32.ofNat l) → mdOk q → q.1 + L.length ≤ 20000 → MdM v35 f32 M q → M.2.2.1 1 1 &&& Int32.ofNat 255 = tt → L.length < m → ∃ M', mSm mdw M M' ∧ MdM v35 f32 M' (mdF tt L q) ∧ bX5_made_73L N K59 m M (Int32.ofNat q.1) (Int32.ofNat k) = K59 M' (Int32.ofNat (mdF tt L q).1) (Int32.ofNat (k + 1))
  | L, 0, M, _, _, _, _, _, _, _, h => by omega
  | [], m + 1, M, q, hG, _, ho, _, hM, ht, _ => by
    obtain ⟨M', i1, i2, i3⟩ := (m_goesTo hI hN hh hG).1 rfl
    refine ⟨M', i2.su (by decide), ?_, ?_⟩
    · refine ⟨fun l hl => ?_, fun h0 => ?_, fun h0 => ?_⟩
      · rw [(i2.2 33 (by decide)).2]; exact hM.1 l hl
      · rw [(i2.2 35 (by decide)).1, (i2.2 32 (by decide)).2]; exact hM.2.1 h0
      · rw [(i2.2 35 (by decide)).1, (i2.2 32 (by decide)).2]; exact hM.2.2 h0
    · simp (disch := omega) only [bX5_made_73L, bX5_made_73, i1, pq_lit, pq_add, pq_le, pq_lt, pq_eq, pq_en, pq_ne, pq_nle, pq_nlt, pq_len, pq_ltn, pB_z, pB_o, mzt_0, mzt_1, mzt_B, mrd_n, mwr_n, mbd_s, mpt, mF_a, mF_w, mF_L, mF_e, mF_ne, mA_e, mA_n, mA_w, mA_i, mA_L, ma_s, if_true]
      rfl
  | r :: L, m + 1, M, q, hG, hR, ho, hc, hM, ht, hm => by
    have h7 := hI.l7
    obtain ⟨M', i1, i2, i3, i4, i5, i6, i7, i8⟩ := (m_goesTo hI hN hh hG).2 r L rfl
    obtain ⟨r1, r2, l, r3, r4⟩ := hR r (List.mem_cons_self ..)
    simp only [List.length_cons] at hc hm
    have hq := ho.1
    have c1 : M'.2.2.1 1 = M.2.2.1 1 := (i2.2 1 (by decide)).2
    have c33 : M'.2.2.1 33 = M.2.2.1 33 := (i2.2 33 (by decide)).2
    have c32 : M'.2.2.1 32 = M.2.2.1 32 := (i2.2 32 (by decide)).2
    have c35 : M'.1 35 = M.1 35 := (i2.2 35 (by decide)).1
    have c6 : M'.2.2.1 6 = M.2.2.1 6 := (i2.2 6 (by decide)).2
    have st : bX5_made_73L N K59 (m + 1) M (Int32.ofNat q.1) (Int32.ofNat k) = if r.2.2 = tt then (if q.1 = 0 then bX5_made_109L N K59 (bX5_made_73L N K59 m) N (mF M' 35 (Int32.ofNat k)) (Int32.ofNat q.1) (Int32.ofNat k) (Int32.ofNat 0) else bX5_made_132 N K59 (bX5_made_73L N K59 m) M' (Int32.ofNat q.1) (Int32.ofNat k)) else bX5_made_73L N K59 m M' (Int32.ofNat q.1) (Int32.ofNat k) := by
      simp (disch := omega) only [bX5_made_73L, bX5_made_73, fX5_octet, bX5_octet_0, i1, pq_lit, pq_add, pq_le, pq_lt, pq_eq, pq_en, pq_ne, pq_nle, pq_nlt, pq_len, pq_ltn, pB_z, pB_o, mzt_0, mzt_1, mzt_B, mrd_n, mwr_n, mbd_s, mpt, mF_a, mF_w, mF_L, mF_e, mF_ne, mA_e, mA_n, mA_w, mA_i, mA_L, ma_s, i6, c1, ht]
      rw [if_neg (by omega)]
    have w132 : ∀ M2 : MS, M2.2.2.1 24 k = Int32.ofNat l → M2.2.2.1 33 = M.2.2.1 33 → bX5_made_132 N K59 (bX5_made_73L N K59 m) M2 (Int32.ofNat q.1) (Int32.ofNat k) = bX5_made_73L N K59 m (mR M2 33 (upd (M2.2.2.1 33) l (M2.2.2.1 33 l + Int32.ofNat 1))) (Int32.ofNat (q.1 + 1)) (Int32.ofNat k) := by
      intro M2 w1 w2
      simp (disch := omega) only [bX5_made_132, pq_lit, pq_add, pq_le, pq_lt, pq_eq, pq_en, pq_ne, pq_nle, pq_nlt, pq_len, pq_ltn, pB_z, pB_o, mzt_0, mzt_1, mzt_B, mrd_n, mwr_n, mbd_s, mpt, mF_a, mF_w, mF_L, mF_e, mF_ne, mA_e, mA_n, mA_w, mA_i, mA_L, ma_s, w1]
    rw [st]
    have tl : (Int32.ofNat l).toNatClampNeg = l := pq_tn (by omega)
    have ok1 := md1_ok (t := tt) (r := r) ho (by omega) ⟨by omega, by omega, fun l hl => by have := r2 l hl; omega⟩
    have cn := md1_cnt tt q r
    have go : ∀ M2 : MS, mSm mdw M' M2 → Gs s h sp k M2 L → MdM v35 f32 M2 (md1 tt q r) → ∃ M3, mSm mdw M M3 ∧ MdM v35 f32 M3 (mdF tt (r :: L) q) ∧ bX5_made_73L N K59 m M2 (Int32.ofNat (md1 tt q r).1) (Int32.ofNat k) = K59 M3 (Int32.ofNat (mdF tt (r :: L) q).1) (Int32.ofNat (k + 1)) := by
      intro M2 s2 G2 m2
      obtain ⟨M3, j1, j2, j3⟩ := m_mdL hI hN hh hk (K59 := K59) (tt := tt) L m M2 (md1 tt q r) G2 (fun r' hr' => hR r' (List.mem_cons_of_mem _ hr')) ok1 (by omega) m2 (by rw [(s2.2 1 (by decide)).2, c1]; exact ht) (by omega)
      exact ⟨M3, ((i2.su (by decide)).tr s2).tr j1, j2, j3⟩
    have gsR : ∀ (M2 : MS), M2.2.2.1 6 = M'.2.2.1 6 → M2.1 28 = M'.1 28 → M2.1 29 = M'.1 29 → M2.1 30 = M'.1 30 → M2.2.2.1 24 = M'.2.2.1 24 → M2.2.2.1 25 = M'.2.2.1 25 → M2.2.2.1 26 = M'.2.2.1 26 → M2.2.2.1 27 = M'.2.2.1 27 → Gs s h sp k M2 L := by
      intro M2 f6 f28 f29 f30 f24 f25 f26 f27
      obtain ⟨c, hc⟩ := i4
      refine ⟨c, ?_⟩
      unfold DW remM at *
      rw [f6, f28, f29, f30, f24, f25, f26, f27]
      exact hc
    by_cases e : r.2.2 = tt
    · rw [if_pos e]
      have e1 : md1 tt q r = (q.1 + 1, (if q.1 = 0 then r.1 else q.2.1), fun z => if z = l then q.2.2 z + 1 else q.2.2 z) := by
        unfold md1
        rw [if_pos e, r4, tl]
      have hg : ∀ M2 : MS, M2.2.2.1 33 = M.2.2.1 33 → ∀ z, z < 7 → (upd (M2.2.2.1 33) l (M2.2.2.1 33 l + Int32.ofNat 1)) z = Int32.ofNat (if z = l then q.2.2 z + 1 else q.2.2 z) := by
        intro M2 f z hz
        rw [f]
        by_cases ez : z = l
        · subst ez
          rw [upd_s, if_pos rfl, hM.1 z hz, pq_add]
        · rw [upd_o _ _ ez, if_neg ez, hM.1 z hz]
      by_cases e0 : q.1 = 0
      · rw [if_pos e0, m_mdC (by omega) k 0 N _ (by omega) (by omega), w132 _ (by rw [mA_n _ _ (by omega), mF_a, i5, r4]) (by rw [mA_n _ _ (by omega), mF_a, c33])]
        have e2 : Int32.ofNat (q.1 + 1) = Int32.ofNat (md1 tt q r).1 := by rw [e1]
        rw [e2]
        refine go _ (((mSm.rf.mF _ (by decide)).mR _ (by decide)).mR _ (by decide)) (gsR _ ?_ ?_ ?_ ?_ ?_ ?_ ?_ ?_) ?_
        · simp (disch := omega) only [mA_n, mF_a]
        · rfl
        · rfl
        · rfl
        · simp (disch := omega) only [mA_n, mF_a]
        · simp (disch := omega) only [mA_n, mF_a]
        · simp (disch := omega) only [mA_n, mF_a]
        · simp (disch := omega) only [mA_n, mF_a]
        · rw [e1]
          refine ⟨fun z hz => ?_, fun _ => ⟨?_, ?_⟩, fun h => absurd h (by simp only []; omega)⟩
          · rw [mA_e]
            exact hg _ (by rw [mA_n _ _ (by omega), mF_a, c33]) z hz
          · show Int32.ofNat k = _
            simp only [if_pos e0, r1]
          · simp only [if_pos e0]
            intro i l' hi
            have hik : i < k := by
              obtain ⟨q1, -⟩ := List.getElem?_eq_some_iff.mp hi
              omega
            rw [mA_n _ _ (by omega), mA_e]
            unfold cpF
            rw [if_pos (by omega), Nat.sub_zero, Nat.zero_add, mF_a]
            exact i7 i l' hi
      · rw [if_neg e0, w132 M' (by rw [i5, r4]) c33]
        have e2 : Int32.ofNat (q.1 + 1) = Int32.ofNat (md1 tt q r).1 := by rw [e1]
        rw [e2]
        refine go _ (mSm.rf.mR _ (by decide)) (gsR _ ?_ ?_ ?_ ?_ ?_ ?_ ?_ ?_) ?_
        · simp (disch := omega) only [mA_n]
        · rfl
        · rfl
        · rfl
        · simp (disch := omega) only [mA_n]
        · simp (disch := omega) only [mA_n]
        · simp (disch := omega) only [mA_n]
        · simp (disch := omega) only [mA_n]
        · rw [e1]
          refine ⟨fun z hz => ?_, fun _ => ?_, fun h => absurd h (by simp only []; omega)⟩
          · rw [mA_e]
            exact hg M' c33 z hz
          · simp only [if_neg e0]
            rw [mA_i, c35, mA_n _ _ (by omega), c32]
            exact hM.2.1 (by omega)
    · rw [if_neg e]
      have e1 : md1 tt q r = q := by unfold md1; rw [if_neg e]
      have := go M' mSm.rf i4 (by rw [e1]; exact ⟨fun z hz => by rw [c33]; exact hM.1 z hz, fun h0 => by rw [c35, c32]; exact hM.2.1 h0, fun h0 => by rw [c35, c32]; exact hM.2.2 h0⟩)
      rw [e1] at this
      exact this
end RM
