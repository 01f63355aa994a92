/-! times: crossings, days, draws (the model's methods by words of s) -/
theorem pq_and31 : ∀ l, l < 32 → Int32.ofNat l &&& Int32.ofNat 31 = Int32.ofNat l := by decide
theorem pq_smod : ∀ l, l < 32 → (Int32.ofNat l).toBitVec.smod 32 = BitVec.ofNat 32 l := by decide
theorem pq_one (y : BitVec 32) : (y &&& 1#32 = 1#32) ↔ y.getLsbD 0 = true := by
  constructor
  · intro h
    have := congrArg (fun z => z.getLsbD 0) h
    simpa using this
  · intro h
    apply BitVec.eq_of_getLsbD_eq
    intro i hi
    rw [BitVec.getLsbD_and]
    by_cases h0 : i = 0
    · subst h0; simp [h]
    · have : (1#32).getLsbD i = false := by simp [BitVec.getLsbD_one, h0]
      rw [this]; simp
theorem bt_bit {l : Nat} (hl : l < 32) (x : Int32) : bt x (Int32.ofNat l) = x.toBitVec.getLsbD l := by
  unfold bt
  rw [pq_and31 l hl, Bool.eq_iff_iff, decide_eq_true_iff, ← Int32.toBitVec_inj, Int32.toBitVec_and, Int32.toBitVec_shiftRight, pq_smod l hl]
  show (_ &&& 1#32 = 1#32) ↔ _
  rw [pq_one, BitVec.sshiftRight', BitVec.getLsbD_sshiftRight]
  rw [show (BitVec.ofNat 32 l).toNat = l from by simp; omega]
  simp [hl]
/-- the set of one -/
def p1 (l : Nat) : Int32 := Int32.ofNat 1 <<< (Int32.ofNat l &&& Int32.ofNat 31)
theorem p1_e (l : Nat) : Int32.ofNat 1 <<< (Int32.ofNat l &&& Int32.ofNat 31) = p1 l := rfl
theorem p1_bit : ∀ l, l < 32 → ∀ j, j < 32 → (p1 l).toBitVec.getLsbD j = decide (l = j) := by decide
theorem bt_or {l : Nat} (hl : l < 32) (x y : Int32) : bt (x ||| y) (Int32.ofNat l) = (bt x (Int32.ofNat l) || bt y (Int32.ofNat l)) := by
  rw [bt_bit hl, bt_bit hl, bt_bit hl, Int32.toBitVec_or, BitVec.getLsbD_or]
theorem bt_and {l : Nat} (hl : l < 32) (x y : Int32) : bt (x &&& y) (Int32.ofNat l) = (bt x (Int32.ofNat l) && bt y (Int32.ofNat l)) := by
  rw [bt_bit hl, bt_bit hl, bt_bit hl, Int32.toBitVec_and, BitVec.getLsbD_and]
theorem bt_not {l : Nat} (hl : l < 32) (x : Int32) : bt (~~~ x) (Int32.ofNat l) = !bt x (Int32.ofNat l) := by
  rw [bt_bit hl, bt_bit hl, Int32.toBitVec_not, BitVec.getLsbD_not]; simp [hl]
theorem bt_xor {l : Nat} (hl : l < 32) (x y : Int32) : bt (x ^^^ y) (Int32.ofNat l) = (bt x (Int32.ofNat l) ^^ bt y (Int32.ofNat l)) := by
  rw [bt_bit hl, bt_bit hl, bt_bit hl, Int32.toBitVec_xor, BitVec.getLsbD_xor]
theorem bt_p1 {l j : Nat} (hl : l < 32) (hj : j < 32) : bt (p1 l) (Int32.ofNat j) = decide (l = j) := by
  rw [bt_bit hj, p1_bit l hl j hj]
theorem bt_0 {j : Nat} (hj : j < 32) : bt (Int32.ofNat 0) (Int32.ofNat j) = false := by
  rw [bt_bit hj]; simp
theorem bt_ext {x y : Int32} (h : ∀ l, l < 32 → bt x (Int32.ofNat l) = bt y (Int32.ofNat l)) : x = y := by
  rw [← Int32.toBitVec_inj]
  apply BitVec.eq_of_getLsbD_eq
  intro i hi
  rw [← bt_bit hi, ← bt_bit hi]; exact h i hi
theorem pq_or0 (x : Int32) : x ||| Int32.ofNat 0 = x := bt_ext (fun l hl => by rw [bt_or hl, bt_0 hl]; simp)
/-! rows of the model's state, one on the other -/
theorem mR_mR (S : MS) (k : Nat) (f g : Nat → Int32) : mR (mR S k f) k g = mR S k g := by
  unfold mR
  refine Prod.ext rfl (Prod.ext rfl (Prod.ext (funext fun j => ?_) rfl))
  show va_up (va_up S.2.2.1 k f) k g j = va_up S.2.2.1 k g j
  unfold va_up
  split <;> simp_all
theorem mF_mF (S : MS) (k : Nat) (v w : Int32) : mF (mF S k v) k w = mF S k w := by
  unfold mF
  refine Prod.ext (funext fun j => ?_) rfl
  show va_up (va_up S.1 k v) k w j = va_up S.1 k w j
  unfold va_up
  split <;> simp_all
theorem mF_mR (S : MS) (k j : Nat) (v : Int32) (f : Nat → Int32) : mF (mR S k f) j v = mR (mF S j v) k f := rfl
theorem mR_id (S : MS) (k : Nat) : mR S k (S.2.2.1 k) = S := by
  unfold mR
  refine Prod.ext rfl (Prod.ext rfl (Prod.ext (funext fun j => ?_) rfl))
  show va_up S.2.2.1 k (S.2.2.1 k) j = S.2.2.1 j
  unfold va_up
  split <;> simp_all
theorem mF_id (S : MS) (k : Nat) : mF S k (S.1 k) = S := by
  unfold mF
  refine Prod.ext (funext fun j => ?_) rfl
  show va_up S.1 k (S.1 k) j = S.1 j
  unfold va_up
  split <;> simp_all
/-! words -/
def spW (s : St) (p : Nat) : Int32 := s (101 + hm s p) ||| p1 (hm s p)
def spd (s : St) (p l : Nat) : Bool := bt (spW s p) (Int32.ofNat l)
theorem spd_i {s : St} {p l : Nat} (hl : l < 32) (hh : hm s p < 32) : spd s p l = (decide (hm s p = l) || bt (s (101 + hm s p)) (Int32.ofNat l)) := by
  unfold spd spW
  rw [bt_or hl, bt_p1 hh hl, Bool.or_comm]
def whyC (s : St) (p l : Nat) : Int32 := whyS s (s (108 + p)) l (s (114 + p)) (spd s p l)
def canF (s : St) (p : Nat) : Int32 → Nat → Nat → Int32
  | set, _, 0 => set
  | set, l, k + 1 => canF s p (if whyC s p l = Int32.ofNat 0 then set ||| p1 l else set) (l + 1) k
def canS (s : St) (p : Nat) : Int32 := canF s p (Int32.ofNat 0) 0 (nL s)
def mn (a b : Int32) : Int32 := if b < a then b else a
theorem mn_le (a b : Int32) : (if b ≤ a then b else a) = mn a b := by
  unfold mn
  by_cases h : b < a
  · rw [if_pos (Int32.le_of_lt h), if_pos h]
  · rw [if_neg h]
    split
    · rename_i h2
      exact Int32.le_antisymm h2 (Int32.not_lt.mp h)
    · rfl
def givS (s : St) (h : Nat) (m st : Int32) : Int32 := mn (s (10 + h)) (mn st (Int32.ofNat 240 - m))
/-- one crosses -/
def crS (s : St) (p l : Nat) : St :=
  let s1 := if l = hm s p then
      let n := givS s l (s (114 + p)) (s (94 + l))
      upd (upd (upd s (94 + l) (s (94 + l) - n)) (114 + p) (s (114 + p) + n)) (126 + p) (s (126 + p) + n)
    else if spd s p l = false then
      upd (upd (upd s (94 + l) (s (94 + l) + s (3 + l))) (114 + p) (s (114 + p) - s (3 + l))) (120 + p) (s (120 + p) + s (3 + l))
    else s
  upd (upd (upd s1 (108 + p) (Int32.ofNat l)) (132 + p) (s1 (132 + p) + Int32.ofNat 1)) 92 (s1 92 + Int32.ofNat 1)
def growB (s : St) (p : Nat) : Bool := decide (s (108 + p) = s (79 + p) ∧ s (114 + p) < Int32.ofNat 240 ∧ Int32.ofNat 0 < s (94 + hm s p))
def growS (s : St) (p : Nat) : St := if growB s p = true then upd (upd s (114 + p) (s (114 + p) + Int32.ofNat 1)) (94 + hm s p) (s (94 + hm s p) - Int32.ofNat 1) else s
def dayF : Nat → Nat → St → St
  | _, 0, s => s
  | p, k + 1, s => dayF (p + 1) k (growS s p)
def dayS (s : St) : St := upd (dayF 0 (nP s) s) 91 (dayF 0 (nP s) s 91 + Int32.ofNat 1)
/-- days, as many as there are: how many it were -/
def goF : Nat → Nat → St → Nat × St
  | 0, d, s => (d, s)
  | k + 1, d, s => if s 91 < Int32.ofNat 400 then goF k (d + 1) (dayS s) else (d, s)
theorem dsd_x : ∃ f : Int32 → Int32, ∀ sd, f sd = sd * Int32.ofNat 1103515245 + Int32.ofNat 12345 := ⟨_, fun _ => rfl⟩
/-- the next number drawn (it must not be unfolded by the kernel) -/
noncomputable def dsd : Int32 → Int32 := Classical.choose dsd_x
theorem dsd_e (sd : Int32) : sd * Int32.ofNat 1103515245 + Int32.ofNat 12345 = dsd sd := (Classical.choose_spec dsd_x sd).symm
def dsu (sd : Int32) : Nat := (sd.toUInt32 >>> ((Int32.ofNat 8).toUInt32 &&& Int32.toUInt32 (Int32.ofNat 31))).toNat
theorem drw_x : ∃ f : Int32 → Nat → Nat, ∀ sd k, f sd k = dsu sd % k := ⟨_, fun _ _ => rfl⟩
noncomputable def drw : Int32 → Nat → Nat := Classical.choose drw_x
theorem drw_e (sd : Int32) (k : Nat) : dsu sd % k = drw sd k := (Classical.choose_spec drw_x sd k).symm
theorem drw_lt (sd : Int32) {k : Nat} (h : 0 < k) : drw sd k < k := by rw [← drw_e]; exact Nat.mod_lt _ h
noncomputable def drP : Nat → Nat → Int32 → St → Int32 × St
  | _, 0, sd, s => (sd, s)
  | p, k + 1, sd, s => drP (p + 1) k (dsd sd) (if whyC s p (drw (dsd sd) (nL s)) = Int32.ofNat 0 then crS s p (drw (dsd sd) (nL s)) else s)
noncomputable def drR (sd : Int32) (s : St) : Int32 × St := if drw (dsd sd) 4 = 0 ∧ 0 < nR s then (dsd (dsd sd), upd s 93 (s 93 ^^^ p1 (drw (dsd (dsd sd)) (nR s)))) else (dsd sd, s)
noncomputable def drD (sd : Int32) (s : St) : Int32 × St := ((drP 0 (nP s) (drR sd s).1 (drR sd s).2).1, dayS (drP 0 (nP s) (drR sd s).1 (drR sd s).2).2)
noncomputable def drF : Nat → Nat → Int32 → St → Nat × Int32 × St
  | 0, d, sd, s => (d, sd, s)
  | k + 1, d, sd, s => if s 91 < Int32.ofNat 400 then drF k (d + 1) (drD sd s).1 (drD sd s).2 else (d, sd, s)
def lenF (s : St) : Int32 → Nat → Nat → Int32
  | a, _, 0 => a
  | a, p, k + 1 => lenF s (a + s (114 + p)) (p + 1) k
def lenS (s : St) : Int32 := lenF s (Int32.ofNat 0) 0 (nP s)
theorem upd_spW {s : St} {k p : Nat} {v : Int32} (h : 79 + p ≠ k) (h2 : 101 + hm s p ≠ k) : spW (upd s k v) p = spW s p := by unfold spW; rw [upd_hm h, upd_o _ _ h2]
theorem upd_giv {s : St} {k h : Nat} {v m st : Int32} (h1 : 10 + h ≠ k) : givS (upd s k v) h m st = givS s h m st := by unfold givS; rw [upd_o _ _ h1]
/-! what stays -/
theorem IvS.grow {s : St} (h : IvS s) {p : Nat} (hp : p < nP s) : IvS (growS s p) ∧ nP (growS s p) = nP s ∧ nL (growS s p) = nL s ∧ nR (growS s p) = nR s := by
  have hl := h.hl hp
  have h7 := h.l7
  have h6 := h.p6
  unfold growS
  split
  · refine ⟨(h.up (by omega) (by omega)).up (by omega) (by omega), ?_, ?_, ?_⟩
    · rw [upd_nP (by omega), upd_nP (by omega)]
    · rw [upd_nL (by omega), upd_nL (by omega)]
    · rw [upd_nR (by omega), upd_nR (by omega)]
  · exact ⟨h, rfl, rfl, rfl⟩
theorem IvS.dayF : ∀ (k p : Nat) {s : St}, IvS s → p + k = nP s → IvS (dayF p k s) ∧ nP (dayF p k s) = nP s ∧ nL (dayF p k s) = nL s ∧ nR (dayF p k s) = nR s
  | 0, p, s, h, _ => ⟨h, rfl, rfl, rfl⟩
  | k + 1, p, s, h, hk => by
    have h1 := h.grow (p := p) (by omega)
    have h2 := IvS.dayF k (p + 1) h1.1 (by rw [h1.2.1]; omega)
    exact ⟨h2.1, h2.2.1.trans h1.2.1, h2.2.2.1.trans h1.2.2.1, h2.2.2.2.trans h1.2.2.2⟩
theorem IvS.day {s : St} (h : IvS s) : IvS (dayS s) ∧ nP (dayS s) = nP s ∧ nL (dayS s) = nL s ∧ nR (dayS s) = nR s := by
  have h1 := IvS.dayF (nP s) 0 h (by omega)
  unfold dayS
  refine ⟨h1.1.up (by omega) (by omega), ?_, ?_, ?_⟩
  · rw [upd_nP (by omega)]; exact h1.2.1
  · rw [upd_nL (by omega)]; exact h1.2.2.1
  · rw [upd_nR (by omega)]; exact h1.2.2.2
theorem IvS.cr {s : St} (h : IvS s) {p l : Nat} (hp : p < nP s) (hl : l < nL s) : IvS (crS s p l) ∧ nP (crS s p l) = nP s ∧ nL (crS s p l) = nL s ∧ nR (crS s p l) = nR s := by
  have h7 := h.l7
  have h6 := h.p6
  have key : ∀ s1 : St, IvS s1 → nP s1 = nP s → nL s1 = nL s → nR s1 = nR s → IvS (upd (upd (upd s1 (108 + p) (Int32.ofNat l)) (132 + p) (s1 (132 + p) + Int32.ofNat 1)) 92 (s1 92 + Int32.ofNat 1)) ∧ nP (upd (upd (upd s1 (108 + p) (Int32.ofNat l)) (132 + p) (s1 (132 + p) + Int32.ofNat 1)) 92 (s1 92 + Int32.ofNat 1)) = nP s ∧ nL (upd (upd (upd s1 (108 + p) (Int32.ofNat l)) (132 + p) (s1 (132 + p) + Int32.ofNat 1)) 92 (s1 92 + Int32.ofNat 1)) = nL s ∧ nR (upd (upd (upd s1 (108 + p) (Int32.ofNat l)) (132 + p) (s1 (132 + p) + Int32.ofNat 1)) 92 (s1 92 + Int32.ofNat 1)) = nR s := by
    intro s1 i1 e1 e2 e3
    refine ⟨((i1.at (by omega) (by omega)).up (by omega) (by omega)).up (by omega) (by omega), ?_, ?_, ?_⟩
    · rw [upd_nP (by omega), upd_nP (by omega), upd_nP (by omega), e1]
    · rw [upd_nL (by omega), upd_nL (by omega), upd_nL (by omega), e2]
    · rw [upd_nR (by omega), upd_nR (by omega), upd_nR (by omega), e3]
  unfold crS
  simp only []
  split
  · refine key _ (((h.up (by omega) (by omega)).up (by omega) (by omega)).up (by omega) (by omega)) ?_ ?_ ?_
    · rw [upd_nP (by omega), upd_nP (by omega), upd_nP (by omega)]
    · rw [upd_nL (by omega), upd_nL (by omega), upd_nL (by omega)]
    · rw [upd_nR (by omega), upd_nR (by omega), upd_nR (by omega)]
  · split
    · refine key _ (((h.up (by omega) (by omega)).up (by omega) (by omega)).up (by omega) (by omega)) ?_ ?_ ?_
      · rw [upd_nP (by omega), upd_nP (by omega), upd_nP (by omega)]
      · rw [upd_nL (by omega), upd_nL (by omega), upd_nL (by omega)]
      · rw [upd_nR (by omega), upd_nR (by omega), upd_nR (by omega)]
    · exact key _ h rfl rfl rfl
/-! the model's methods -/
section PM3
variable {N : Nat} {S : MS}
theorem m_sp (hI : IvS (S.2.2.1 6)) {p : Nat} (hp : p < nP (S.2.2.1 6)) : fX5_sparedIn N S (Int32.ofNat p) = some (spW (S.2.2.1 6) p, S) := by
  have h6 := hI.p6
  have h7 := hI.l7
  have hl := hI.hl hp
  simp (disch := omega) only [fX5_sparedIn, bX5_sparedIn_0, pq_lit, pq_add, pq_le, pq_lt, pq_eq, pq_en, pq_ne, pq_nle, pq_nlt, pq_len, pq_ltn, pB_z, pB_o, mzt_0, mzt_1, mzt_B, mrd_n, mwr_n, mbd_s, mpt, mF_a, mF_w, mF_i, mF_L, mA_a, mA_w, mA_i, mA_L, ma_s, hI.ho hp, spW, p1]
theorem m_whyC (hI : IvS (S.2.2.1 6)) (hN : 100 ≤ N) {p l : Nat} (hp : p < nP (S.2.2.1 6)) (hl : l < 7) : fX5_whyCross N S (Int32.ofNat p) (Int32.ofNat l) = some (whyC (S.2.2.1 6) p l, S) := by
  have h6 := hI.p6
  simp (disch := omega) only [fX5_whyCross, bX5_whyCross_0, m_sp hI hp, m_why hI hN, pq_lit, pq_add, pq_le, pq_lt, pq_eq, pq_en, pq_ne, pq_nle, pq_nlt, pq_len, pq_ltn, pB_z, pB_o, mzt_0, mzt_1, mzt_B, mrd_n, mwr_n, mbd_s, mpt, mF_a, mF_w, mF_i, mF_L, mA_a, mA_w, mA_i, mA_L, ma_s]
  rfl
theorem m_canL (hI : IvS (S.2.2.1 6)) (hN : 100 ≤ N) {p : Nat} (hp : p < nP (S.2.2.1 6)) : ∀ (k l n : Nat) (set : Int32), l + k = nL (S.2.2.1 6) → k < n → bX5_couldOf_4L N n S (Int32.ofNat p) set (Int32.ofNat l) = some (canF (S.2.2.1 6) p set l k, S)
  | k, l, 0, _, _, h => by omega
  | 0, l, n + 1, set, h, _ => by
    have h7 := hI.l7
    simp (disch := omega) only [bX5_couldOf_4L, bX5_couldOf_4, pq_lit, pq_add, pq_le, pq_lt, pq_eq, pq_en, pq_ne, pq_nle, pq_nlt, pq_len, pq_ltn, pB_z, pB_o, mzt_0, mzt_1, mzt_B, mrd_n, mwr_n, mbd_s, mpt, mF_a, mF_w, mF_i, mF_L, mA_a, mA_w, mA_i, mA_L, ma_s, hI.c0]
    rw [if_pos (by omega)]
    rfl
  | k + 1, l, n + 1, set, h, hk => by
    have h7 := hI.l7
    have ih := fun set => m_canL hI hN hp k (l + 1) n set (by omega) (by omega)
    simp (disch := omega) only [bX5_couldOf_4L, bX5_couldOf_4, bX5_couldOf_31, m_whyC hI hN hp, pq_lit, pq_add, pq_le, pq_lt, pq_eq, pq_en, pq_ne, pq_nle, pq_nlt, pq_len, pq_ltn, pB_z, pB_o, mzt_0, mzt_1, mzt_B, mrd_n, mwr_n, mbd_s, mpt, mF_a, mF_w, mF_i, mF_L, mA_a, mA_w, mA_i, mA_L, ma_s, hI.c0, ih, canF, p1_e, pq_or0]
    rw [if_neg (by omega)]
    split <;> rfl
theorem m_can (hI : IvS (S.2.2.1 6)) (hN : 100 ≤ N) {p : Nat} (hp : p < nP (S.2.2.1 6)) : fX5_couldOf N S (Int32.ofNat p) = some (canS (S.2.2.1 6) p, S) := by
  have h7 := hI.l7
  exact m_canL hI hN hp _ 0 N _ (by omega) (by omega)
theorem m_lesser (a b : Int32) : fX5_lesser N S a b = some (mn a b, S) := by
  simp only [fX5_lesser, bX5_lesser_0, bX5_lesser_10, ← mn_le]
  split <;> rfl
theorem m_giv {h : Nat} (hh : h < 7) (m st : Int32) : fX5_given N S (Int32.ofNat h) m st = some (givS (S.2.2.1 6) h m st, S) := by
  simp (disch := omega) only [fX5_given, bX5_given_0, pq_lit, pq_add, pq_le, pq_lt, pq_eq, pq_en, pq_ne, pq_nle, pq_nlt, pq_len, pq_ltn, pB_z, pB_o, mzt_0, mzt_1, mzt_B, mrd_n, mwr_n, mbd_s, mpt, mF_a, mF_w, mF_i, mF_L, mA_a, mA_w, mA_i, mA_L, ma_s, m_lesser]
  rfl
theorem m_lenL (hI : IvS (S.2.2.1 6)) : ∀ (k p n : Nat) (a : Int32), p + k = nP (S.2.2.1 6) → k < n → bX5_allLong_4L N n S a (Int32.ofNat p) = some (lenF (S.2.2.1 6) a p k, S)
  | k, p, 0, _, _, h => by omega
  | 0, p, n + 1, a, h, _ => by
    have h6 := hI.p6
    simp (disch := omega) only [bX5_allLong_4L, bX5_allLong_4, pq_lit, pq_add, pq_le, pq_lt, pq_eq, pq_en, pq_ne, pq_nle, pq_nlt, pq_len, pq_ltn, pB_z, pB_o, mzt_0, mzt_1, mzt_B, mrd_n, mwr_n, mbd_s, mpt, mF_a, mF_w, mF_i, mF_L, mA_a, mA_w, mA_i, mA_L, ma_s, hI.c2]
    rw [if_pos (by omega)]
    rfl
  | k + 1, p, n + 1, a, h, hk => by
    have h6 := hI.p6
    have ih := fun a => m_lenL hI k (p + 1) n a (by omega) (by omega)
    simp (disch := omega) only [bX5_allLong_4L, bX5_allLong_4, pq_lit, pq_add, pq_le, pq_lt, pq_eq, pq_en, pq_ne, pq_nle, pq_nlt, pq_len, pq_ltn, pB_z, pB_o, mzt_0, mzt_1, mzt_B, mrd_n, mwr_n, mbd_s, mpt, mF_a, mF_w, mF_i, mF_L, mA_a, mA_w, mA_i, mA_L, ma_s, hI.c2, ih, lenF]
    rw [if_neg (by omega)]
theorem m_len (hI : IvS (S.2.2.1 6)) (hN : 100 ≤ N) : fX5_allLong N S = some (lenS (S.2.2.1 6), S) := by
  have h6 := hI.p6
  exact m_lenL hI _ 0 N _ (by omega) (by omega)
theorem m_cr (hI : IvS (S.2.2.1 6)) {p l : Nat} (hp : p < nP (S.2.2.1 6)) (hl : l < nL (S.2.2.1 6)) : fX5_crosses N S (Int32.ofNat p) (Int32.ofNat l) = some (Int32.ofNat 0, mR S 6 (crS (S.2.2.1 6) p l)) := by
  have h6 := hI.p6
  have h7 := hI.l7
  have hh := hI.hl hp
  generalize hs : S.2.2.1 6 = s at *
  have i1 : IvS (upd (upd (upd s (108 + p) (Int32.ofNat l)) (132 + p) (s (132 + p) + Int32.ofNat 1)) 92 (s 92 + Int32.ofNat 1)) := ((hI.at (by omega) (by omega)).up (by omega) (by omega)).up (by omega) (by omega)
  simp (disch := omega) only [fX5_crosses, bX5_crosses_0, bX5_crosses_186, pq_lit, pq_add, pq_le, pq_lt, pq_eq, pq_en, pq_ne, pq_nle, pq_nlt, pq_len, pq_ltn, pB_z, pB_o, mzt_0, mzt_1, mzt_B, mrd_n, mwr_n, mbd_s, mpt, mF_a, mF_w, mF_i, mF_L, mA_a, mA_w, mA_i, mA_L, ma_s, hs, if_true, upd_o, hI.ho hp, mR_mR, m_giv, upd_s]
  rw [m_sp (S := mR S 6 (upd (upd (upd s (108 + p) (Int32.ofNat l)) (132 + p) (s (132 + p) + Int32.ofNat 1)) 92 (s 92 + Int32.ofNat 1))) i1 (by rw [mA_a, if_pos rfl, upd_nP (by omega), upd_nP (by omega), upd_nP (by omega)]; exact hp)]
  have e5 : spW (upd (upd (upd s (108 + p) (Int32.ofNat l)) (132 + p) (s (132 + p) + Int32.ofNat 1)) 92 (s 92 + Int32.ofNat 1)) p = spW s p := by
    rw [upd_spW, upd_spW, upd_spW] <;> first | omega | (simp (disch := omega) only [upd_hm]; omega)
  simp (disch := omega) only [pq_lit, pq_add, pq_le, pq_lt, pq_eq, pq_en, pq_ne, pq_nle, pq_nlt, pq_len, pq_ltn, pB_z, pB_o, mzt_0, mzt_1, mzt_B, mrd_n, mwr_n, mbd_s, mpt, mF_a, mF_w, mF_i, mF_L, mA_a, mA_w, mA_i, mA_L, ma_s, if_true, upd_o, upd_hm, e5, upd_giv, m_bt, mR_mR]
  unfold crS
  by_cases e : l = hm s p
  · rw [if_pos e, if_pos e]
    congr 3
    funext j
    simp only [upd]
    grind
  · rw [if_neg e, if_neg e]
    cases e2 : spd s p l with
    | true =>
      have e3 : bt (spW s p) (Int32.ofNat l) = true := e2
      rw [if_neg (by simp [e3]), if_neg (by simp)]
    | false =>
      have e3 : bt (spW s p) (Int32.ofNat l) = false := e2
      rw [if_pos (by simp [e3]), if_pos rfl]
      congr 3
      funext j
      simp only [upd]
      grind
theorem m_grow (hI : IvS (S.2.2.1 6)) {p : Nat} (hp : p < nP (S.2.2.1 6)) : fX5_grows N S (Int32.ofNat p) = some (pB (growB (S.2.2.1 6) p = true), S) := by
  have h6 := hI.p6
  have h7 := hI.l7
  have hh := hI.hl hp
  generalize hs : S.2.2.1 6 = s at *
  simp (disch := omega) only [fX5_grows, bX5_grows_0, bX5_grows_60, bX5_grows_61, pq_lit, pq_add, pq_le, pq_lt, pq_eq, pq_en, pq_ne, pq_nle, pq_nlt, pq_len, pq_ltn, pB_z, pB_o, mzt_0, mzt_1, mzt_B, mrd_n, mwr_n, mbd_s, mpt, mF_a, mF_w, mF_i, mF_L, mA_a, mA_w, mA_i, mA_L, ma_s, hs, hI.ho hp]
  unfold growB
  rw [hI.ho hp]
  simp only [decide_eq_true_eq, ← Int32.not_le]
  grind [pB]
theorem m_dayL : ∀ (k p n : Nat) (S : MS), IvS (S.2.2.1 6) → p + k = nP (S.2.2.1 6) → k < n → bX5_day_2L N n S (Int32.ofNat p) = some (Int32.ofNat 0, mR S 6 (upd (dayF p k (S.2.2.1 6)) 91 (dayF p k (S.2.2.1 6) 91 + Int32.ofNat 1)))
  | k, p, 0, S, _, _, h => by omega
  | 0, p, n + 1, S, hI, h, _ => by
    have h6 := hI.p6
    simp (disch := omega) only [bX5_day_2L, bX5_day_2, pq_lit, pq_add, pq_le, pq_lt, pq_eq, pq_en, pq_ne, pq_nle, pq_nlt, pq_len, pq_ltn, pB_z, pB_o, mzt_0, mzt_1, mzt_B, mrd_n, mwr_n, mbd_s, mpt, mF_a, mF_w, mF_i, mF_L, mA_a, mA_w, mA_i, mA_L, ma_s, hI.c2]
    rw [if_pos (by omega)]
    rfl
  | k + 1, p, n + 1, S, hI, h, hk => by
    have h6 := hI.p6
    have h7 := hI.l7
    have hp : p < nP (S.2.2.1 6) := by omega
    have hh := hI.hl hp
    have i1 := hI.grow hp
    have ih := m_dayL k (p + 1) n (mR S 6 (growS (S.2.2.1 6) p)) (by rw [mA_a, if_pos rfl]; exact i1.1) (by rw [mA_a, if_pos rfl, i1.2.1]; omega) (by omega)
    simp only [mA_a, if_true, mR_mR] at ih
    simp (disch := omega) only [bX5_day_2L, bX5_day_2, bX5_day_57, pq_lit, pq_add, pq_le, pq_lt, pq_eq, pq_en, pq_ne, pq_nle, pq_nlt, pq_len, pq_ltn, pB_z, pB_o, mzt_0, mzt_1, mzt_B, mrd_n, mwr_n, mbd_s, mpt, mF_a, mF_w, mF_i, mF_L, mA_a, mA_w, mA_i, mA_L, ma_s, hI.c2, m_grow hI hp, if_true, upd_o, hI.ho hp, mR_mR, dayF]
    rw [if_neg (by omega), ← ih]
    unfold growS
    by_cases e : growB (S.2.2.1 6) p = true
    · simp only [e, not_true, if_false, if_true]
    · rw [if_pos e, if_neg e, mR_id]
theorem m_day (hI : IvS (S.2.2.1 6)) (hN : 100 ≤ N) : fX5_day N S = some (Int32.ofNat 0, mR S 6 (dayS (S.2.2.1 6))) := by
  have h6 := hI.p6
  exact m_dayL _ 0 N S hI (by omega) (by omega)
theorem m_goL (hN : 100 ≤ N) {m : Nat} (hm : m < 1000) : ∀ (k d n : Nat) (S : MS), IvS (S.2.2.1 6) → d + k = m → k < n → bX5_goesOn_2L N n S (Int32.ofNat m) (Int32.ofNat d) = some (Int32.ofNat (goF k d (S.2.2.1 6)).1, mR S 6 (goF k d (S.2.2.1 6)).2)
  | k, d, 0, S, _, _, h => by omega
  | 0, d, n + 1, S, hI, h, _ => by
    simp (disch := omega) only [bX5_goesOn_2L, bX5_goesOn_2, bX5_goesOn_30, pq_lit, pq_add, pq_le, pq_lt, pq_eq, pq_en, pq_ne, pq_nle, pq_nlt, pq_len, pq_ltn, pB_z, pB_o, mzt_0, mzt_1, mzt_B, mrd_n, mwr_n, mbd_s, mpt, mF_a, mF_w, mF_i, mF_L, mA_a, mA_w, mA_i, mA_L, ma_s, goF, mR_id]
    rw [if_pos (by omega)]
  | k + 1, d, n + 1, S, hI, h, hk => by
    have i1 := hI.day
    have ih := m_goL hN hm k (d + 1) n (mR S 6 (dayS (S.2.2.1 6))) (by rw [mA_a, if_pos rfl]; exact i1.1) (by omega) (by omega)
    simp only [mA_a, if_true, mR_mR] at ih
    simp (disch := omega) only [bX5_goesOn_2L, bX5_goesOn_2, bX5_goesOn_30, pq_lit, pq_add, pq_le, pq_lt, pq_eq, pq_en, pq_ne, pq_nle, pq_nlt, pq_len, pq_ltn, pB_z, pB_o, mzt_0, mzt_1, mzt_B, mrd_n, mwr_n, mbd_s, mpt, mF_a, mF_w, mF_i, mF_L, mA_a, mA_w, mA_i, mA_L, ma_s, m_day hI hN, ih, goF]
    rw [if_neg (by omega)]
    by_cases e : S.2.2.1 6 91 < Int32.ofNat 400
    · rw [if_neg (Int32.not_le.mpr e), if_pos e]
    · rw [if_pos (Int32.not_lt.mp e), if_neg e, mR_id]
theorem m_go (hI : IvS (S.2.2.1 6)) (hN : 1000 ≤ N) {m : Nat} (hm : m < 1000) : fX5_goesOn N S (Int32.ofNat m) = some (Int32.ofNat (goF m 0 (S.2.2.1 6)).1, mR S 6 (goF m 0 (S.2.2.1 6)).2) :=
  m_goL (by omega) hm m 0 N S hI (by omega) (by omega)
end PM3
