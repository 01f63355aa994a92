/-! what is so, as a row s of numbers (the model's own): its words, and the model's methods by them -/
abbrev St : Type := Nat → Int32
def nL (s : St) : Nat := (s 0).toNatClampNeg
def nR (s : St) : Nat := (s 1).toNatClampNeg
def nP (s : St) : Nat := (s 2).toNatClampNeg
def hm (s : St) (p : Nat) : Nat := (s (79 + p)).toNatClampNeg
def wh (s : St) (p : Nat) : Nat := (s (108 + p)).toNatClampNeg
def IvS (s : St) : Prop := s 0 = Int32.ofNat (nL s) ∧ nL s ≤ 7 ∧ s 1 = Int32.ofNat (nR s) ∧ nR s ≤ 12 ∧ s 2 = Int32.ofNat (nP s) ∧ nP s ≤ 6 ∧ (∀ p, p < nP s → s (79 + p) = Int32.ofNat (hm s p) ∧ hm s p < nL s ∧ s (108 + p) = Int32.ofNat (wh s p) ∧ wh s p < nL s)
theorem upd_nL {s : St} {k : Nat} {v : Int32} (h : 0 ≠ k) : nL (upd s k v) = nL s := by unfold nL; rw [upd_o _ _ h]
theorem upd_nR {s : St} {k : Nat} {v : Int32} (h : 1 ≠ k) : nR (upd s k v) = nR s := by unfold nR; rw [upd_o _ _ h]
theorem upd_nP {s : St} {k : Nat} {v : Int32} (h : 2 ≠ k) : nP (upd s k v) = nP s := by unfold nP; rw [upd_o _ _ h]
theorem upd_hm {s : St} {k p : Nat} {v : Int32} (h : 79 + p ≠ k) : hm (upd s k v) p = hm s p := by unfold hm; rw [upd_o _ _ h]
theorem upd_wh {s : St} {k p : Nat} {v : Int32} (h : 108 + p ≠ k) : wh (upd s k v) p = wh s p := by unfold wh; rw [upd_o _ _ h]
theorem IvS.c0 {s : St} (h : IvS s) : s 0 = Int32.ofNat (nL s) := h.1
theorem IvS.l7 {s : St} (h : IvS s) : nL s ≤ 7 := h.2.1
theorem IvS.c1 {s : St} (h : IvS s) : s 1 = Int32.ofNat (nR s) := h.2.2.1
theorem IvS.r12 {s : St} (h : IvS s) : nR s ≤ 12 := h.2.2.2.1
theorem IvS.c2 {s : St} (h : IvS s) : s 2 = Int32.ofNat (nP s) := h.2.2.2.2.1
theorem IvS.p6 {s : St} (h : IvS s) : nP s ≤ 6 := h.2.2.2.2.2.1
theorem IvS.ho {s : St} (h : IvS s) {p : Nat} (hp : p < nP s) : s (79 + p) = Int32.ofNat (hm s p) := (h.2.2.2.2.2.2 p hp).1
theorem IvS.hl {s : St} (h : IvS s) {p : Nat} (hp : p < nP s) : hm s p < nL s := (h.2.2.2.2.2.2 p hp).2.1
theorem IvS.wo {s : St} (h : IvS s) {p : Nat} (hp : p < nP s) : s (108 + p) = Int32.ofNat (wh s p) := (h.2.2.2.2.2.2 p hp).2.2.1
theorem IvS.wl {s : St} (h : IvS s) {p : Nat} (hp : p < nP s) : wh s p < nL s := (h.2.2.2.2.2.2 p hp).2.2.2
/-- a write behind the map, not where someone is -/
theorem IvS.up {s : St} (h : IvS s) {k : Nat} {v : Int32} (hk : 91 ≤ k) (hw : ∀ p, p < 6 → k ≠ 108 + p) : IvS (upd s k v) := by
  have hp6 := h.p6
  refine ⟨?_, ?_, ?_, ?_, ?_, ?_, fun p hp => ?_⟩
  · rw [upd_o _ _ (by omega), upd_nL (by omega)]; exact h.c0
  · rw [upd_nL (by omega)]; exact h.l7
  · rw [upd_o _ _ (by omega), upd_nR (by omega)]; exact h.c1
  · rw [upd_nR (by omega)]; exact h.r12
  · rw [upd_o _ _ (by omega), upd_nP (by omega)]; exact h.c2
  · rw [upd_nP (by omega)]; exact h.p6
  · rw [upd_nP (by omega)] at hp
    have h1 := hw p (by omega)
    rw [upd_o _ _ (by omega), upd_hm (by omega), upd_nL (by omega), upd_o _ _ (by omega), upd_wh (by omega)]
    exact h.2.2.2.2.2.2 p hp
/-- a write of where one is -/
theorem IvS.at {s : St} (h : IvS s) {q l : Nat} (hq : q < 6) (hl : l < nL s) : IvS (upd s (108 + q) (Int32.ofNat l)) := by
  have hp6 := h.p6
  have hl7 := h.l7
  refine ⟨?_, ?_, ?_, ?_, ?_, ?_, fun p hp => ?_⟩
  · rw [upd_o _ _ (by omega), upd_nL (by omega)]; exact h.c0
  · rw [upd_nL (by omega)]; exact h.l7
  · rw [upd_o _ _ (by omega), upd_nR (by omega)]; exact h.c1
  · rw [upd_nR (by omega)]; exact h.r12
  · rw [upd_o _ _ (by omega), upd_nP (by omega)]; exact h.c2
  · rw [upd_nP (by omega)]; exact h.p6
  · rw [upd_nP (by omega)] at hp
    rw [upd_o _ _ (by omega), upd_hm (by omega), upd_nL (by omega)]
    refine ⟨h.ho hp, h.hl hp, ?_⟩
    by_cases e : p = q
    · subst e
      have e2 : wh (upd s (108 + p) (Int32.ofNat l)) p = l := by unfold wh; rw [upd_s]; exact pq_tn (by omega)
      rw [e2, upd_s]
      exact ⟨rfl, hl⟩
    · rw [upd_o _ _ (by omega), upd_wh (by omega)]
      exact ⟨h.wo hp, h.wl hp⟩
/-! bits -/
def bt (x k : Int32) : Bool := decide (((x >>> (k &&& Int32.ofNat 31)) &&& Int32.ofNat 1) = Int32.ofNat 1)
/-! the model's words of state -/
theorem mF_a (S : MS) (k : Nat) (v : Int32) (j : Nat) : (mF S k v).2.2.1 j = S.2.2.1 j := rfl
theorem mF_L (S : MS) (k : Nat) (v : Int32) (j : Nat) : (mF S k v).2.2.2 j = S.2.2.2 j := rfl
theorem mF_w (S : MS) (k : Nat) (v : Int32) : (mF S k v).2.1 = S.2.1 := rfl
theorem mF_i (S : MS) (k : Nat) (v : Int32) (j : Nat) : (mF S k v).1 j = if j = k then v else S.1 j := rfl
/-- the model's row k is another one -/
def mR (S : MS) (k : Nat) (f : Nat → Int32) : MS := (S.1, S.2.1, va_up S.2.2.1 k f, S.2.2.2)
theorem ma_s (S : MS) (k i : Nat) (v : Int32) : mA S k i v = mR S k (upd (S.2.2.1 k) i v) := rfl
theorem mA_a (S : MS) (k : Nat) (f : Nat → Int32) (j : Nat) : (mR S k f).2.2.1 j = if j = k then f else S.2.2.1 j := rfl
theorem mA_L (S : MS) (k : Nat) (f : Nat → Int32) (j : Nat) : (mR S k f).2.2.2 j = S.2.2.2 j := rfl
theorem mA_w (S : MS) (k : Nat) (f : Nat → Int32) : (mR S k f).2.1 = S.2.1 := rfl
theorem mA_i (S : MS) (k : Nat) (f : Nat → Int32) (j : Nat) : (mR S k f).1 j = S.1 j := rfl
section PM
variable {N : Nat} {S : MS}
theorem m_bt (x k : Int32) : fX5_bitOf N S x k = some (pB (bt x k = true), S) := by
  simp only [fX5_bitOf, bX5_bitOf_0, bX5_bitOf_14, pq_lit, mzt_0, mzt_1]
  by_cases h : ((x >>> (k &&& Int32.ofNat 31)) &&& Int32.ofNat 1) = Int32.ofNat 1
  · rw [if_pos h, pB_t (by simpa only [bt, decide_eq_true_eq] using h)]
  · rw [if_neg h, pB_f (by simpa only [bt, decide_eq_true_eq] using h)]
theorem c_bt {E : gE} {S : GS} (x k : Int32) : fX1_isOf E N S x k = some (pB (bt x k = true), S) := by
  simp only [fX1_isOf, bX1_isOf_0, bX1_isOf_14, pq_lit, mzt_0, mzt_1]
  by_cases h : ((x >>> (k &&& Int32.ofNat 31)) &&& Int32.ofNat 1) = Int32.ofNat 1
  · rw [if_pos h, pB_t (by simpa only [bt, decide_eq_true_eq] using h)]
  · rw [if_neg h, pB_f (by simpa only [bt, decide_eq_true_eq] using h)]
theorem m_isIn (x l h : Int32) : fX5_isIn N S x l h = some (pB (l ≤ x ∧ x ≤ h), S) := by
  simp only [fX5_isIn, bX5_isIn_0, bX5_isIn_14, bX5_isIn_15, pq_lit, mzt_0, mzt_1]
  by_cases h1 : x < l
  · rw [if_pos h1, pB_f (fun q => absurd q.1 (Int32.not_le.mpr h1))]
  · rw [if_neg h1]
    by_cases h2 : h < x
    · rw [if_pos h2, pB_f (fun q => absurd q.2 (Int32.not_le.mpr h2))]
    · rw [if_neg h2, pB_t ⟨Int32.not_lt.mp h1, Int32.not_lt.mp h2⟩]
theorem c_isIn {E : gE} {S : GS} (x l h : Int32) : fX1_isIn E N S x l h = some (pB (l ≤ x ∧ x ≤ h), S) := by
  simp only [fX1_isIn, bX1_isIn_0, bX1_isIn_14, bX1_isIn_15, pq_lit, mzt_0, mzt_1]
  by_cases h1 : x < l
  · rw [if_pos h1, pB_f (fun q => absurd q.1 (Int32.not_le.mpr h1))]
  · rw [if_neg h1]
    by_cases h2 : h < x
    · rw [if_pos h2, pB_f (fun q => absurd q.2 (Int32.not_le.mpr h2))]
    · rw [if_neg h2, pB_t ⟨Int32.not_lt.mp h1, Int32.not_lt.mp h2⟩]
theorem pB_c {p q : Prop} [Decidable p] [Decidable q] (h : p ↔ q) : pB p = pB q := by
  by_cases hp : p
  · rw [pB_t hp, pB_t (h.mp hp)]
  · rw [pB_f hp, pB_f (fun hq => hp (h.mpr hq))]
/-- is x one of so many -/
def inN (x : Int32) (n : Nat) : Bool := decide (Int32.ofNat 0 ≤ x ∧ x ≤ Int32.ofNat n - Int32.ofNat 1)
theorem inN_i {x : Int32} {n : Nat} (hn : n < 2147483648) : inN x n = true ↔ ∃ k, k < n ∧ x = Int32.ofNat k := by
  unfold inN
  rw [decide_eq_true_iff, pq_isIn hn]
theorem inN_k {k n : Nat} (hn : n < 2147483648) : inN (Int32.ofNat k) n = true ↔ k % 4294967296 < n := by
  rw [inN_i hn]
  constructor
  · rintro ⟨j, h1, h2⟩
    have := congrArg (fun z => z.toBitVec.toNat) h2
    simp at this
    omega
  · intro h
    exact ⟨k % 4294967296, h, by rw [← Int32.toBitVec_inj]; apply BitVec.eq_of_toNat_eq; simp⟩
theorem m_isLand (hI : IvS (S.2.2.1 6)) (x : Int32) : fX5_isLand N S x = some (pB (inN x (nL (S.2.2.1 6)) = true), S) := by
  simp (disch := omega) only [fX5_isLand, bX5_isLand_0, m_isIn, pq_lit, pq_add, pq_le, pq_lt, pq_eq, pq_en, pq_ne, pq_nle, pq_nlt, pq_len, pq_ltn, pB_z, pB_o, mzt_0, mzt_1, mzt_B, mrd_n, mwr_n, mbd_s, mpt, mF_a, mF_w, mF_i, mF_L, mA_a, mA_w, mA_i, mA_L, ma_s, hI.c0]
  rw [pB_c (q := inN x (nL (S.2.2.1 6)) = true) (by simp [inN])]
theorem m_isPerson (hI : IvS (S.2.2.1 6)) (x : Int32) : fX5_isPerson N S x = some (pB (inN x (nP (S.2.2.1 6)) = true), S) := by
  simp (disch := omega) only [fX5_isPerson, bX5_isPerson_0, m_isIn, pq_lit, pq_add, pq_le, pq_lt, pq_eq, pq_en, pq_ne, pq_nle, pq_nlt, pq_len, pq_ltn, pB_z, pB_o, mzt_0, mzt_1, mzt_B, mrd_n, mwr_n, mbd_s, mpt, mF_a, mF_w, mF_i, mF_L, mA_a, mA_w, mA_i, mA_L, ma_s, hI.c2]
  rw [pB_c (q := inN x (nP (S.2.2.1 6)) = true) (by simp [inN])]
/-! the road between two lands -/
def roadF (s : St) (x y : Int32) : Nat → Nat → Option Nat
  | _, 0 => none
  | r, k + 1 => if (s (24 + r) = x ∧ s (36 + r) = y) ∨ (s (24 + r) = y ∧ s (36 + r) = x) then some r else roadF s x y (r + 1) k
def roadO (s : St) (x y : Int32) : Option Nat := roadF s x y 0 (nR s)
def oI (o : Option Nat) : Int32 := match o with
  | none => -Int32.ofNat 1
  | some r => Int32.ofNat r
theorem roadF_lt {s : St} {x y : Int32} : ∀ (k r : Nat) {i : Nat}, roadF s x y r k = some i → i < r + k
  | 0, r, i, h => by cases h
  | k + 1, r, i, h => by
    unfold roadF at h
    split at h
    · cases h; omega
    · have := roadF_lt k (r + 1) h; omega
theorem roadO_lt {s : St} {x y : Int32} {i : Nat} (h : roadO s x y = some i) : i < nR s := by
  have := roadF_lt _ _ h; omega
theorem m_roadL (hI : IvS (S.2.2.1 6)) {x y : Int32} : ∀ (k r n : Nat), r + k = nR (S.2.2.1 6) → k < n → bX5_roadOf_2L N n S x y (Int32.ofNat r) = some (oI (roadF (S.2.2.1 6) x y r k), S)
  | k, r, 0, _, h => by omega
  | 0, r, n + 1, h, _ => by
    have := hI.r12
    simp (disch := omega) only [bX5_roadOf_2L, bX5_roadOf_2, pq_lit, pq_add, pq_le, pq_lt, pq_eq, pq_en, pq_ne, pq_nle, pq_nlt, pq_len, pq_ltn, pB_z, pB_o, mzt_0, mzt_1, mzt_B, mrd_n, mwr_n, mbd_s, mpt, mF_a, mF_w, mF_i, mF_L, mA_a, mA_w, mA_i, mA_L, ma_s, hI.c1]
    rw [if_pos (by omega)]
    rfl
  | k + 1, r, n + 1, h, hk => by
    have := hI.r12
    have ih := m_roadL hI (x := x) (y := y) k (r + 1) n (by omega) (by omega)
    simp (disch := omega) only [bX5_roadOf_2L, bX5_roadOf_2, bX5_roadOf_38, bX5_roadOf_64, bX5_roadOf_66, pq_lit, pq_add, pq_le, pq_lt, pq_eq, pq_en, pq_ne, pq_nle, pq_nlt, pq_len, pq_ltn, pB_z, pB_o, mzt_0, mzt_1, mzt_B, mrd_n, mwr_n, mbd_s, mpt, mF_a, mF_w, mF_i, mF_L, mA_a, mA_w, mA_i, mA_L, ma_s, hI.c1, roadF, ih]
    rw [if_neg (by omega)]
    grind [oI]
theorem m_road (hI : IvS (S.2.2.1 6)) (hN : 100 ≤ N) (x y : Int32) : fX5_roadOf N S x y = some (oI (roadO (S.2.2.1 6) x y), S) := by
  have := hI.r12
  exact m_roadL hI _ 0 N (by omega) (by omega)
/-- why one can't go from a land to another one -/
def whyS (s : St) (fr : Int32) (l : Nat) (m : Int32) (sp : Bool) : Int32 := match roadO s fr (Int32.ofNat l) with
  | none => Int32.ofNat 1
  | some r => if bt (s 93) (Int32.ofNat r) = true then Int32.ofNat 2 else if m < s (48 + r) then Int32.ofNat 3 else if s (60 + r) < m then Int32.ofNat 4 else if sp = false ∧ m ≤ s (3 + l) then Int32.ofNat 5 else Int32.ofNat 0
theorem m_open (x : Int32) : fX5_isOpen N S x = some (pB (¬ bt (S.2.2.1 6 93) x = true), S) := by
  simp (disch := omega) only [fX5_isOpen, bX5_isOpen_0, bX5_isOpen_19, m_bt, pq_lit, pq_add, pq_le, pq_lt, pq_eq, pq_en, pq_ne, pq_nle, pq_nlt, pq_len, pq_ltn, pB_z, pB_o, mzt_0, mzt_1, mzt_B, mrd_n, mwr_n, mbd_s, mpt, mF_a, mF_w, mF_i, mF_L, mA_a, mA_w, mA_i, mA_L, ma_s]
  by_cases h : bt (S.2.2.1 6 93) x = true
  · simp [h, pB]
  · simp [h, pB]
theorem m_why (hI : IvS (S.2.2.1 6)) (hN : 100 ≤ N) (fr m sp : Int32) {l : Nat} (hl : l < 7) : fX5_whyBy N S fr (Int32.ofNat l) m sp = some (whyS (S.2.2.1 6) fr l m (bt sp (Int32.ofNat l)), S) := by
  have := hI.r12
  simp (disch := omega) only [fX5_whyBy, bX5_whyBy_0, bX5_whyBy_84, bX5_whyBy_83, m_road hI hN, m_open, m_bt, pq_lit, pq_add, pq_le, pq_lt, pq_eq, pq_en, pq_ne, pq_nle, pq_nlt, pq_len, pq_ltn, pB_z, pB_o, mzt_0, mzt_1, mzt_B, mrd_n, mwr_n, mbd_s, mpt, mF_a, mF_w, mF_i, mF_L, mA_a, mA_w, mA_i, mA_L, ma_s]
  unfold whyS
  cases h : roadO (S.2.2.1 6) fr (Int32.ofNat l) with
  | none =>
    simp (disch := omega) only [oI, pq_nle]
    rfl
  | some r =>
    have hr := roadO_lt h
    simp (disch := omega) only [oI, pq_lit, pq_add, pq_le, pq_lt, pq_eq, pq_en, pq_ne, pq_nle, pq_nlt, pq_len, pq_ltn, pB_z, pB_o, mzt_0, mzt_1, mzt_B, mrd_n, mwr_n, mbd_s, mpt, mF_a, mF_w, mF_i, mF_L, mA_a, mA_w, mA_i, mA_L, ma_s]
    rw [if_pos (by omega)]
    simp only [Classical.not_not, ← Int32.not_lt]
    grind
end PM
