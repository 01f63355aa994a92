/-! ints that are small naturals, and the words' own equations -/
theorem pq_lit (n : Nat) : (OfNat.ofNat n : Int32) = Int32.ofNat n := rfl
theorem pq_toInt {a : Nat} (ha : a < 2147483648) : (Int32.ofNat a).toInt = a := Int32.toInt_ofNat_of_lt (by simpa using ha)
theorem pq_tn {a : Nat} (ha : a < 2147483648) : (Int32.ofNat a).toNatClampNeg = a := Int32.toNatClampNeg_ofNat_of_lt (by simpa using ha)
theorem pq_lt {a b : Nat} (ha : a < 2147483648) (hb : b < 2147483648) : (Int32.ofNat a < Int32.ofNat b) = (a < b) := by
  rw [Int32.lt_iff_toInt_lt, pq_toInt ha, pq_toInt hb]; simp
theorem pq_le {a b : Nat} (ha : a < 2147483648) (hb : b < 2147483648) : (Int32.ofNat a ≤ Int32.ofNat b) = (a ≤ b) := by
  rw [Int32.le_iff_toInt_le, pq_toInt ha, pq_toInt hb]; simp
theorem pq_eq {a b : Nat} (ha : a < 2147483648) (hb : b < 2147483648) : (Int32.ofNat a = Int32.ofNat b) = (a = b) := by
  rw [← Int32.toInt_inj, pq_toInt ha, pq_toInt hb]; simp only [Int.ofNat_inj]
theorem pq_add (a b : Nat) : Int32.ofNat a + Int32.ofNat b = Int32.ofNat (a + b) := (Int32.ofNat_add a b).symm
theorem pq_mul (a b : Nat) : Int32.ofNat a * Int32.ofNat b = Int32.ofNat (a * b) := (Int32.ofNat_mul a b).symm
theorem pq_sub {a b : Nat} (h : b ≤ a) : Int32.ofNat a - Int32.ofNat b = Int32.ofNat (a - b) := (Int32.ofNat_sub a b h).symm
theorem pq_en {a : Nat} (ha : a < 2147483648) : (Int32.ofNat a = -Int32.ofNat 1) = False := by
  rw [← Int32.toInt_inj, pq_toInt ha, eq_iff_iff, iff_false, show (-Int32.ofNat 1).toInt = -1 from by decide]; omega
theorem pq_ne {a : Nat} (ha : a < 2147483648) : (-Int32.ofNat 1 = Int32.ofNat a) = False := by
  rw [← pq_en ha]; exact propext ⟨Eq.symm, Eq.symm⟩
theorem pq_nle {a : Nat} (ha : a < 2147483648) : (Int32.ofNat a ≤ -Int32.ofNat 1) = False := by
  rw [Int32.le_iff_toInt_le, pq_toInt ha, eq_iff_iff, iff_false, show (-Int32.ofNat 1).toInt = -1 from by decide]; omega
theorem pq_nlt {a : Nat} (ha : a < 2147483648) : (Int32.ofNat a < -Int32.ofNat 1) = False := by
  rw [Int32.lt_iff_toInt_lt, pq_toInt ha, eq_iff_iff, iff_false, show (-Int32.ofNat 1).toInt = -1 from by decide]; omega
theorem pq_len {a : Nat} (ha : a < 2147483648) : (-Int32.ofNat 1 ≤ Int32.ofNat a) = True := by
  rw [Int32.le_iff_toInt_le, pq_toInt ha, eq_iff_iff, iff_true, show (-Int32.ofNat 1).toInt = -1 from by decide]; omega
theorem pq_ltn {a : Nat} (ha : a < 2147483648) : (-Int32.ofNat 1 < Int32.ofNat a) = True := by
  rw [Int32.lt_iff_toInt_lt, pq_toInt ha, eq_iff_iff, iff_true, show (-Int32.ofNat 1).toInt = -1 from by decide]; omega
/-- an int within bounds is a small natural -/
theorem pq_of {x : Int32} {n : Nat} (h0 : Int32.ofNat 0 ≤ x) (h1 : x < Int32.ofNat n) (hn : n < 2147483648) : ∃ k, k < n ∧ x = Int32.ofNat k := by
  rw [Int32.le_iff_toInt_le, pq_toInt (by omega)] at h0
  rw [Int32.lt_iff_toInt_lt, pq_toInt (by omega)] at h1
  have h0' : (0 : Int) ≤ x.toInt := h0
  refine ⟨x.toInt.toNat, by omega, ?_⟩
  rw [← Int32.toInt_inj, pq_toInt (by omega)]
  omega
theorem pq_ofle {x : Int32} {n : Nat} (h0 : Int32.ofNat 0 ≤ x) (h1 : x ≤ Int32.ofNat n) (hn : n + 1 < 2147483648) : ∃ k, k ≤ n ∧ x = Int32.ofNat k := by
  rw [Int32.le_iff_toInt_le, pq_toInt (by omega)] at h0 h1
  have h0' : (0 : Int) ≤ x.toInt := h0
  refine ⟨x.toInt.toNat, by omega, ?_⟩
  rw [← Int32.toInt_inj, pq_toInt (by omega)]
  omega
theorem pq_pred {n : Nat} (hn : 0 < n) : Int32.ofNat n - Int32.ofNat 1 = Int32.ofNat (n - 1) := pq_sub hn
/-- is it one of so many -/
theorem pq_isIn {n : Nat} (hn : n < 2147483648) (x : Int32) : (Int32.ofNat 0 ≤ x ∧ x ≤ Int32.ofNat n - Int32.ofNat 1) ↔ ∃ k, k < n ∧ x = Int32.ofNat k := by
  constructor
  · rintro ⟨h0, h1⟩
    by_cases h : n = 0
    · subst h
      rw [Int32.le_iff_toInt_le, pq_toInt (by omega)] at h0
      rw [Int32.le_iff_toInt_le, show (Int32.ofNat 0 - Int32.ofNat 1).toInt = -1 from by decide] at h1
      omega
    · rw [pq_pred (by omega)] at h1
      obtain ⟨k, h2, h3⟩ := pq_ofle h0 h1 (by omega)
      exact ⟨k, by omega, h3⟩
  · rintro ⟨k, hk, rfl⟩
    rw [pq_pred (by omega), pq_le (by omega) (by omega), pq_le (by omega) (by omega)]
    omega
/-! the model's words -/
theorem mrd_n {β : Type} {a : Nat → Int32} {n i : Nat} {K : Int32 → Option β} (h : i < n) (hn : n ≤ 65536) : mrd a n (Int32.ofNat i) K = K (a i) := by
  unfold mrd
  rw [pq_tn (by omega), if_neg]
  rw [show (0 : Int32) = Int32.ofNat 0 from rfl, pq_lt (by omega) (by omega)]; omega
theorem mrdL_n {β : Type} {a : Nat → Int64} {n i : Nat} {K : Int64 → Option β} (h : i < n) (hn : n ≤ 65536) : mrdL a n (Int32.ofNat i) K = K (a i) := by
  unfold mrdL
  rw [pq_tn (by omega), if_neg]
  rw [show (0 : Int32) = Int32.ofNat 0 from rfl, pq_lt (by omega) (by omega)]; omega
theorem mwr_n {β : Type} {S : MS} {k n i : Nat} {v : Int32} {K : MS → Option β} (h : i < n) (hn : n ≤ 65536) : mwr S k n (Int32.ofNat i) v K = K (mA S k i v) := by
  unfold mwr
  rw [pq_tn (by omega), if_neg]
  rw [show (0 : Int32) = Int32.ofNat 0 from rfl, pq_lt (by omega) (by omega)]; omega
theorem mwrL_n {β : Type} {S : MS} {k n i : Nat} {v : Int64} {K : MS → Option β} (h : i < n) (hn : n ≤ 65536) : mwrL S k n (Int32.ofNat i) v K = K (mL S k i v) := by
  unfold mwrL
  rw [pq_tn (by omega), if_neg]
  rw [show (0 : Int32) = Int32.ofNat 0 from rfl, pq_lt (by omega) (by omega)]; omega
theorem mbd_s {α β : Type} (r : α) (S : MS) (K : α → MS → Option β) : mbd (some (r, S)) K = K r S := rfl
theorem gbd_s {α β : Type} (r : α) (S : GS) (K : α → GS → Option β) : gbd (some (r, S)) K = K r S := rfl
theorem mzt_0 {β : Type} (K : Option β) : mzt (Int32.ofNat 0) K = K := by exact if_pos (Or.inl rfl)
theorem mzt_1 {β : Type} (K : Option β) : mzt (Int32.ofNat 1) K = K := by exact if_pos (Or.inr rfl)
/-- a truth as an int -/
def pB (p : Prop) [Decidable p] : Int32 := if p then Int32.ofNat 1 else Int32.ofNat 0
theorem pB_z (p : Prop) [Decidable p] : (pB p = Int32.ofNat 0) = ¬ p := by
  unfold pB; split <;> rename_i h <;> simp [h]
theorem pB_o (p : Prop) [Decidable p] : (pB p = Int32.ofNat 1) = p := by
  unfold pB; split <;> rename_i h <;> simp [h]
theorem mzt_B {β : Type} (p : Prop) [Decidable p] (K : Option β) : mzt (pB p) K = K := by
  unfold pB; split
  · exact mzt_1 K
  · exact mzt_0 K
theorem pB_t {p : Prop} [Decidable p] (h : p) : pB p = Int32.ofNat 1 := if_pos h
theorem pB_f {p : Prop} [Decidable p] (h : ¬ p) : pB p = Int32.ofNat 0 := if_neg h
/-! the component's words -/
theorem ggi_at {β : Type} {S : GS} {a ci κ k : Nat} {fs : List Value} {v : Int32} (h : S.1 a = some (.inr (ci, fs))) (hk : gfx ci κ = some k) (hv : fs[k]? = some (.int v)) (K : Int32 → Option β) : ggi S (some a) κ K = K v := by
  simp only [ggi, gfld, gobj, h, hk, hv]
theorem ggr_at {β : Type} {S : GS} {a ci κ k : Nat} {fs : List Value} {v : Option Nat} (h : S.1 a = some (.inr (ci, fs))) (hk : gfx ci κ = some k) (hv : fs[k]? = some (va_rf v)) (K : Option Nat → Option β) : ggr S (some a) κ K = K v := by
  cases v <;> simp only [ggr, gfld, gobj, h, hk, hv, va_rf]
theorem ggr_as {β : Type} {S : GS} {a ci κ k q : Nat} {fs : List Value} (h : S.1 a = some (.inr (ci, fs))) (hk : gfx ci κ = some k) (hv : fs[k]? = some (.ref q)) (K : Option Nat → Option β) : ggr S (some a) κ K = K (some q) := by
  simp only [ggr, gfld, gobj, h, hk, hv]
theorem gpv_at {β : Type} {E : gE} {S : GS} {a ci κ k : Nat} {fs : List Value} (h : S.1 a = some (.inr (ci, fs))) (hk : gfx ci κ = some k) (hl : k < fs.length) (hE : E.1 ≤ a) (v : Value) (K : GS → Option β) : gpv E S (some a) κ v K = K (gup S a (.inr (ci, fs.set k v))) := by
  simp only [gpv, gobj, h, hk, hE, hl, and_self, if_true]
theorem gai_at {β : Type} {S : GS} {a κ n i : Nat} {f : Nat → Int32} (h : S.1 a = some (.inl (κ, n, .inl f))) (hi : i < n) (hn : n ≤ 65536) (K : Int32 → Option β) : gai κ S (some a) (Int32.ofNat i) K = K (f i) := by
  simp only [gai, garr, h, if_true]
  rw [pq_tn (by omega), if_neg]
  rw [show (0 : Int32) = Int32.ofNat 0 from rfl, pq_lt (by omega) (by omega)]; omega
theorem gaw_at {β : Type} {E : gE} {S : GS} {a κ n i : Nat} {f : Nat → Int32} (h : S.1 a = some (.inl (κ, n, .inl f))) (hi : i < n) (hn : n ≤ 65536) (hE : E.1 ≤ a) (v : Int32) (K : GS → Option β) : gaw κ E S (some a) (Int32.ofNat i) v K = K (gup S a (.inl (κ, n, .inl (upd f i v)))) := by
  simp only [gaw, garr, h, hE, and_self, if_true]
  rw [pq_tn (by omega), if_neg]
  rw [show (0 : Int32) = Int32.ofNat 0 from rfl, pq_lt (by omega) (by omega)]; omega
theorem gar_at {β : Type} {S : GS} {a κ n i : Nat} {f : Nat → Option Nat} (h : S.1 a = some (.inl (κ, n, .inr (.inr (.inr (.inr f)))))) (hκ : 2 ≤ κ ∧ κ < 5) (hi : i < n) (hn : n ≤ 65536) (K : Option Nat → Option β) : gar S (some a) (Int32.ofNat i) K = K (f i) := by
  simp only [gar, garr, h, hκ, and_self, if_true]
  rw [pq_tn (by omega), if_neg]
  rw [show (0 : Int32) = Int32.ofNat 0 from rfl, pq_lt (by omega) (by omega)]; omega
theorem gal_at {β : Type} {S : GS} {a κ : Nat} {x : vp_A} (h : S.1 a = some (.inl (κ, x))) (hκ : κ < 5) (K : Int32 → Option β) : gal S (some a) K = K (Int32.ofNat x.1) := by
  simp only [gal, garr, h, hκ, if_true]
theorem gvd_at {β : Type} {S : GS} {a ci : Nat} {fs : List Value} (h : S.1 a = some (.inr (ci, fs))) (K : Nat → Nat → Option β) : gvd S (some a) K = K a ci := by
  simp only [gvd, gobj, h]
theorem gcc_at {β : Type} {S : GS} {a ci : Nat} {fs : List Value} {cis : List Nat} (h : S.1 a = some (.inr (ci, fs))) (hc : ci ∈ cis) (K : Option β) : gcc S (some a) cis K = K := by
  simp [gcc, h, hc]
theorem gnn_s {β : Type} (a : Nat) (K : Option β) : gnn (some a) K = K := rfl
theorem grf_s {β : Type} (a : Nat) (K : Nat → Option β) : grf (some a) K = K a := rfl
theorem upd_s (f : Nat → Int32) (k : Nat) (v : Int32) : upd f k v k = v := if_pos rfl
theorem upd_o (f : Nat → Int32) {k j : Nat} (v : Int32) (h : j ≠ k) : upd f k v j = f j := if_neg h
