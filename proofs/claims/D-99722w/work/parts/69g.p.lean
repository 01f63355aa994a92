/-! words as longs -/
def encN (u : List Nat) : Nat := u.foldl (fun a c => a * 256 + c) 0
theorem enc_s {a c : Nat} (ha : a < 2 ^ 48) (hc : c < 256) : Int64.ofNat a <<< (8 : Int64) ||| Int64.ofNat c = Int64.ofNat (a * 256 + c) := by
  have e : a * 256 + c = a <<< 8 ||| c := by
    rw [← Nat.shiftLeft_add_eq_or_of_lt (i := 8) (by omega)]
    rw [Nat.shiftLeft_eq]
  have l : a <<< 8 < 2 ^ 56 := by rw [Nat.shiftLeft_eq]; omega
  rw [e, ← Int64.toBitVec_inj]
  apply BitVec.eq_of_toNat_eq
  rw [Int64.toBitVec_or, Int64.toBitVec_shiftLeft, BitVec.toNat_or]
  have h8 : ((8 : Int64).toBitVec.smod 64) = 8#64 := by decide
  rw [h8]
  have e1 : (Int64.ofNat a).toBitVec = BitVec.ofNat 64 a := rfl
  have e2 : (Int64.ofNat c).toBitVec = BitVec.ofNat 64 c := rfl
  have e3 : (Int64.ofNat (a <<< 8 ||| c)).toBitVec = BitVec.ofNat 64 (a <<< 8 ||| c) := rfl
  rw [e1, e2, e3]
  have l3 : a <<< 8 ||| c < 2 ^ 56 := Nat.or_lt_two_pow l (by omega)
  have h88 : (8#64).toNat = 8 := by decide
  simp only [BitVec.shiftLeft_eq', BitVec.toNat_shiftLeft, BitVec.toNat_ofNat, h88]
  rw [Nat.mod_eq_of_lt (show a < 2 ^ 64 by omega), Nat.mod_eq_of_lt (show c < 2 ^ 64 by omega), Nat.mod_eq_of_lt (show a <<< 8 < 2 ^ 64 by omega), Nat.mod_eq_of_lt (show a <<< 8 ||| c < 2 ^ 64 by omega)]
theorem sp_b {n : Nat} (hn : n < 2 ^ 56) : ∀ j, j < 8 → (Int64.ofNat n >>> ((Int32.ofNat (8 * j)).toInt64 &&& (63 : Int64))) &&& (255 : Int64) = Int64.ofNat (n / 2 ^ (8 * j) % 256) := by
  intro j hj
  have hs : ∀ j, j < 8 → ((Int32.ofNat (8 * j)).toInt64 &&& (63 : Int64)).toBitVec.smod 64 = BitVec.ofNat 64 (8 * j) := by decide
  rw [← Int64.toBitVec_inj]
  apply BitVec.eq_of_toNat_eq
  rw [Int64.toBitVec_and, Int64.toBitVec_shiftRight, hs j hj, BitVec.toNat_and]
  have e1 : (Int64.ofNat n).toBitVec = BitVec.ofNat 64 n := rfl
  have e2 : (Int64.ofNat (n / 2 ^ (8 * j) % 256)).toBitVec = BitVec.ofNat 64 (n / 2 ^ (8 * j) % 256) := rfl
  have e3 : (255 : Int64).toBitVec.toNat = 2 ^ 8 - 1 := by decide
  have m : (BitVec.ofNat 64 n).msb = false := by
    rw [BitVec.msb_eq_decide, BitVec.toNat_ofNat, Nat.mod_eq_of_lt (by omega)]
    simp
    omega
  rw [e1, e2, e3, Nat.and_two_pow_sub_one_eq_mod]
  have h88 : (BitVec.ofNat 64 (8 * j)).toNat = 8 * j := by rw [BitVec.toNat_ofNat, Nat.mod_eq_of_lt (by omega)]
  rw [show (BitVec.ofNat 64 n).sshiftRight' (BitVec.ofNat 64 (8 * j)) = (BitVec.ofNat 64 n) >>> (8 * j) by
    show (BitVec.ofNat 64 n).sshiftRight (BitVec.ofNat 64 (8 * j)).toNat = _
    rw [h88, BitVec.sshiftRight_eq_of_msb_false m]]
  rw [BitVec.toNat_ushiftRight, BitVec.toNat_ofNat, BitVec.toNat_ofNat, Nat.mod_eq_of_lt (show n < 2 ^ 64 by omega), Nat.shiftRight_eq_div_pow, Nat.mod_eq_of_lt (show n / 2 ^ (8 * j) % 256 < 2 ^ 64 by omega)]
theorem encF : ∀ (u : List Nat) (a k : Nat), a < 2 ^ (8 * k) → k + u.length ≤ 7 → (∀ c, c ∈ u → c < 256) → u.foldl (fun a c => a <<< (8 : Int64) ||| Int64.ofNat c) (Int64.ofNat a) = Int64.ofNat (u.foldl (fun a c => a * 256 + c) a) ∧ u.foldl (fun a c => a * 256 + c) a < 2 ^ (8 * (k + u.length))
  | [], a, k, ha, _, _ => ⟨rfl, ha⟩
  | c :: u, a, k, ha, hk, hc => by
    rw [List.length_cons] at hk
    have h1 := hc c List.mem_cons_self
    have p48 : 2 ^ (8 * k) ≤ 2 ^ 48 := Nat.pow_le_pow_right (by omega) (by omega)
    have e := enc_s (a := a) (c := c) (by omega) h1
    have l : a * 256 + c < 2 ^ (8 * (k + 1)) := by
      rw [show 8 * (k + 1) = 8 * k + 8 by omega, Nat.pow_add]
      omega
    obtain ⟨i1, i2⟩ := encF u (a * 256 + c) (k + 1) l (by omega) (fun x hx => hc x (List.mem_cons_of_mem _ hx))
    rw [List.foldl_cons, List.foldl_cons, e, i1, List.length_cons, show k + (u.length + 1) = k + 1 + u.length by omega]
    exact ⟨rfl, i2⟩
theorem enc_n {u : List Nat} (h : Wd u) : enc u = Int64.ofNat (encN u) ∧ encN u < 2 ^ (8 * u.length) := by
  have e := encF u 0 0 (by decide) (by have := h.2.1; omega) (fun c hc => by have := (h.2.2 c hc).2; omega)
  rw [Nat.zero_add] at e
  exact e
/-- the letter at a place from the right -/
theorem encN_b : ∀ (u : List Nat) (j : Nat), (∀ c, c ∈ u → c < 256) → encN u / 2 ^ (8 * j) % 256 = u.reverse.getD j 0 := by
  intro u
  have key : ∀ (v : List Nat) (j : Nat), (∀ c, c ∈ v → c < 256) → encN v.reverse / 2 ^ (8 * j) % 256 = v.getD j 0 := by
    intro v
    induction v with
    | nil => intro j _; simp [encN]
    | cons c v ih =>
      intro j hc
      have e : encN (c :: v).reverse = encN v.reverse * 256 + c := by
        unfold encN
        rw [List.reverse_cons, List.foldl_append]
        rfl
      have h1 := hc c List.mem_cons_self
      rw [e]
      match j with
      | 0 => simp; omega
      | j + 1 =>
        rw [show 8 * (j + 1) = 8 + 8 * j by omega, Nat.pow_add, ← Nat.div_div_eq_div_mul, show (encN v.reverse * 256 + c) / 2 ^ 8 = encN v.reverse by omega, ih j (fun x hx => hc x (List.mem_cons_of_mem _ hx))]
        rfl
  intro j h
  have := key u.reverse j (fun c hc => h c (List.mem_reverse.mp hc))
  rw [List.reverse_reverse] at this
  exact this
