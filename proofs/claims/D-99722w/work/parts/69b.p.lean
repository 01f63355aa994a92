/-! appending a number -/
def dec (n : Nat) : List Nat := if n < 10 then [48 + n] else if n < 100 then [48 + n / 10, 48 + n % 10] else [48 + n / 100, 48 + n % 100 / 10, 48 + n % 10]
theorem ng_a : ∀ n, n < 1000 → ((-Int32.ofNat n ≤ -Int32.ofNat 10) = (10 ≤ n)) ∧ ((-Int32.ofNat n ≤ Int32.ofNat 10 * -Int32.ofNat 10) = (100 ≤ n)) ∧ ((-Int32.ofNat n ≤ Int32.ofNat 10 * (Int32.ofNat 10 * -Int32.ofNat 10)) = False) ∧ ((-Int32.ofNat 100 < -Int32.ofNat n) = (n < 100)) ∧ ((-Int32.ofNat 9 ≤ -Int32.ofNat n) = (n ≤ 9)) ∧ -Int32.ofNat n / Int32.ofNat 100 = -Int32.ofNat (n / 100) ∧ -Int32.ofNat n / Int32.ofNat 100 * Int32.ofNat 100 - -Int32.ofNat n = Int32.ofNat (n % 100) ∧ - -Int32.ofNat n = Int32.ofNat n := by
  intro n hn
  have h : ∀ n, n < 1000 → (decide (-Int32.ofNat n ≤ -Int32.ofNat 10) = decide (10 ≤ n)) ∧ (decide (-Int32.ofNat n ≤ Int32.ofNat 10 * -Int32.ofNat 10) = decide (100 ≤ n)) ∧ (decide (-Int32.ofNat n ≤ Int32.ofNat 10 * (Int32.ofNat 10 * -Int32.ofNat 10)) = false) ∧ (decide (-Int32.ofNat 100 < -Int32.ofNat n) = decide (n < 100)) ∧ (decide (-Int32.ofNat 9 ≤ -Int32.ofNat n) = decide (n ≤ 9)) ∧ -Int32.ofNat n / Int32.ofNat 100 = -Int32.ofNat (n / 100) ∧ -Int32.ofNat n / Int32.ofNat 100 * Int32.ofNat 100 - -Int32.ofNat n = Int32.ofNat (n % 100) ∧ - -Int32.ofNat n = Int32.ofNat n := by decide +kernel
  obtain ⟨a1, a2, a3, a4, a5, a6, a7, a8⟩ := h n hn
  exact ⟨by simpa using a1, by simpa using a2, by simpa using a3, by simpa using a4, by simpa using a5, a6, a7, a8⟩
section PC
variable {E : gE} {N b : Nat} {A : FA} {S S0 : GS} {M : MS} {q cap r : Nat} {w u : List Nat}
theorem c_ssz (hN : 1000 ≤ N) {n : Nat} (hn : n < 1000) : fJ17_stringSize E N S (Int32.ofNat n) = some (Int32.ofNat (dec n).length, S) := by
  obtain ⟨a1, a2, a3, -⟩ := ng_a n hn
  have z : ¬ n < 0 := by omega
  obtain ⟨m, rfl⟩ : ∃ m, N = m + 4 := ⟨N - 4, by omega⟩
  have n10 : (-10 : Int32) = -Int32.ofNat 10 := by decide
  simp only [fJ17_stringSize, bJ17_stringSize_0, bJ17_stringSize_11, bJ17_stringSize_16L, bJ17_stringSize_16, n10, pq_lit, dec]
  by_cases y1 : 10 ≤ n
  · by_cases y2 : 100 ≤ n
    · have y3 : ¬ n < 10 := by omega
      have y4 : ¬ n < 100 := by omega
      simp (disch := omega) only [z, a1, a2, a3, y1, y2, y3, y4, List.length_cons, List.length_nil, pq_lit, pq_add, pq_le, pq_lt, pq_eq, pq_en, pq_ne, pq_nle, pq_nlt, pq_len, pq_ltn, pB_z, pB_o, mzt_0, mzt_1, mzt_B, ↓gbd_s, gbd_s, ↓gnn_s, ↓grf_s, eq_self, ↓reduceIte, Nat.reduceEqDiff, Nat.reduceLeDiff, Nat.reduceLT, Nat.reduceMul, Nat.reduceAdd, not_true_eq_false, not_false_eq_true, Bool.false_eq_true]
    · have y3 : ¬ n < 10 := by omega
      have y4 : n < 100 := by omega
      simp (disch := omega) only [z, a1, a2, a3, y1, y2, y3, y4, List.length_cons, List.length_nil, pq_lit, pq_add, pq_le, pq_lt, pq_eq, pq_en, pq_ne, pq_nle, pq_nlt, pq_len, pq_ltn, pB_z, pB_o, mzt_0, mzt_1, mzt_B, ↓gbd_s, gbd_s, ↓gnn_s, ↓grf_s, eq_self, ↓reduceIte, Nat.reduceEqDiff, Nat.reduceLeDiff, Nat.reduceLT, Nat.reduceMul, Nat.reduceAdd, not_true_eq_false, not_false_eq_true, Bool.false_eq_true]
  · have y3 : n < 10 := by omega
    simp (disch := omega) only [z, a1, a2, a3, y1, y3, List.length_cons, List.length_nil, pq_lit, pq_add, pq_le, pq_lt, pq_eq, pq_en, pq_ne, pq_nle, pq_nlt, pq_len, pq_ltn, pB_z, pB_o, mzt_0, mzt_1, mzt_B, ↓gbd_s, gbd_s, ↓gnn_s, ↓grf_s, eq_self, ↓reduceIte, Nat.reduceEqDiff, Nat.reduceLeDiff, Nat.reduceLT, Nat.reduceMul, Nat.reduceAdd, not_true_eq_false, not_false_eq_true, Bool.false_eq_true]
end PC
