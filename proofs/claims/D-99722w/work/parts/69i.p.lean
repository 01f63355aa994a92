/-! pass: the model's words and number -/
section PI
variable {N : Nat} {M : MS} {w u : List Nat}
theorem m_say (hN : 100 ≤ N) (hu : Wd u) (hT : TxtIn M w) (hl : w.length + 1 + u.length ≤ 40) : ∃ M', mSm [44, 45] M M' ∧ TxtIn M' (w ++ [32] ++ u) ∧ fX5_says N M (enc u) = some (Int32.ofNat 0, M') := by
  obtain ⟨M1, a1, a2, a3⟩ := m_lay (N := N) (c := 32) hT (by have := hu.1; omega) (by omega)
  obtain ⟨M2, b1, b2, b3⟩ := m_spell hN hu a2 (by rw [List.length_append, List.length_cons, List.length_nil]; omega)
  refine ⟨M2, a1.tr b1, b2, ?_⟩
  simp only [fX5_says, bX5_says_0, pq_lit]
  simp (disch := omega) only [↓mbd_h (a3), a3, ↓mbd_h (b3), b3, mbd_s, eq_self, ↓reduceIte, Nat.reduceEqDiff, Nat.reduceLeDiff, Nat.reduceLT, Nat.reduceMul, Nat.reduceAdd, not_true_eq_false, not_false_eq_true, Bool.false_eq_true, pq_lit, pq_add, pq_le, pq_lt, pq_eq, pq_en, pq_ne, pq_nle, pq_nlt, pq_len, pq_ltn, pB_z, pB_o, mzt_0, mzt_1, mzt_B]
theorem m_num {n : Nat} (hn : n < 1000) (hT : TxtIn M w) (hl : w.length + 3 ≤ 40) : ∃ M', mSm [44, 45] M M' ∧ TxtIn M' (w ++ dec n) ∧ (if Int32.ofNat n ≤ Int32.ofNat 99 then bX5_pass_116 N M (Int32.ofNat n) else mbd (fX5_lays N M (Int32.ofNat 48 + Int32.ofNat n / Int32.ofNat 100)) (fun _ S_39 => bX5_pass_116 N S_39 (Int32.ofNat n))) = some (Int32.ofNat (w ++ dec n).length, M') := by
  have d10 : Int32.ofNat n / Int32.ofNat 10 = Int32.ofNat (n / 10) := pq_div (by omega) (by omega)
  have d100 : Int32.ofNat n / Int32.ofNat 100 = Int32.ofNat (n / 100) := pq_div (by omega) (by omega)
  have r1 : Int32.ofNat n - Int32.ofNat n / Int32.ofNat 10 * Int32.ofNat 10 = Int32.ofNat (n % 10) := pq_rem (by omega) (by omega)
  rw [d10] at r1
  have r2 : Int32.ofNat (n / 10) - Int32.ofNat (n / 10) / Int32.ofNat 10 * Int32.ofNat 10 = Int32.ofNat (n / 10 % 10) := pq_rem (by omega) (by omega)
  have last : ∀ (M : MS) (w : List Nat), TxtIn M w → w.length < 40 → ∃ M', mSm [44, 45] M M' ∧ TxtIn M' (w ++ [48 + n % 10]) ∧ bX5_pass_136 N M (Int32.ofNat n) = some (Int32.ofNat (w ++ [48 + n % 10]).length, M') := by
    intro M w hT hw
    obtain ⟨M1, a1, a2, a3⟩ := m_lay (N := N) (c := 48 + n % 10) hT hw (by omega)
    refine ⟨M1, a1, a2, ?_⟩
    have e := a2.1
    simp only [bX5_pass_136, pq_lit]
    simp (disch := omega) only [d10, r1, pq_add, ↓mbd_h (a3), a3, mbd_s, e, eq_self, ↓reduceIte, Nat.reduceEqDiff, Nat.reduceLeDiff, Nat.reduceLT, Nat.reduceMul, Nat.reduceAdd, not_true_eq_false, not_false_eq_true, Bool.false_eq_true, pq_lit, pq_add, pq_le, pq_lt, pq_eq, pq_en, pq_ne, pq_nle, pq_nlt, pq_len, pq_ltn, pB_z, pB_o, mzt_0, mzt_1, mzt_B]
  by_cases y : n < 10
  · have ed : dec n = [48 + n % 10] := by unfold dec; rw [if_pos y]; congr 2; omega
    obtain ⟨M1, a1, a2, a3⟩ := last M w hT (by omega)
    rw [ed]
    refine ⟨M1, a1, a2, ?_⟩
    have z1 : n ≤ 99 := by omega
    have z2 : n ≤ 9 := by omega
    simp only [bX5_pass_116, pq_lit]
    simp (disch := omega) only [z1, z2, a3, eq_self, ↓reduceIte, Nat.reduceEqDiff, Nat.reduceLeDiff, Nat.reduceLT, Nat.reduceMul, Nat.reduceAdd, not_true_eq_false, not_false_eq_true, Bool.false_eq_true, pq_lit, pq_add, pq_le, pq_lt, pq_eq, pq_en, pq_ne, pq_nle, pq_nlt, pq_len, pq_ltn, pB_z, pB_o, mzt_0, mzt_1, mzt_B]
  · have z2 : ¬ n ≤ 9 := by omega
    have mid : ∀ (M : MS) (w : List Nat), TxtIn M w → w.length + 1 < 40 → ∃ M', mSm [44, 45] M M' ∧ TxtIn M' (w ++ [48 + n / 10 % 10] ++ [48 + n % 10]) ∧ bX5_pass_116 N M (Int32.ofNat n) = some (Int32.ofNat (w ++ [48 + n / 10 % 10] ++ [48 + n % 10]).length, M') := by
      intro M w hT hw
      obtain ⟨M1, a1, a2, a3⟩ := m_lay (N := N) (c := 48 + n / 10 % 10) hT (by omega) (by omega)
      obtain ⟨M2, b1, b2, b3⟩ := last M1 _ a2 (by rw [List.length_append, List.length_cons, List.length_nil]; omega)
      refine ⟨M2, a1.tr b1, b2, ?_⟩
      simp only [bX5_pass_116, pq_lit]
      simp (disch := omega) only [z2, d10, r2, pq_add, ↓mbd_h (a3), a3, mbd_s, b3, eq_self, ↓reduceIte, Nat.reduceEqDiff, Nat.reduceLeDiff, Nat.reduceLT, Nat.reduceMul, Nat.reduceAdd, not_true_eq_false, not_false_eq_true, Bool.false_eq_true, pq_lit, pq_add, pq_le, pq_lt, pq_eq, pq_en, pq_ne, pq_nle, pq_nlt, pq_len, pq_ltn, pB_z, pB_o, mzt_0, mzt_1, mzt_B]
    by_cases y2 : n < 100
    · have ed : dec n = [48 + n / 10 % 10, 48 + n % 10] := by unfold dec; rw [if_neg y, if_pos y2]; congr 2; omega
      obtain ⟨M1, a1, a2, a3⟩ := mid M w hT (by omega)
      have ew : w ++ dec n = w ++ [48 + n / 10 % 10] ++ [48 + n % 10] := by rw [ed]; simp
      rw [ew]
      refine ⟨M1, a1, a2, ?_⟩
      have z1 : n ≤ 99 := by omega
      simp (disch := omega) only [z1, a3, eq_self, ↓reduceIte, Nat.reduceEqDiff, Nat.reduceLeDiff, Nat.reduceLT, Nat.reduceMul, Nat.reduceAdd, not_true_eq_false, not_false_eq_true, Bool.false_eq_true, pq_lit, pq_add, pq_le, pq_lt, pq_eq, pq_en, pq_ne, pq_nle, pq_nlt, pq_len, pq_ltn, pB_z, pB_o, mzt_0, mzt_1, mzt_B]
    · have ed : dec n = [48 + n / 100, 48 + n / 10 % 10, 48 + n % 10] := by unfold dec; rw [if_neg y, if_neg y2]; congr 3; omega
      obtain ⟨M1, a1, a2, a3⟩ := m_lay (N := N) (c := 48 + n / 100) hT (by omega) (by omega)
      obtain ⟨M2, b1, b2, b3⟩ := mid M1 _ a2 (by rw [List.length_append, List.length_cons, List.length_nil]; omega)
      have ew : w ++ dec n = w ++ [48 + n / 100] ++ [48 + n / 10 % 10] ++ [48 + n % 10] := by rw [ed]; simp
      rw [ew]
      refine ⟨M2, a1.tr b1, b2, ?_⟩
      have z1 : ¬ n ≤ 99 := by omega
      simp (disch := omega) only [z1, d100, pq_add, ↓mbd_h (a3), a3, mbd_s, b3, eq_self, ↓reduceIte, Nat.reduceEqDiff, Nat.reduceLeDiff, Nat.reduceLT, Nat.reduceMul, Nat.reduceAdd, not_true_eq_false, not_false_eq_true, Bool.false_eq_true, pq_lit, pq_add, pq_le, pq_lt, pq_eq, pq_en, pq_ne, pq_nle, pq_nlt, pq_len, pq_ltn, pB_z, pB_o, mzt_0, mzt_1, mzt_B]
end PI
