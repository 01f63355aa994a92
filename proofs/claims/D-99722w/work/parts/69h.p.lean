/-! pass: a word is spelt -/
def im8 : Nat → Int32
  | 0 => -Int32.ofNat 8
  | m + 1 => Int32.ofNat (8 * m)
theorem im8_d (m : Nat) : Int32.ofNat (8 * m) + -Int32.ofNat 8 = im8 m := by
  match m with
  | 0 => decide
  | m + 1 => rw [← Int32.sub_eq_add_neg, pq_sub (by omega), show 8 * (m + 1) - 8 = 8 * m by omega]; rfl
theorem lg_c : ∀ k, k < 256 → (decide (lg_cmp (Int64.ofNat k) (0 : Int64) = Int32.ofNat 0) = decide (k = 0)) ∧ (Int64.ofNat k).toInt32 = Int32.ofNat k := by decide +kernel
section PH
variable {N : Nat}
theorem m_spL8 {u : List Nat} (hu : Wd u) : ∀ (m q : Nat) (M : MS) (w : List Nat), m ≤ 8 → m < q → TxtIn M w → w.length + (u.reverse.take m).length ≤ 40 → ∃ M', mSm [44, 45] M M' ∧ TxtIn M' (w ++ (u.reverse.take m).reverse) ∧ bX5_spells_3L N q M (Int64.ofNat (encN u)) (im8 m) = some (Int32.ofNat 0, M')
  | m, 0, M, w, _, h, _, _ => by omega
  | 0, q + 1, M, w, _, _, hT, _ => by
    refine ⟨M, mSm.rf, by simpa using hT, ?_⟩
    have e : (-Int32.ofNat 8 < Int32.ofNat 0) = True := by simp
    have n8 : (-8 : Int32) = -Int32.ofNat 8 := by decide
    simp only [bX5_spells_3L, bX5_spells_3, im8, n8, pq_lit]
    simp (disch := omega) only [e, eq_self, ↓reduceIte, Nat.reduceEqDiff, Nat.reduceLeDiff, Nat.reduceLT, Nat.reduceMul, Nat.reduceAdd, not_true_eq_false, not_false_eq_true, Bool.false_eq_true, pq_lit, pq_add, pq_le, pq_lt, pq_eq, pq_en, pq_ne, pq_nle, pq_nlt, pq_len, pq_ltn, pB_z, pB_o, mzt_0, mzt_1, mzt_B]
  | m + 1, q + 1, M, w, hm, hq, hT, hl => by
    have h7 := hu.2.1
    have n8 : (-8 : Int32) = -Int32.ofNat 8 := by decide
    have lt : encN u < 2 ^ 56 := Nat.lt_of_lt_of_le (enc_n hu).2 (Nat.pow_le_pow_right (by omega) (by omega))
    have c256 : ∀ c, c ∈ u → c < 256 := fun c hc => by have := (hu.2.2 c hc).2; omega
    have sb := sp_b lt m (by omega)
    rw [encN_b u m c256] at sb
    have z : ¬ 8 * m < 0 := by omega
    have kl : u.reverse.getD m 0 < 128 := by
      rw [List.getD_eq_getElem?_getD]
      cases e : u.reverse[m]? with
      | none => simp
      | some x => have := (hu.2.2 x (List.mem_reverse.mp (List.mem_of_getElem? e))).2; simp; omega
    obtain ⟨g1, g2⟩ := lg_c (u.reverse.getD m 0) (by omega)
    have g1' : (lg_cmp (Int64.ofNat (u.reverse.getD m 0)) (0 : Int64) = Int32.ofNat 0) = (u.reverse.getD m 0 = 0) := by simpa using g1
    have rl : u.reverse.length = u.length := List.length_reverse
    by_cases y : m < u.length
    · have hx : u.reverse[m]? = some (u.reverse.getD m 0) := by
        rw [List.getD_eq_getElem?_getD, List.getElem?_eq_getElem (by omega)]; rfl
      have nz : ¬ u.reverse.getD m 0 = 0 := by
        have := (hu.2.2 _ (List.mem_reverse.mp (List.mem_of_getElem? hx))).1
        omega
      have tk : u.reverse.take (m + 1) = u.reverse.take m ++ [u.reverse.getD m 0] := by
        rw [List.take_succ, hx]; rfl
      rw [tk] at hl ⊢
      rw [List.length_append, List.length_cons, List.length_nil] at hl
      obtain ⟨M1, a1, a2, a3⟩ := m_lay (N := N) hT (by omega) kl
      obtain ⟨M2, b1, b2, b3⟩ := m_spL8 hu m q M1 (w ++ [u.reverse.getD m 0]) (by omega) (by omega) a2 (by rw [List.length_append, List.length_cons, List.length_nil]; omega)
      refine ⟨M2, a1.tr b1, by rw [List.reverse_append]; simpa using b2, ?_⟩
      simp only [bX5_spells_3L, bX5_spells_3, bX5_spells_31, im8, n8, pq_lit]
      simp (disch := omega) only [z, sb, g1', nz, g2, ↓mbd_h (a3), a3, mbd_s, im8_d, b3, eq_self, ↓reduceIte, Nat.reduceEqDiff, Nat.reduceLeDiff, Nat.reduceLT, Nat.reduceMul, Nat.reduceAdd, not_true_eq_false, not_false_eq_true, Bool.false_eq_true, pq_lit, pq_add, pq_le, pq_lt, pq_eq, pq_en, pq_ne, pq_nle, pq_nlt, pq_len, pq_ltn, pB_z, pB_o, mzt_0, mzt_1, mzt_B]
    · have nz : u.reverse.getD m 0 = 0 := by
        rw [List.getD_eq_getElem?_getD, List.getElem?_eq_none (by omega)]; rfl
      have tk : u.reverse.take (m + 1) = u.reverse.take m := by
        rw [List.take_of_length_le (by omega), List.take_of_length_le (by omega)]
      rw [tk] at hl ⊢
      obtain ⟨M2, b1, b2, b3⟩ := m_spL8 hu m q M w (by omega) (by omega) hT hl
      refine ⟨M2, b1, b2, ?_⟩
      simp only [bX5_spells_3L, bX5_spells_3, bX5_spells_31, im8, n8, pq_lit]
      rw [nz] at sb g1'
      simp (disch := omega) only [z, sb, g1', im8_d, b3, eq_self, ↓reduceIte, Nat.reduceEqDiff, Nat.reduceLeDiff, Nat.reduceLT, Nat.reduceMul, Nat.reduceAdd, not_true_eq_false, not_false_eq_true, Bool.false_eq_true, pq_lit, pq_add, pq_le, pq_lt, pq_eq, pq_en, pq_ne, pq_nle, pq_nlt, pq_len, pq_ltn, pB_z, pB_o, mzt_0, mzt_1, mzt_B]
theorem m_spell (hN : 100 ≤ N) {u w : List Nat} {M : MS} (hu : Wd u) (hT : TxtIn M w) (hl : w.length + u.length ≤ 40) : ∃ M', mSm [44, 45] M M' ∧ TxtIn M' (w ++ u) ∧ fX5_spells N M (enc u) = some (Int32.ofNat 0, M') := by
  have h7 := hu.2.1
  have tk : u.reverse.take 8 = u.reverse := List.take_of_length_le (by rw [List.length_reverse]; omega)
  obtain ⟨M', a1, a2, a3⟩ := m_spL8 (N := N) hu 8 N M w (by omega) (by omega) hT (by rw [tk, List.length_reverse]; omega)
  rw [tk, List.reverse_reverse] at a2
  refine ⟨M', a1, a2, ?_⟩
  rw [(enc_n hu).1]
  exact a3
end PH
