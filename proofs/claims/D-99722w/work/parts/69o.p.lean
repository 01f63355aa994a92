/-! the model's next -/
theorem mW_1 (M : MS) (v : Int64) : (mW M v).1 = M.1 := rfl
theorem mW_2 (M : MS) (v : Int64) : (mW M v).2.1 = v := rfl
theorem mW_3 (M : MS) (v : Int64) : (mW M v).2.2 = M.2.2 := rfl
theorem mSm.mW {ks : List Nat} {M M' : MS} (h : mSm ks M M') (v : Int64) : mSm ks M (mW M' v) := h
theorem c64 : ∀ c, c < 256 → (Int32.ofNat c).toInt64 = Int64.ofNat c := by decide +kernel
theorem e864 : (Int32.ofNat 8).toInt64 &&& (63 : Int64) = (8 : Int64) := by decide
theorem enc_a (w : List Nat) (c : Nat) : enc (w ++ [c]) = enc w <<< (8 : Int64) ||| Int64.ofNat c := by
  unfold enc; rw [List.foldl_append]; rfl
theorem n1_lt {a : Nat} (ha : a < 2147483648) : (-Int32.ofNat 1 < Int32.ofNat a) = True := pq_ltn ha
section RD
variable {N n p : Nat} {M : MS}
theorem m_peek (h3 : M.1 3 = Int32.ofNat n) (h4 : M.1 4 = Int32.ofNat p) (hn : n ≤ 940) (hp : p ≤ 2000) : fX5_peek N M = some (if p < n then Int32.ofNat (Bt (M.2.2.1 1) p) else -Int32.ofNat 1, M) := by
  simp only [bX5_peek_28, bX5_peek_0, fX5_peek, pq_lit]
  by_cases e : p < n
  · have e1 : ¬ n ≤ p := by omega
    have be := Bt_e (M.2.2.1 1) p
    simp (disch := omega) only [h3, h4, e1, e, ↓mrd_n, mrd_n, be, eq_self, ↓reduceIte, Nat.reduceEqDiff, Nat.reduceLeDiff, Nat.reduceLT, Nat.reduceMul, Nat.reduceAdd, not_true_eq_false, not_false_eq_true, Bool.false_eq_true, pq_lit, pq_add, pq_le, pq_lt, pq_eq, pq_en, pq_ne, pq_nle, pq_nlt, pq_len, pq_ltn, pB_z, pB_o, mzt_0, mzt_1, mzt_B]
  · have e1 : n ≤ p := by omega
    simp (disch := omega) only [h3, h4, e1, e, eq_self, ↓reduceIte, Nat.reduceEqDiff, Nat.reduceLeDiff, Nat.reduceLT, Nat.reduceMul, Nat.reduceAdd, not_true_eq_false, not_false_eq_true, Bool.false_eq_true, pq_lit, pq_add, pq_le, pq_lt, pq_eq, pq_en, pq_ne, pq_nle, pq_nlt, pq_len, pq_ltn, pB_z, pB_o, mzt_0, mzt_1, mzt_B]
theorem m_iss {c : Nat} (hc : c < 256) : fX5_isSmall N M (Int32.ofNat c) = some (bI (isl c), M) := by
  simp only [bX5_isSmall_17, bX5_isSmall_16, bX5_isSmall_0, fX5_isSmall, pq_lit]
  by_cases e1 : c < 97
  · have e : isl c = false := decide_eq_false (by omega)
    simp (disch := omega) only [e, e1, bI_f, eq_self, ↓reduceIte, Nat.reduceEqDiff, Nat.reduceLeDiff, Nat.reduceLT, Nat.reduceMul, Nat.reduceAdd, not_true_eq_false, not_false_eq_true, Bool.false_eq_true, pq_lit, pq_add, pq_le, pq_lt, pq_eq, pq_en, pq_ne, pq_nle, pq_nlt, pq_len, pq_ltn, pB_z, pB_o, mzt_0, mzt_1, mzt_B]
  · by_cases e2 : 122 < c
    · have e : isl c = false := decide_eq_false (by omega)
      simp (disch := omega) only [e, e1, e2, bI_f, eq_self, ↓reduceIte, Nat.reduceEqDiff, Nat.reduceLeDiff, Nat.reduceLT, Nat.reduceMul, Nat.reduceAdd, not_true_eq_false, not_false_eq_true, Bool.false_eq_true, pq_lit, pq_add, pq_le, pq_lt, pq_eq, pq_en, pq_ne, pq_nle, pq_nlt, pq_len, pq_ltn, pB_z, pB_o, mzt_0, mzt_1, mzt_B]
    · have e : isl c = true := decide_eq_true (by omega)
      simp (disch := omega) only [e, e1, e2, bI_t, eq_self, ↓reduceIte, Nat.reduceEqDiff, Nat.reduceLeDiff, Nat.reduceLT, Nat.reduceMul, Nat.reduceAdd, not_true_eq_false, not_false_eq_true, Bool.false_eq_true, pq_lit, pq_add, pq_le, pq_lt, pq_eq, pq_en, pq_ne, pq_nle, pq_nlt, pq_len, pq_ltn, pB_z, pB_o, mzt_0, mzt_1, mzt_B]
theorem m_isd {c : Nat} (hc : c < 256) : fX5_isDigit N M (Int32.ofNat c) = some (bI (isd c), M) := by
  simp only [bX5_isDigit_17, bX5_isDigit_16, bX5_isDigit_0, fX5_isDigit, pq_lit]
  by_cases e1 : c < 48
  · have e : isd c = false := decide_eq_false (by omega)
    simp (disch := omega) only [e, e1, bI_f, eq_self, ↓reduceIte, Nat.reduceEqDiff, Nat.reduceLeDiff, Nat.reduceLT, Nat.reduceMul, Nat.reduceAdd, not_true_eq_false, not_false_eq_true, Bool.false_eq_true, pq_lit, pq_add, pq_le, pq_lt, pq_eq, pq_en, pq_ne, pq_nle, pq_nlt, pq_len, pq_ltn, pB_z, pB_o, mzt_0, mzt_1, mzt_B]
  · by_cases e2 : 57 < c
    · have e : isd c = false := decide_eq_false (by omega)
      simp (disch := omega) only [e, e1, e2, bI_f, eq_self, ↓reduceIte, Nat.reduceEqDiff, Nat.reduceLeDiff, Nat.reduceLT, Nat.reduceMul, Nat.reduceAdd, not_true_eq_false, not_false_eq_true, Bool.false_eq_true, pq_lit, pq_add, pq_le, pq_lt, pq_eq, pq_en, pq_ne, pq_nle, pq_nlt, pq_len, pq_ltn, pB_z, pB_o, mzt_0, mzt_1, mzt_B]
    · have e : isd c = true := decide_eq_true (by omega)
      simp (disch := omega) only [e, e1, e2, bI_t, eq_self, ↓reduceIte, Nat.reduceEqDiff, Nat.reduceLeDiff, Nat.reduceLT, Nat.reduceMul, Nat.reduceAdd, not_true_eq_false, not_false_eq_true, Bool.false_eq_true, pq_lit, pq_add, pq_le, pq_lt, pq_eq, pq_en, pq_ne, pq_nle, pq_nlt, pq_len, pq_ltn, pB_z, pB_o, mzt_0, mzt_1, mzt_B]
theorem m_iss' : fX5_isSmall N M (-Int32.ofNat 1) = some (bI false, M) := by
  simp only [bX5_isSmall_17, bX5_isSmall_16, bX5_isSmall_0, fX5_isSmall, pq_lit]
  simp (disch := omega) only [n1_lt, bI_f, eq_self, ↓reduceIte, Nat.reduceEqDiff, Nat.reduceLeDiff, Nat.reduceLT, Nat.reduceMul, Nat.reduceAdd, not_true_eq_false, not_false_eq_true, Bool.false_eq_true, pq_lit, pq_add, pq_le, pq_lt, pq_eq, pq_en, pq_ne, pq_nle, pq_nlt, pq_len, pq_ltn, pB_z, pB_o, mzt_0, mzt_1, mzt_B]
theorem m_isd' : fX5_isDigit N M (-Int32.ofNat 1) = some (bI false, M) := by
  simp only [bX5_isDigit_17, bX5_isDigit_16, bX5_isDigit_0, fX5_isDigit, pq_lit]
  simp (disch := omega) only [n1_lt, bI_f, eq_self, ↓reduceIte, Nat.reduceEqDiff, Nat.reduceLeDiff, Nat.reduceLT, Nat.reduceMul, Nat.reduceAdd, not_true_eq_false, not_false_eq_true, Bool.false_eq_true, pq_lit, pq_add, pq_le, pq_lt, pq_eq, pq_en, pq_ne, pq_nle, pq_nlt, pq_len, pq_ltn, pB_z, pB_o, mzt_0, mzt_1, mzt_B]
noncomputable def nxT (N : Nat) (S : MS) : Option (Int32 × MS) :=
  mpt S 12 (S.1 4) (fun S_9 =>
      mpt S_9 13 (0 : Int32) (fun S_10 =>
      if (S_10.1 3) ≤ (S_10.1 5) then
        bX5_next_80 N S_10
      else
        if (S_10.1 4) < (S_10.1 5) then
          bX5_next_80 N S_10
        else
          mpt S_10 12 (S_10.1 5) (fun S_13 =>
          mpt S_13 11 (4 : Int32) (fun S_14 =>
          some (0, S_14)))))
theorem m_skp (hn : n ≤ 940) : ∀ (k p m : Nat) (M : MS), M.1 3 = Int32.ofNat n → M.1 4 = Int32.ofNat p → p + k = n → k < m → bX5_next_0L N m M = nxT N (mF M 4 (Int32.ofNat (skp (Bt (M.2.2.1 1)) k p)))
  | k, p, 0, M, h3, h4, h1, h2 => by omega
  | 0, p, m + 1, M, h3, h4, h1, h2 => by
    have pk := m_peek (N := N) h3 h4 hn (by omega)
    rw [if_neg (by omega)] at pk
    rw [show skp (Bt (M.2.2.1 1)) 0 p = p from rfl, ← h4, mF_id]
    show bX5_next_0 N (bX5_next_0L N m) M = _
    unfold bX5_next_0 nxT
    simp only [pq_lit]
    simp (disch := omega) only [↓mbd_h (pk), pk, eq_self, ↓reduceIte, Nat.reduceEqDiff, Nat.reduceLeDiff, Nat.reduceLT, Nat.reduceMul, Nat.reduceAdd, not_true_eq_false, not_false_eq_true, Bool.false_eq_true, pq_lit, pq_add, pq_le, pq_lt, pq_eq, pq_en, pq_ne, pq_nle, pq_nlt, pq_len, pq_ltn, pB_z, pB_o, mzt_0, mzt_1, mzt_B]
  | k + 1, p, m + 1, M, h3, h4, h1, h2 => by
    have pk := m_peek (N := N) h3 h4 hn (by omega)
    rw [if_pos (show p < n by omega)] at pk
    have hB := Bt_lt (M.2.2.1 1) p
    have ih := m_skp hn k (p + 1) m (mF M 4 (Int32.ofNat (p + 1))) ((mF_ne _ _ (by omega)).trans h3) (mF_e _ _ _) (by omega) (by omega)
    rw [mF_mF, mF_a] at ih
    by_cases e2 : Bt (M.2.2.1 1) p = 32
    · rw [show skp (Bt (M.2.2.1 1)) (k + 1) p = skp (Bt (M.2.2.1 1)) k (p + 1) from if_pos (Or.inl e2), ← ih]
      show bX5_next_0 N (bX5_next_0L N m) M = _
      simp only [bX5_next_0, bX5_next_18, pq_lit]
      simp (disch := omega) only [↓mbd_h (pk), pk, e2, ↓mpt, h4, eq_self, ↓reduceIte, Nat.reduceEqDiff, Nat.reduceLeDiff, Nat.reduceLT, Nat.reduceMul, Nat.reduceAdd, not_true_eq_false, not_false_eq_true, Bool.false_eq_true, pq_lit, pq_add, pq_le, pq_lt, pq_eq, pq_en, pq_ne, pq_nle, pq_nlt, pq_len, pq_ltn, pB_z, pB_o, mzt_0, mzt_1, mzt_B]
    · by_cases e3 : Bt (M.2.2.1 1) p = 10
      · rw [show skp (Bt (M.2.2.1 1)) (k + 1) p = skp (Bt (M.2.2.1 1)) k (p + 1) from if_pos (Or.inr e3), ← ih]
        show bX5_next_0 N (bX5_next_0L N m) M = _
        simp only [bX5_next_0, bX5_next_18, pq_lit]
        simp (disch := omega) only [↓mbd_h (pk), pk, e3, ↓mpt, h4, eq_self, ↓reduceIte, Nat.reduceEqDiff, Nat.reduceLeDiff, Nat.reduceLT, Nat.reduceMul, Nat.reduceAdd, not_true_eq_false, not_false_eq_true, Bool.false_eq_true, pq_lit, pq_add, pq_le, pq_lt, pq_eq, pq_en, pq_ne, pq_nle, pq_nlt, pq_len, pq_ltn, pB_z, pB_o, mzt_0, mzt_1, mzt_B]
      · rw [show skp (Bt (M.2.2.1 1)) (k + 1) p = p from if_neg (fun h => h.elim e2 e3), ← h4, mF_id]
        show bX5_next_0 N (bX5_next_0L N m) M = _
        unfold bX5_next_0 nxT
        simp only [pq_lit]
        simp (disch := omega) only [↓mbd_h (pk), pk, e2, e3, eq_self, ↓reduceIte, Nat.reduceEqDiff, Nat.reduceLeDiff, Nat.reduceLT, Nat.reduceMul, Nat.reduceAdd, not_true_eq_false, not_false_eq_true, Bool.false_eq_true, pq_lit, pq_add, pq_le, pq_lt, pq_eq, pq_en, pq_ne, pq_nle, pq_nlt, pq_len, pq_ltn, pB_z, pB_o, mzt_0, mzt_1, mzt_B]
/-- one letter or digit more -/
theorem m_rs (hn : n ≤ 940) {j v : Nat} {g sm : Bool} {w : List Nat} (h3 : M.1 3 = Int32.ofNat n) (h4 : M.1 4 = Int32.ofNat p) (h13 : M.1 13 = Int32.ofNat j) (h14 : M.1 14 = Int32.ofNat v) (hw : M.2.1 = enc w) (hp : p < n) (hj : j ≤ 1000) (hc : isl (Bt (M.2.2.1 1) p) = true ∨ isd (Bt (M.2.2.1 1) p) = true) (K : MS → Int32 → Int32 → Option (Int32 × MS)) : ∃ M1, mSm [4, 13, 14] M M1 ∧ M1.1 4 = Int32.ofNat (p + 1) ∧ M1.1 13 = Int32.ofNat (j + 1) ∧ M1.1 14 = Int32.ofNat (rn1 sm (Bt (M.2.2.1 1) p) (p, j, g, w, v)).2.2.2.2 ∧ M1.2.1 = enc (rn1 sm (Bt (M.2.2.1 1) p) (p, j, g, w, v)).2.2.2.1 ∧ bX5_next_181 N K M (bI sm) (bI g) = K M1 (bI sm) (bI (rn1 sm (Bt (M.2.2.1 1) p) (p, j, g, w, v)).2.2.1) := by
  obtain ⟨c, hcc⟩ : ∃ c, c = Bt (M.2.2.1 1) p := ⟨_, rfl⟩
  have c256 : c < 256 := by rw [hcc]; exact Bt_lt _ _
  have pk := m_peek (N := N) h3 h4 hn (by omega)
  rw [if_pos hp, ← hcc] at pk
  rw [← hcc] at hc ⊢
  have c8 : c ≤ 122 ∧ 48 ≤ c := by
    rcases hc with hc | hc <;> have := of_decide_eq_true hc <;> omega
  have il := m_iss (N := N) (M := M) c256
  have id := m_isd (N := N) (M := M) c256
  obtain ⟨M2, hM2⟩ : ∃ M2, M2 = if j < 7 then mW M (enc (w ++ [c])) else M := ⟨_, rfl⟩
  have t1 : M2.1 = M.1 := by rw [hM2]; split <;> rfl
  have t2 : M2.2.2 = M.2.2 := by rw [hM2]; split <;> rfl
  have t3 : M2.2.1 = enc (if j < 7 then w ++ [c] else w) := by
    rw [hM2]; split
    · rfl
    · exact hw
  have sm2 : mSm [4, 13, 14] M M2 := ⟨by rw [t2], fun k _ => ⟨by rw [t1], by rw [t2]⟩⟩
  have pk2 := m_peek (N := N) (M := M2) (by rw [t1]; exact h3) (by rw [t1]; exact h4) hn (by omega)
  rw [if_pos hp, t2, ← hcc] at pk2
  have g4 : M2.1 4 = Int32.ofNat p := by rw [t1]; exact h4
  have g13 : M2.1 13 = Int32.ofNat j := by rw [t1]; exact h13
  have g14 : M2.1 14 = Int32.ofNat v := by rw [t1]; exact h14
  obtain ⟨M3, hM3⟩ : ∃ M3, M3 = if j < 3 then mF M2 14 (Int32.ofNat (10 * v + c - 48)) else M2 := ⟨_, rfl⟩
  have sm3 : mSm [4, 13, 14] M M3 := by
    rw [hM3]; split
    · exact sm2.mF _ (by decide)
    · exact sm2
  have u4 : M3.1 4 = Int32.ofNat p := by
    rw [hM3]; split
    · rw [mF_ne _ _ (by omega)]; exact g4
    · exact g4
  have u13 : M3.1 13 = Int32.ofNat j := by
    rw [hM3]; split
    · rw [mF_ne _ _ (by omega)]; exact g13
    · exact g13
  have u14 : M3.1 14 = Int32.ofNat (if j < 3 then 10 * v + c - 48 else v) := by
    rw [hM3]; split
    · exact mF_e _ _ _
    · exact g14
  have uw : M3.2.1 = enc (if j < 7 then w ++ [c] else w) := by
    rw [hM3]; split <;> exact t3
  have k275 : ∀ x3, bX5_next_275 N K M3 (bI sm) x3 = K (mF (mF M3 13 (Int32.ofNat (j + 1))) 4 (Int32.ofNat (p + 1))) (bI sm) x3 := by
    intro x3
    simp only [bX5_next_275, pq_lit]
    simp (disch := omega) only [↓mpt, mF_ne, u13, u4, eq_self, ↓reduceIte, Nat.reduceEqDiff, Nat.reduceLeDiff, Nat.reduceLT, Nat.reduceMul, Nat.reduceAdd, not_true_eq_false, not_false_eq_true, Bool.false_eq_true, pq_lit, pq_add, pq_le, pq_lt, pq_eq, pq_en, pq_ne, pq_nle, pq_nlt, pq_len, pq_ltn, pB_z, pB_o, mzt_0, mzt_1, mzt_B]
  have k248 : ∀ x3, bX5_next_248 N K M2 (bI sm) x3 = K (mF (mF M3 13 (Int32.ofNat (j + 1))) 4 (Int32.ofNat (p + 1))) (bI sm) x3 := by
    intro x3
    rw [← k275]
    by_cases e3 : j < 3
    · have e3' : ¬ 3 ≤ j := by omega
      have ev : Int32.ofNat (10 * v + c) - Int32.ofNat 48 = Int32.ofNat (10 * v + c - 48) := pq_sub (by omega)
      rw [if_pos e3] at hM3
      simp only [bX5_next_248, pq_lit]
      simp (disch := omega) only [g13, e3', ↓mbd_h (pk2), pk2, g14, pq_mul, ↓mpt, ev, ← hM3, eq_self, ↓reduceIte, Nat.reduceEqDiff, Nat.reduceLeDiff, Nat.reduceLT, Nat.reduceMul, Nat.reduceAdd, not_true_eq_false, not_false_eq_true, Bool.false_eq_true, pq_lit, pq_add, pq_le, pq_lt, pq_eq, pq_en, pq_ne, pq_nle, pq_nlt, pq_len, pq_ltn, pB_z, pB_o, mzt_0, mzt_1, mzt_B]
    · have e3' : 3 ≤ j := by omega
      rw [if_neg e3] at hM3
      simp only [bX5_next_248, pq_lit]
      simp (disch := omega) only [g13, e3', hM3, eq_self, ↓reduceIte, Nat.reduceEqDiff, Nat.reduceLeDiff, Nat.reduceLT, Nat.reduceMul, Nat.reduceAdd, not_true_eq_false, not_false_eq_true, Bool.false_eq_true, pq_lit, pq_add, pq_le, pq_lt, pq_eq, pq_en, pq_ne, pq_nle, pq_nlt, pq_len, pq_ltn, pB_z, pB_o, mzt_0, mzt_1, mzt_B]
  have k221 : ∀ x3, bX5_next_221 N K M (bI sm) x3 = K (mF (mF M3 13 (Int32.ofNat (j + 1))) 4 (Int32.ofNat (p + 1))) (bI sm) x3 := by
    intro x3
    rw [← k248]
    by_cases e7 : j < 7
    · have e7' : ¬ 7 ≤ j := by omega
      rw [if_pos e7, enc_a] at hM2
      simp only [bX5_next_221, pq_lit]
      simp (disch := omega) only [h13, e7', ↓mbd_h (pk), pk, ↓mptW, hw, e864, c64 c c256, ← hM2, eq_self, ↓reduceIte, Nat.reduceEqDiff, Nat.reduceLeDiff, Nat.reduceLT, Nat.reduceMul, Nat.reduceAdd, not_true_eq_false, not_false_eq_true, Bool.false_eq_true, pq_lit, pq_add, pq_le, pq_lt, pq_eq, pq_en, pq_ne, pq_nle, pq_nlt, pq_len, pq_ltn, pB_z, pB_o, mzt_0, mzt_1, mzt_B]
    · have e7' : 7 ≤ j := by omega
      rw [if_neg e7] at hM2
      simp only [bX5_next_221, pq_lit]
      simp (disch := omega) only [h13, e7', hM2, eq_self, ↓reduceIte, Nat.reduceEqDiff, Nat.reduceLeDiff, Nat.reduceLT, Nat.reduceMul, Nat.reduceAdd, not_true_eq_false, not_false_eq_true, Bool.false_eq_true, pq_lit, pq_add, pq_le, pq_lt, pq_eq, pq_en, pq_ne, pq_nle, pq_nlt, pq_len, pq_ltn, pB_z, pB_o, mzt_0, mzt_1, mzt_B]
  have k201 : bX5_next_201 N K M (bI sm) (bI g) = K (mF (mF M3 13 (Int32.ofNat (j + 1))) 4 (Int32.ofNat (p + 1))) (bI sm) (bI (g && (isl c == sm))) := by
    rw [← k221]
    cases g with
    | false =>
      simp only [bX5_next_201, bX5_next_220, pq_lit, Bool.false_and, bI_f]
      simp (disch := omega) only [eq_self, ↓reduceIte, Nat.reduceEqDiff, Nat.reduceLeDiff, Nat.reduceLT, Nat.reduceMul, Nat.reduceAdd, not_true_eq_false, not_false_eq_true, Bool.false_eq_true, pq_lit, pq_add, pq_le, pq_lt, pq_eq, pq_en, pq_ne, pq_nle, pq_nlt, pq_len, pq_ltn, pB_z, pB_o, mzt_0, mzt_1, mzt_B]
    | true =>
      cases e : isl c <;> cases sm <;> rw [e] at il
      all_goals
        simp only [bI_f, bI_t] at il ⊢
        simp only [bX5_next_201, bX5_next_220, pq_lit, Bool.true_and, Bool.and_true, Bool.and_false, beq_self_eq_true, bI_f, bI_t, show (true == false) = false from rfl, show (false == true) = false from rfl]
        simp (disch := omega) only [↓mbd_h (pk), pk, ↓mbd_h (il), il, eq_self, ↓reduceIte, Nat.reduceEqDiff, Nat.reduceLeDiff, Nat.reduceLT, Nat.reduceMul, Nat.reduceAdd, not_true_eq_false, not_false_eq_true, Bool.false_eq_true, pq_lit, pq_add, pq_le, pq_lt, pq_eq, pq_en, pq_ne, pq_nle, pq_nlt, pq_len, pq_ltn, pB_z, pB_o, mzt_0, mzt_1, mzt_B]
  refine ⟨mF (mF M3 13 (Int32.ofNat (j + 1))) 4 (Int32.ofNat (p + 1)), (sm3.mF _ (by decide)).mF _ (by decide), mF_e _ _ _, ?_, ?_, ?_, ?_⟩
  · rw [mF_ne _ _ (by omega)]; exact mF_e _ _ _
  · rw [mF_ne _ _ (by omega), mF_ne _ _ (by omega)]; exact u14
  · rw [mF_w, mF_w]; exact uw
  · show _ = K _ (bI sm) (bI (g && (isl c == sm)))
    rw [← k201]
    cases e : isl c with
    | true =>
      rw [e] at il
      simp only [bX5_next_181, pq_lit]
      simp (disch := omega) only [↓mbd_h (pk), pk, ↓mbd_h (il), il, bI_t, eq_self, ↓reduceIte, Nat.reduceEqDiff, Nat.reduceLeDiff, Nat.reduceLT, Nat.reduceMul, Nat.reduceAdd, not_true_eq_false, not_false_eq_true, Bool.false_eq_true, pq_lit, pq_add, pq_le, pq_lt, pq_eq, pq_en, pq_ne, pq_nle, pq_nlt, pq_len, pq_ltn, pB_z, pB_o, mzt_0, mzt_1, mzt_B]
    | false =>
      have e2 : isd c = true := by rcases hc with h | h; (rw [e] at h; cases h); exact h
      rw [e] at il
      rw [e2] at id
      simp only [bX5_next_181, pq_lit]
      simp (disch := omega) only [↓mbd_h (pk), pk, ↓mbd_h (il), il, ↓mbd_h (id), id, bI_t, bI_f, eq_self, ↓reduceIte, Nat.reduceEqDiff, Nat.reduceLeDiff, Nat.reduceLT, Nat.reduceMul, Nat.reduceAdd, not_true_eq_false, not_false_eq_true, Bool.false_eq_true, pq_lit, pq_add, pq_le, pq_lt, pq_eq, pq_en, pq_ne, pq_nle, pq_nlt, pq_len, pq_ltn, pB_z, pB_o, mzt_0, mzt_1, mzt_B]
theorem m_run (hn : n ≤ 940) {sm : Bool} : ∀ (k p m j v : Nat) (g : Bool) (w : List Nat) (M : MS), M.1 3 = Int32.ofNat n → M.1 4 = Int32.ofNat p → M.1 13 = Int32.ofNat j → M.1 14 = Int32.ofNat v → M.2.1 = enc w → p + k = n → j ≤ p → rnP sm (p, j, g, w, v) → k < m → ∃ M1, mSm [4, 11, 13, 14] M M1 ∧ M1.1 4 = Int32.ofNat (rnS (Bt (M.2.2.1 1)) sm k (p, j, g, w, v)).1 ∧ M1.1 14 = Int32.ofNat (rnS (Bt (M.2.2.1 1)) sm k (p, j, g, w, v)).2.2.2.2 ∧ M1.2.1 = enc (rnS (Bt (M.2.2.1 1)) sm k (p, j, g, w, v)).2.2.2.1 ∧ M1.1 11 = Int32.ofNat (kdM sm (rnS (Bt (M.2.2.1 1)) sm k (p, j, g, w, v)).2.2.1 (rnS (Bt (M.2.2.1 1)) sm k (p, j, g, w, v)).2.1) ∧ bX5_next_181L N m M (bI sm) (bI g) = some (Int32.ofNat 0, M1)
  | k, p, 0, j, v, g, w, M, h3, h4, h13, h14, hw, h1, hj, hr, h2 => by omega
  | k, p, m + 1, j, v, g, w, M, h3, h4, h13, h14, hw, h1, hj, hr, h2 => by
    by_cases hx : k ≠ 0 ∧ (isl (Bt (M.2.2.1 1) p) = true ∨ isd (Bt (M.2.2.1 1) p) = true)
    · obtain ⟨k, rfl⟩ : ∃ k', k = k' + 1 := ⟨k - 1, by omega⟩
      obtain ⟨M1, s1, a4, a13, a14, aw, e1⟩ := m_rs (N := N) (sm := sm) (g := g) hn h3 h4 h13 h14 hw (by omega) (by omega) hx.2 (bX5_next_181L N m)
      have t1 : M1.2.2.1 1 = M.2.2.1 1 := (s1.2 1 (by decide)).2
      obtain ⟨M2, s2, b4, b14, bw, b11, e2⟩ := m_run hn k (p + 1) m (j + 1) _ (rn1 sm (Bt (M.2.2.1 1) p) (p, j, g, w, v)).2.2.1 (rn1 sm (Bt (M.2.2.1 1) p) (p, j, g, w, v)).2.2.2.1 M1 ((s1.2 3 (by decide)).1.trans h3) a4 a13 a14 aw (by omega) (by omega) (rn1_p hr hx.2) (by omega)
      rw [t1] at b4 b14 bw b11
      have er : rnS (Bt (M.2.2.1 1)) sm (k + 1) (p, j, g, w, v) = rnS (Bt (M.2.2.1 1)) sm k (rn1 sm (Bt (M.2.2.1 1) p) (p, j, g, w, v)) := if_pos hx.2
      rw [er]
      refine ⟨M2, (s1.su (by decide)).tr s2, b4, b14, bw, b11, ?_⟩
      show bX5_next_181 N (bX5_next_181L N m) M (bI sm) (bI g) = _
      rw [e1, e2]
    · have er : rnS (Bt (M.2.2.1 1)) sm k (p, j, g, w, v) = (p, j, g, w, v) := by
        cases k with
        | zero => rfl
        | succ k => exact if_neg (fun q => hx ⟨by omega, q⟩)
      rw [er]
      have pk := m_peek (N := N) h3 h4 hn (by omega)
      have ex : bX5_next_181 N (bX5_next_181L N m) M (bI sm) (bI g) = some (Int32.ofNat 0, mF M 11 (Int32.ofNat (kdM sm g j))) := by
        have tl : (if bI g = Int32.ofNat 0 then bX5_next_320 N M else if bI sm = Int32.ofNat 0 then bX5_next_317 N M (bI sm) (M.1 13) (Int32.ofNat 3) else bX5_next_317 N M (bI sm) (M.1 13) (Int32.ofNat 7)) = some (Int32.ofNat 0, mF M 11 (Int32.ofNat (kdM sm g j))) := by
          unfold kdM
          cases g with
          | false =>
            simp only [bX5_next_320, bX5_next_333, pq_lit]
            simp (disch := omega) only [bI_f, ↓mpt, eq_self, ↓reduceIte, Nat.reduceEqDiff, Nat.reduceLeDiff, Nat.reduceLT, Nat.reduceMul, Nat.reduceAdd, not_true_eq_false, not_false_eq_true, Bool.false_eq_true, pq_lit, pq_add, pq_le, pq_lt, pq_eq, pq_en, pq_ne, pq_nle, pq_nlt, pq_len, pq_ltn, pB_z, pB_o, mzt_0, mzt_1, mzt_B, false_and]
          | true =>
            cases sm with
            | false =>
              by_cases e3 : j ≤ 3
              · simp only [bX5_next_317, bX5_next_333, pq_lit]
                simp (disch := omega) only [bI_f, bI_t, h13, e3, ↓mpt, eq_self, ↓reduceIte, Nat.reduceEqDiff, Nat.reduceLeDiff, Nat.reduceLT, Nat.reduceMul, Nat.reduceAdd, not_true_eq_false, not_false_eq_true, Bool.false_eq_true, pq_lit, pq_add, pq_le, pq_lt, pq_eq, pq_en, pq_ne, pq_nle, pq_nlt, pq_len, pq_ltn, pB_z, pB_o, mzt_0, mzt_1, mzt_B, true_and]
              · simp only [bX5_next_317, bX5_next_320, bX5_next_333, pq_lit]
                simp (disch := omega) only [bI_f, bI_t, h13, e3, ↓mpt, eq_self, ↓reduceIte, Nat.reduceEqDiff, Nat.reduceLeDiff, Nat.reduceLT, Nat.reduceMul, Nat.reduceAdd, not_true_eq_false, not_false_eq_true, Bool.false_eq_true, pq_lit, pq_add, pq_le, pq_lt, pq_eq, pq_en, pq_ne, pq_nle, pq_nlt, pq_len, pq_ltn, pB_z, pB_o, mzt_0, mzt_1, mzt_B, true_and]
            | true =>
              by_cases e3 : j ≤ 7
              · simp only [bX5_next_317, bX5_next_333, pq_lit]
                simp (disch := omega) only [bI_f, bI_t, h13, e3, ↓mpt, eq_self, ↓reduceIte, Nat.reduceEqDiff, Nat.reduceLeDiff, Nat.reduceLT, Nat.reduceMul, Nat.reduceAdd, not_true_eq_false, not_false_eq_true, Bool.false_eq_true, pq_lit, pq_add, pq_le, pq_lt, pq_eq, pq_en, pq_ne, pq_nle, pq_nlt, pq_len, pq_ltn, pB_z, pB_o, mzt_0, mzt_1, mzt_B, true_and]
              · simp only [bX5_next_317, bX5_next_320, bX5_next_333, pq_lit]
                simp (disch := omega) only [bI_f, bI_t, h13, e3, ↓mpt, eq_self, ↓reduceIte, Nat.reduceEqDiff, Nat.reduceLeDiff, Nat.reduceLT, Nat.reduceMul, Nat.reduceAdd, not_true_eq_false, not_false_eq_true, Bool.false_eq_true, pq_lit, pq_add, pq_le, pq_lt, pq_eq, pq_en, pq_ne, pq_nle, pq_nlt, pq_len, pq_ltn, pB_z, pB_o, mzt_0, mzt_1, mzt_B, true_and]
        rw [← tl]
        by_cases e : p < n
        · rw [if_pos e] at pk
          have c256 := Bt_lt (M.2.2.1 1) p
          have il := m_iss (N := N) (M := M) c256
          have id := m_isd (N := N) (M := M) c256
          have : ¬ (isl (Bt (M.2.2.1 1) p) = true ∨ isd (Bt (M.2.2.1 1) p) = true) := fun q => hx ⟨by omega, q⟩
          have nl : isl (Bt (M.2.2.1 1) p) = false ∧ isd (Bt (M.2.2.1 1) p) = false := by cases h1 : isl (Bt (M.2.2.1 1) p) <;> cases h2 : isd (Bt (M.2.2.1 1) p) <;> simp_all
          rw [nl.1] at il
          rw [nl.2] at id
          simp only [bX5_next_181, pq_lit]
          simp (disch := omega) only [↓mbd_h (pk), pk, ↓mbd_h (il), il, ↓mbd_h (id), id, bI_f, eq_self, ↓reduceIte, Nat.reduceEqDiff, Nat.reduceLeDiff, Nat.reduceLT, Nat.reduceMul, Nat.reduceAdd, not_true_eq_false, not_false_eq_true, Bool.false_eq_true, pq_lit, pq_add, pq_le, pq_lt, pq_eq, pq_en, pq_ne, pq_nle, pq_nlt, pq_len, pq_ltn, pB_z, pB_o, mzt_0, mzt_1, mzt_B]
        · rw [if_neg e] at pk
          simp only [bX5_next_181, pq_lit]
          simp (disch := omega) only [↓mbd_h (pk), pk, ↓mbd_h (m_iss'), m_iss', ↓mbd_h (m_isd'), m_isd', bI_f, eq_self, ↓reduceIte, Nat.reduceEqDiff, Nat.reduceLeDiff, Nat.reduceLT, Nat.reduceMul, Nat.reduceAdd, not_true_eq_false, not_false_eq_true, Bool.false_eq_true, pq_lit, pq_add, pq_le, pq_lt, pq_eq, pq_en, pq_ne, pq_nle, pq_nlt, pq_len, pq_ltn, pB_z, pB_o, mzt_0, mzt_1, mzt_B]
      refine ⟨mF M 11 (Int32.ofNat (kdM sm g j)), mSm.rf.mF _ (by decide), (mF_ne _ _ (by omega)).trans h4, (mF_ne _ _ (by omega)).trans h14, hw, mF_e _ _ _, ex⟩
/-! next as a whole, by what comes -/
def sgm (c : Nat) : Nat := if c = 59 ∨ c = 40 ∨ c = 41 ∨ (60 ≤ c ∧ c ≤ 62) then 3 else 4
variable {lim p1 : Nat}
theorem m_nx1 (hn : n ≤ 940) (hN : 1000 ≤ N) (hl : lim ≤ 940) (h3 : M.1 3 = Int32.ofNat n) (h4 : M.1 4 = Int32.ofNat p) (h5 : M.1 5 = Int32.ofNat lim) (hp : p ≤ n) (e1 : p1 = skp (Bt (M.2.2.1 1)) (n - p) p) (hm : lim < n ∧ lim ≤ p1) : ∃ M', mSm [4, 11, 12, 13, 14] M M' ∧ M'.1 4 = Int32.ofNat p1 ∧ M'.1 11 = Int32.ofNat 4 ∧ M'.1 12 = Int32.ofNat lim ∧ fX5_next N M = some (Int32.ofNat 0, M') := by
  have sk := m_skp (N := N) hn (n - p) p N M h3 h4 (by omega) (by omega)
  rw [← e1] at sk
  have p1n := (skp_p (Bt (M.2.2.1 1)) (n - p) p).2.1
  rw [← e1] at p1n
  have z1 : ¬ n ≤ lim := by omega
  have z2 : ¬ p1 < lim := by omega
  refine ⟨mF (mF (mF (mF (mF M 4 (Int32.ofNat p1)) 12 (Int32.ofNat p1)) 13 (Int32.ofNat 0)) 12 (Int32.ofNat lim)) 11 (Int32.ofNat 4), ((((mSm.rf.mF _ (by decide)).mF _ (by decide)).mF _ (by decide)).mF _ (by decide)).mF _ (by decide), rfl, rfl, rfl, ?_⟩
  refine Eq.trans (b := nxT N (mF M 4 (Int32.ofNat p1))) sk ?_
  simp only [nxT, pq_lit]
  simp (disch := omega) only [↓mpt, mF_e, mF_ne, h3, h5, z1, z2, eq_self, ↓reduceIte, Nat.reduceEqDiff, Nat.reduceLeDiff, Nat.reduceLT, Nat.reduceMul, Nat.reduceAdd, not_true_eq_false, not_false_eq_true, Bool.false_eq_true, pq_lit, pq_add, pq_le, pq_lt, pq_eq, pq_en, pq_ne, pq_nle, pq_nlt, pq_len, pq_ltn, pB_z, pB_o, mzt_0, mzt_1, mzt_B]
theorem m_nxH (hn : n ≤ 940) (hN : 1000 ≤ N) (hl : lim ≤ 940) (h3 : M.1 3 = Int32.ofNat n) (h4 : M.1 4 = Int32.ofNat p) (h5 : M.1 5 = Int32.ofNat lim) (hp : p ≤ n) (e1 : p1 = skp (Bt (M.2.2.1 1)) (n - p) p) (hm : ¬ (lim < n ∧ lim ≤ p1)) : fX5_next N M = bX5_next_80 N (mF (mF (mF M 4 (Int32.ofNat p1)) 12 (Int32.ofNat p1)) 13 (Int32.ofNat 0)) := by
  have sk := m_skp (N := N) hn (n - p) p N M h3 h4 (by omega) (by omega)
  rw [← e1] at sk
  have p1n := (skp_p (Bt (M.2.2.1 1)) (n - p) p).2.1
  rw [← e1] at p1n
  refine Eq.trans (b := nxT N (mF M 4 (Int32.ofNat p1))) sk ?_
  by_cases z1 : n ≤ lim
  · simp only [nxT, pq_lit]
    simp (disch := omega) only [↓mpt, mF_e, mF_ne, h3, h5, z1, eq_self, ↓reduceIte, Nat.reduceEqDiff, Nat.reduceLeDiff, Nat.reduceLT, Nat.reduceMul, Nat.reduceAdd, not_true_eq_false, not_false_eq_true, Bool.false_eq_true, pq_lit, pq_add, pq_le, pq_lt, pq_eq, pq_en, pq_ne, pq_nle, pq_nlt, pq_len, pq_ltn, pB_z, pB_o, mzt_0, mzt_1, mzt_B]
  · have z2 : p1 < lim := by omega
    simp only [nxT, pq_lit]
    simp (disch := omega) only [↓mpt, mF_e, mF_ne, h3, h5, z1, z2, eq_self, ↓reduceIte, Nat.reduceEqDiff, Nat.reduceLeDiff, Nat.reduceLT, Nat.reduceMul, Nat.reduceAdd, not_true_eq_false, not_false_eq_true, Bool.false_eq_true, pq_lit, pq_add, pq_le, pq_lt, pq_eq, pq_en, pq_ne, pq_nle, pq_nlt, pq_len, pq_ltn, pB_z, pB_o, mzt_0, mzt_1, mzt_B]
theorem m_nx0 (hn : n ≤ 940) (hN : 1000 ≤ N) (hl : lim ≤ 940) (h3 : M.1 3 = Int32.ofNat n) (h4 : M.1 4 = Int32.ofNat p) (h5 : M.1 5 = Int32.ofNat lim) (hp : p ≤ n) (e1 : p1 = skp (Bt (M.2.2.1 1)) (n - p) p) (hm : ¬ (lim < n ∧ lim ≤ p1)) (hs : n ≤ p1) : ∃ M', mSm [4, 11, 12, 13, 14] M M' ∧ M'.1 4 = Int32.ofNat p1 ∧ M'.1 11 = Int32.ofNat 0 ∧ M'.1 12 = Int32.ofNat p1 ∧ fX5_next N M = some (Int32.ofNat 0, M') := by
  have p1n := (skp_p (Bt (M.2.2.1 1)) (n - p) p).2.1
  rw [← e1] at p1n
  obtain ⟨M0, hM0⟩ : ∃ M0, M0 = mF (mF (mF M 4 (Int32.ofNat p1)) 12 (Int32.ofNat p1)) 13 (Int32.ofNat 0) := ⟨_, rfl⟩
  have sm0 : mSm [4, 11, 12, 13, 14] M M0 := by rw [hM0]; exact ((mSm.rf.mF _ (by decide)).mF _ (by decide)).mF _ (by decide)
  have g4 : M0.1 4 = Int32.ofNat p1 := by rw [hM0]; rfl
  have g12 : M0.1 12 = Int32.ofNat p1 := by rw [hM0]; rfl
  have pk := m_peek (N := N) ((sm0.2 3 (by decide)).1.trans h3) g4 hn (by omega)
  rw [if_neg (by omega)] at pk
  have z : (Int32.ofNat 0 ≤ -Int32.ofNat 1) = False := by simp
  refine ⟨mF M0 11 (Int32.ofNat 0), sm0.mF _ (by decide), (mF_ne _ _ (by omega)).trans g4, mF_e _ _ _, (mF_ne _ _ (by omega)).trans g12, ?_⟩
  rw [m_nxH hn hN hl h3 h4 h5 hp e1 hm, ← hM0]
  simp only [bX5_next_80, pq_lit]
  simp (disch := omega) only [↓mbd_h (pk), pk, z, ↓mpt, eq_self, ↓reduceIte, Nat.reduceEqDiff, Nat.reduceLeDiff, Nat.reduceLT, Nat.reduceMul, Nat.reduceAdd, not_true_eq_false, not_false_eq_true, Bool.false_eq_true, pq_lit, pq_add, pq_le, pq_lt, pq_eq, pq_en, pq_ne, pq_nle, pq_nlt, pq_len, pq_ltn, pB_z, pB_o, mzt_0, mzt_1, mzt_B]
theorem m_nxS (hn : n ≤ 940) (hN : 1000 ≤ N) (hl : lim ≤ 940) (h3 : M.1 3 = Int32.ofNat n) (h4 : M.1 4 = Int32.ofNat p) (h5 : M.1 5 = Int32.ofNat lim) (hp : p ≤ n) (e1 : p1 = skp (Bt (M.2.2.1 1)) (n - p) p) (hm : ¬ (lim < n ∧ lim ≤ p1)) (hs : p1 < n) {c : Nat} (hc : c = Bt (M.2.2.1 1) p1) (ha : ¬ (isl c = true ∨ isd c = true)) : ∃ M', mSm [4, 11, 12, 13, 14] M M' ∧ M'.1 4 = Int32.ofNat (p1 + 1) ∧ M'.1 11 = Int32.ofNat (sgm c) ∧ M'.1 12 = Int32.ofNat p1 ∧ M'.1 14 = Int32.ofNat c ∧ fX5_next N M = some (Int32.ofNat 0, M') := by
  have c256 : c < 256 := by rw [hc]; exact Bt_lt _ _
  obtain ⟨M0, hM0⟩ : ∃ M0, M0 = mF (mF (mF M 4 (Int32.ofNat p1)) 12 (Int32.ofNat p1)) 13 (Int32.ofNat 0) := ⟨_, rfl⟩
  have sm0 : mSm [4, 11, 12, 13, 14] M M0 := by rw [hM0]; exact ((mSm.rf.mF _ (by decide)).mF _ (by decide)).mF _ (by decide)
  have g4 : M0.1 4 = Int32.ofNat p1 := by rw [hM0]; rfl
  have g12 : M0.1 12 = Int32.ofNat p1 := by rw [hM0]; rfl
  have pk := m_peek (N := N) ((sm0.2 3 (by decide)).1.trans h3) g4 hn (by omega)
  rw [if_pos hs, (sm0.2 1 (by decide)).2, ← hc] at pk
  have il := m_iss (N := N) (M := M0) c256
  have id := m_isd (N := N) (M := M0) c256
  have nl : isl c = false ∧ isd c = false := by cases h1 : isl c <;> cases h2 : isd c <;> simp_all
  rw [nl.1] at il
  rw [nl.2] at id
  have k145 : ∀ k, k = sgm c → bX5_next_145 N M0 (Int32.ofNat c) (Int32.ofNat k) = some (Int32.ofNat 0, mF (mF (mF M0 11 (Int32.ofNat (sgm c))) 14 (Int32.ofNat c)) 4 (Int32.ofNat (p1 + 1))) := by
    intro k hk
    rw [hk]
    simp only [bX5_next_145, pq_lit]
    simp (disch := omega) only [↓mpt, mF_ne, g4, eq_self, ↓reduceIte, Nat.reduceEqDiff, Nat.reduceLeDiff, Nat.reduceLT, Nat.reduceMul, Nat.reduceAdd, not_true_eq_false, not_false_eq_true, Bool.false_eq_true, pq_lit, pq_add, pq_le, pq_lt, pq_eq, pq_en, pq_ne, pq_nle, pq_nlt, pq_len, pq_ltn, pB_z, pB_o, mzt_0, mzt_1, mzt_B]
  refine ⟨mF (mF (mF M0 11 (Int32.ofNat (sgm c))) 14 (Int32.ofNat c)) 4 (Int32.ofNat (p1 + 1)), ((sm0.mF _ (by decide)).mF _ (by decide)).mF _ (by decide), rfl, rfl, g12, rfl, ?_⟩
  rw [m_nxH hn hN hl h3 h4 h5 hp e1 hm, ← hM0]
  simp only [bX5_next_80, bX5_next_140, bX5_next_144, pq_lit]
  have z0 : 0 ≤ c := by omega
  by_cases e1 : c = 59
  · rw [e1] at k145 pk il id ⊢
    simp (disch := omega) only [↓mbd_h (pk), pk, ↓mbd_h (il), il, ↓mbd_h (id), id, bI_f, k145 3 rfl, eq_self, ↓reduceIte, Nat.reduceEqDiff, Nat.reduceLeDiff, Nat.reduceLT, Nat.reduceMul, Nat.reduceAdd, not_true_eq_false, not_false_eq_true, Bool.false_eq_true, pq_lit, pq_add, pq_le, pq_lt, pq_eq, pq_en, pq_ne, pq_nle, pq_nlt, pq_len, pq_ltn, pB_z, pB_o, mzt_0, mzt_1, mzt_B]
  · by_cases e5 : c = 40
    · rw [e5] at k145 pk il id ⊢
      simp (disch := omega) only [↓mbd_h (pk), pk, ↓mbd_h (il), il, ↓mbd_h (id), id, bI_f, k145 3 rfl, eq_self, ↓reduceIte, Nat.reduceEqDiff, Nat.reduceLeDiff, Nat.reduceLT, Nat.reduceMul, Nat.reduceAdd, not_true_eq_false, not_false_eq_true, Bool.false_eq_true, pq_lit, pq_add, pq_le, pq_lt, pq_eq, pq_en, pq_ne, pq_nle, pq_nlt, pq_len, pq_ltn, pB_z, pB_o, mzt_0, mzt_1, mzt_B]
    · by_cases e6 : c = 41
      · rw [e6] at k145 pk il id ⊢
        simp (disch := omega) only [↓mbd_h (pk), pk, ↓mbd_h (il), il, ↓mbd_h (id), id, bI_f, k145 3 rfl, eq_self, ↓reduceIte, Nat.reduceEqDiff, Nat.reduceLeDiff, Nat.reduceLT, Nat.reduceMul, Nat.reduceAdd, not_true_eq_false, not_false_eq_true, Bool.false_eq_true, pq_lit, pq_add, pq_le, pq_lt, pq_eq, pq_en, pq_ne, pq_nle, pq_nlt, pq_len, pq_ltn, pB_z, pB_o, mzt_0, mzt_1, mzt_B]
      · by_cases e2 : c < 60
        · have ek : 4 = sgm c := by unfold sgm; rw [if_neg (by omega)]
          simp (disch := omega) only [↓mbd_h (pk), pk, ↓mbd_h (il), il, ↓mbd_h (id), id, bI_f, z0, e1, e5, e6, e2, k145 4 ek, eq_self, ↓reduceIte, Nat.reduceEqDiff, Nat.reduceLeDiff, Nat.reduceLT, Nat.reduceMul, Nat.reduceAdd, not_true_eq_false, not_false_eq_true, Bool.false_eq_true, pq_lit, pq_add, pq_le, pq_lt, pq_eq, pq_en, pq_ne, pq_nle, pq_nlt, pq_len, pq_ltn, pB_z, pB_o, mzt_0, mzt_1, mzt_B]
        · by_cases e3 : 62 < c
          · have ek : 4 = sgm c := by unfold sgm; rw [if_neg (by omega)]
            simp (disch := omega) only [↓mbd_h (pk), pk, ↓mbd_h (il), il, ↓mbd_h (id), id, bI_f, z0, e1, e5, e6, e2, e3, k145 4 ek, eq_self, ↓reduceIte, Nat.reduceEqDiff, Nat.reduceLeDiff, Nat.reduceLT, Nat.reduceMul, Nat.reduceAdd, not_true_eq_false, not_false_eq_true, Bool.false_eq_true, pq_lit, pq_add, pq_le, pq_lt, pq_eq, pq_en, pq_ne, pq_nle, pq_nlt, pq_len, pq_ltn, pB_z, pB_o, mzt_0, mzt_1, mzt_B]
          · have ek : 3 = sgm c := by unfold sgm; rw [if_pos (by omega)]
            simp (disch := omega) only [↓mbd_h (pk), pk, ↓mbd_h (il), il, ↓mbd_h (id), id, bI_f, z0, e1, e5, e6, e2, e3, k145 3 ek, eq_self, ↓reduceIte, Nat.reduceEqDiff, Nat.reduceLeDiff, Nat.reduceLT, Nat.reduceMul, Nat.reduceAdd, not_true_eq_false, not_false_eq_true, Bool.false_eq_true, pq_lit, pq_add, pq_le, pq_lt, pq_eq, pq_en, pq_ne, pq_nle, pq_nlt, pq_len, pq_ltn, pB_z, pB_o, mzt_0, mzt_1, mzt_B]
theorem m_nxR (hn : n ≤ 940) (hN : 1000 ≤ N) (hl : lim ≤ 940) (h3 : M.1 3 = Int32.ofNat n) (h4 : M.1 4 = Int32.ofNat p) (h5 : M.1 5 = Int32.ofNat lim) (hp : p ≤ n) (e1 : p1 = skp (Bt (M.2.2.1 1)) (n - p) p) (hm : ¬ (lim < n ∧ lim ≤ p1)) (hs : p1 < n) {c : Nat} (hc : c = Bt (M.2.2.1 1) p1) (ha : isl c = true ∨ isd c = true) {z : RnS} (hz : z = rnS (Bt (M.2.2.1 1)) (isl c) (n - p1) (p1, 0, true, [], 0)) : ∃ M', mSm [4, 11, 12, 13, 14] M M' ∧ M'.1 4 = Int32.ofNat z.1 ∧ M'.1 11 = Int32.ofNat (kdM (isl c) z.2.2.1 z.2.1) ∧ M'.1 12 = Int32.ofNat p1 ∧ M'.1 14 = Int32.ofNat z.2.2.2.2 ∧ M'.2.1 = enc z.2.2.2.1 ∧ fX5_next N M = some (Int32.ofNat 0, M') := by
  have c256 : c < 256 := by rw [hc]; exact Bt_lt _ _
  obtain ⟨M0, hM0⟩ : ∃ M0, M0 = mF (mF (mF M 4 (Int32.ofNat p1)) 12 (Int32.ofNat p1)) 13 (Int32.ofNat 0) := ⟨_, rfl⟩
  have sm0 : mSm [4, 11, 12, 13, 14] M M0 := by rw [hM0]; exact ((mSm.rf.mF _ (by decide)).mF _ (by decide)).mF _ (by decide)
  have g4 : M0.1 4 = Int32.ofNat p1 := by rw [hM0]; rfl
  have g12 : M0.1 12 = Int32.ofNat p1 := by rw [hM0]; rfl
  have g13 : M0.1 13 = Int32.ofNat 0 := by rw [hM0]; rfl
  have pk := m_peek (N := N) ((sm0.2 3 (by decide)).1.trans h3) g4 hn (by omega)
  rw [if_pos hs, (sm0.2 1 (by decide)).2, ← hc] at pk
  have il := m_iss (N := N) (M := M0) c256
  have id := m_isd (N := N) (M := M0) c256
  obtain ⟨M1, hM1⟩ : ∃ M1, M1 = mF (mW M0 (0 : Int64)) 14 (Int32.ofNat 0) := ⟨_, rfl⟩
  have sm1 : mSm [4, 11, 12, 13, 14] M M1 := by rw [hM1]; exact (sm0.mW _).mF _ (by decide)
  have k4 : M1.1 4 = Int32.ofNat p1 := by rw [hM1]; exact g4
  have k12 : M1.1 12 = Int32.ofNat p1 := by rw [hM1]; exact g12
  have k13 : M1.1 13 = Int32.ofNat 0 := by rw [hM1]; exact g13
  have k14 : M1.1 14 = Int32.ofNat 0 := by rw [hM1]; rfl
  have kw : M1.2.1 = enc [] := by rw [hM1]; rfl
  have rp0 : rnP (isl c) (p1, 0, true, [], 0) := ⟨rfl, fun _ x hx => (by cases hx), fun x hx => (by cases hx), fun _ _ => (show 0 < 10 ^ min 0 3 by decide)⟩
  obtain ⟨M2, s2, b4, b14, bw, b11, e2⟩ := m_run (N := N) (sm := isl c) hn (n - p1) p1 N 0 0 true [] M1 ((sm1.2 3 (by decide)).1.trans h3) k4 k13 k14 kw (by omega) (by omega) rp0 (by omega)
  rw [(sm1.2 1 (by decide)).2, ← hz] at b4 b14 bw b11
  refine ⟨M2, sm1.tr (s2.su (by decide)), b4, b11, (s2.2 12 (by decide)).1.trans k12, b14, bw, ?_⟩
  rw [m_nxH hn hN hl h3 h4 h5 hp e1 hm, ← hM0]
  have k164 : bX5_next_164 N M0 (Int32.ofNat c) = some (Int32.ofNat 0, M2) := by
    rw [← e2, hM1]
    simp only [bX5_next_164, pq_lit]
    simp (disch := omega) only [↓mbd_h (il), il, ↓mptW, ↓mpt, bI_t, eq_self, ↓reduceIte, Nat.reduceEqDiff, Nat.reduceLeDiff, Nat.reduceLT, Nat.reduceMul, Nat.reduceAdd, not_true_eq_false, not_false_eq_true, Bool.false_eq_true, pq_lit, pq_add, pq_le, pq_lt, pq_eq, pq_en, pq_ne, pq_nle, pq_nlt, pq_len, pq_ltn, pB_z, pB_o, mzt_0, mzt_1, mzt_B]
  rw [← k164]
  have z0 : 0 ≤ c := by omega
  cases e : isl c with
  | true =>
    rw [e] at il
    simp only [bX5_next_80, pq_lit]
    simp (disch := omega) only [↓mbd_h (pk), pk, z0, ↓mbd_h (il), il, bI_t, eq_self, ↓reduceIte, Nat.reduceEqDiff, Nat.reduceLeDiff, Nat.reduceLT, Nat.reduceMul, Nat.reduceAdd, not_true_eq_false, not_false_eq_true, Bool.false_eq_true, pq_lit, pq_add, pq_le, pq_lt, pq_eq, pq_en, pq_ne, pq_nle, pq_nlt, pq_len, pq_ltn, pB_z, pB_o, mzt_0, mzt_1, mzt_B]
  | false =>
    have e2 : isd c = true := by rcases ha with h | h; (rw [e] at h; cases h); exact h
    rw [e] at il
    rw [e2] at id
    simp only [bX5_next_80, pq_lit]
    simp (disch := omega) only [↓mbd_h (pk), pk, z0, ↓mbd_h (il), il, ↓mbd_h (id), id, bI_t, bI_f, eq_self, ↓reduceIte, Nat.reduceEqDiff, Nat.reduceLeDiff, Nat.reduceLT, Nat.reduceMul, Nat.reduceAdd, not_true_eq_false, not_false_eq_true, Bool.false_eq_true, pq_lit, pq_add, pq_le, pq_lt, pq_eq, pq_en, pq_ne, pq_nle, pq_nlt, pq_len, pq_ltn, pB_z, pB_o, mzt_0, mzt_1, mzt_B]
end RD
