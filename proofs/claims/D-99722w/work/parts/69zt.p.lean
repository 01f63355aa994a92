/-! maps: the times begin -/
def two2 (h : St) (o1 p1 o2 p2 : Nat) : Nat → Nat → St → St
  | 0, _, s => s
  | k + 1, i, s => two2 h o1 p1 o2 p2 k (i + 1) (upd (upd s (o1 + i) (h (p1 + i))) (o2 + i) (h (p2 + i)))
theorem two2_v {h : St} {o1 p1 o2 p2 : Nat} : ∀ (k i : Nat) (s : St) (j : Nat), o1 + i + k ≤ o2 → two2 h o1 p1 o2 p2 k i s j = if o1 + i ≤ j ∧ j < o1 + i + k then h (p1 + (j - o1)) else if o2 + i ≤ j ∧ j < o2 + i + k then h (p2 + (j - o2)) else s j
  | 0, i, s, j, _ => by rw [if_neg (by omega), if_neg (by omega)]; rfl
  | k + 1, i, s, j, hd => by
    show two2 h o1 p1 o2 p2 k (i + 1) _ j = _
    rw [two2_v k (i + 1) _ j (by omega)]
    by_cases q1 : j = o1 + i
    · subst q1
      rw [if_neg (by omega), if_neg (by omega), if_pos (by omega), upd_o _ _ (by omega), upd_s, show o1 + i - o1 = i by omega]
    · by_cases q2 : j = o2 + i
      · subst q2
        rw [if_neg (by omega), if_neg (by omega), if_neg (by omega), if_pos (by omega), upd_s, show o2 + i - o2 = i by omega]
      · by_cases q3 : o1 + i ≤ j ∧ j < o1 + i + (k + 1)
        · rw [if_pos (by omega), if_pos q3]
        · rw [if_neg (by omega), if_neg q3]
          by_cases q4 : o2 + i ≤ j ∧ j < o2 + i + (k + 1)
          · rw [if_pos (by omega), if_pos q4]
          · rw [if_neg (by omega), if_neg q4, upd_o _ _ q2, upd_o _ _ q1]
section MJ
variable {E : gE} {N b : Nat} {A : FA} {S : GS} {M : MS} {a : Nat} {d : AD} {h : St}
theorem m_80 : ∀ (k i m : Nat) (M : MS), i + k = 319 → k < m → bX5_map_80L N m M (Int32.ofNat i) = bX5_map_117L N N (mR M 6 (fun j => if i ≤ j ∧ j < 319 then (if j < 91 then M.2.2.1 7 j else Int32.ofNat 0) else M.2.2.1 6 j)) (Int32.ofNat 0)
  | k, i, 0, M, h1, h2 => by omega
  | 0, i, m + 1, M, h1, h2 => by
    have e1 : 319 ≤ i := by omega
    have eg : (fun j => if i ≤ j ∧ j < 319 then (if j < 91 then M.2.2.1 7 j else Int32.ofNat 0) else M.2.2.1 6 j) = M.2.2.1 6 := by funext j; rw [if_neg (by omega)]
    rw [eg, mR_id]
    simp only [bX5_map_80L, bX5_map_80, pq_lit]
    simp (disch := omega) only [e1, eq_self, ↓reduceIte, Nat.reduceEqDiff, Nat.reduceLeDiff, Nat.reduceLT, Nat.reduceMul, Nat.reduceAdd, not_true_eq_false, not_false_eq_true, Bool.false_eq_true, pq_lit, pq_add, pq_le, pq_lt, pq_eq, pq_en, pq_ne, pq_nle, pq_nlt, pq_len, pq_ltn, pB_z, pB_o, mzt_0, mzt_1, mzt_B]
  | k + 1, i, m + 1, M, h1, h2 => by
    have e1 : ¬ 319 ≤ i := by omega
    obtain ⟨v, hv⟩ : ∃ v, v = if i < 91 then M.2.2.1 7 i else Int32.ofNat 0 := ⟨_, rfl⟩
    have ih := m_80 k (i + 1) m (mR M 6 (upd (M.2.2.1 6) i v)) (by omega) (by omega)
    have eg : (fun j => if i + 1 ≤ j ∧ j < 319 then (if j < 91 then (mR M 6 (upd (M.2.2.1 6) i v)).2.2.1 7 j else Int32.ofNat 0) else (mR M 6 (upd (M.2.2.1 6) i v)).2.2.1 6 j) = fun j => if i ≤ j ∧ j < 319 then (if j < 91 then M.2.2.1 7 j else Int32.ofNat 0) else M.2.2.1 6 j := by
      funext j
      rw [mA_e, mA_n _ _ (by omega)]
      by_cases q : j = i
      · rw [if_neg (by omega), if_pos (by omega), q, upd_s, hv]
      · rw [upd_o _ _ q]
        by_cases q2 : i ≤ j ∧ j < 319
        · rw [if_pos q2, if_pos (by omega)]
        · rw [if_neg q2, if_neg (by omega)]
    rw [mR_mR, eg] at ih
    rw [← ih]
    by_cases q : 91 ≤ i
    · rw [if_neg (by omega)] at hv
      rw [hv]
      simp only [bX5_map_80L, bX5_map_80, bX5_map_108, pq_lit]
      simp (disch := omega) only [e1, q, ↓mwr_n, mwr_n, ma_s, eq_self, ↓reduceIte, Nat.reduceEqDiff, Nat.reduceLeDiff, Nat.reduceLT, Nat.reduceMul, Nat.reduceAdd, not_true_eq_false, not_false_eq_true, Bool.false_eq_true, pq_lit, pq_add, pq_le, pq_lt, pq_eq, pq_en, pq_ne, pq_nle, pq_nlt, pq_len, pq_ltn, pB_z, pB_o, mzt_0, mzt_1, mzt_B]
    · rw [if_pos (by omega)] at hv
      rw [hv]
      simp only [bX5_map_80L, bX5_map_80, bX5_map_108, pq_lit]
      simp (disch := omega) only [e1, q, ↓mrd_n, mrd_n, ↓mwr_n, mwr_n, ma_s, eq_self, ↓reduceIte, Nat.reduceEqDiff, Nat.reduceLeDiff, Nat.reduceLT, Nat.reduceMul, Nat.reduceAdd, not_true_eq_false, not_false_eq_true, Bool.false_eq_true, pq_lit, pq_add, pq_le, pq_lt, pq_eq, pq_en, pq_ne, pq_nle, pq_nlt, pq_len, pq_ltn, pB_z, pB_o, mzt_0, mzt_1, mzt_B]
theorem m_117 : ∀ (k i m : Nat) (M : MS), i + k = 13 → k < m → bX5_map_117L N m M (Int32.ofNat i) = bX5_map_146L N N (mQ M 9 (fun j => if i ≤ j ∧ j < 13 then M.2.2.2 9 (13 + j) else M.2.2.2 9 j)) (Int32.ofNat 0)
  | k, i, 0, M, h1, h2 => by omega
  | 0, i, m + 1, M, h1, h2 => by
    have e1 : 13 ≤ i := by omega
    have eg : (fun j => if i ≤ j ∧ j < 13 then M.2.2.2 9 (13 + j) else M.2.2.2 9 j) = M.2.2.2 9 := by funext j; rw [if_neg (by omega)]
    rw [eg, mQ_id]
    simp only [bX5_map_117L, bX5_map_117, pq_lit]
    simp (disch := omega) only [e1, eq_self, ↓reduceIte, Nat.reduceEqDiff, Nat.reduceLeDiff, Nat.reduceLT, Nat.reduceMul, Nat.reduceAdd, not_true_eq_false, not_false_eq_true, Bool.false_eq_true, pq_lit, pq_add, pq_le, pq_lt, pq_eq, pq_en, pq_ne, pq_nle, pq_nlt, pq_len, pq_ltn, pB_z, pB_o, mzt_0, mzt_1, mzt_B]
  | k + 1, i, m + 1, M, h1, h2 => by
    have e1 : ¬ 13 ≤ i := by omega
    have ih := m_117 k (i + 1) m (mQ M 9 (vp_updL (M.2.2.2 9) i (M.2.2.2 9 (13 + i)))) (by omega) (by omega)
    have eg : (fun j => if i + 1 ≤ j ∧ j < 13 then (mQ M 9 (vp_updL (M.2.2.2 9) i (M.2.2.2 9 (13 + i)))).2.2.2 9 (13 + j) else (mQ M 9 (vp_updL (M.2.2.2 9) i (M.2.2.2 9 (13 + i)))).2.2.2 9 j) = fun j => if i ≤ j ∧ j < 13 then M.2.2.2 9 (13 + j) else M.2.2.2 9 j := by
      funext j
      rw [mQ_e]
      by_cases q : j = i
      · rw [if_neg (by omega), if_pos (by omega), q, updL_s]
      · by_cases q2 : i ≤ j ∧ j < 13
        · rw [if_pos q2, if_pos (by omega), updL_o _ _ (by omega)]
        · rw [if_neg q2, if_neg (by omega), updL_o _ _ q]
    rw [mQ_mQ, eg] at ih
    rw [← ih]
    simp only [bX5_map_117L, bX5_map_117, pq_lit]
    simp (disch := omega) only [e1, pq_add, ↓mrdL_n, mrdL_n, ↓mwrL_n, mwrL_n, ml_s, eq_self, ↓reduceIte, Nat.reduceEqDiff, Nat.reduceLeDiff, Nat.reduceLT, Nat.reduceMul, Nat.reduceAdd, not_true_eq_false, not_false_eq_true, Bool.false_eq_true, pq_lit, pq_add, pq_le, pq_lt, pq_eq, pq_en, pq_ne, pq_nle, pq_nlt, pq_len, pq_ltn, pB_z, pB_o, mzt_0, mzt_1, mzt_B]
theorem m_146m : ∀ (k i m : Nat) (M : MS), (∀ j, j < 91 → M.2.2.1 6 j = h j) → i + k = 7 → k < m → bX5_map_146L N m M (Int32.ofNat i) = bX5_map_196L N N (mR M 6 (two2 h 94 17 101 72 k i (M.2.2.1 6))) (Int32.ofNat 0)
  | k, i, 0, M, hh, h1, h2 => by omega
  | 0, i, m + 1, M, hh, h1, h2 => by
    have e1 : 7 ≤ i := by omega
    show _ = bX5_map_196L N N (mR M 6 (M.2.2.1 6)) (Int32.ofNat 0)
    rw [mR_id]
    simp only [bX5_map_146L, bX5_map_146, pq_lit]
    simp (disch := omega) only [e1, eq_self, ↓reduceIte, Nat.reduceEqDiff, Nat.reduceLeDiff, Nat.reduceLT, Nat.reduceMul, Nat.reduceAdd, not_true_eq_false, not_false_eq_true, Bool.false_eq_true, pq_lit, pq_add, pq_le, pq_lt, pq_eq, pq_en, pq_ne, pq_nle, pq_nlt, pq_len, pq_ltn, pB_z, pB_o, mzt_0, mzt_1, mzt_B]
  | k + 1, i, m + 1, M, hh, h1, h2 => by
    have e1 : ¬ 7 ≤ i := by omega
    have ih := m_146m k (i + 1) m (mR M 6 (upd (upd (M.2.2.1 6) (94 + i) (h (17 + i))) (101 + i) (h (72 + i)))) (fun j hj => by rw [mA_e, upd_o _ _ (by omega), upd_o _ _ (by omega)]; exact hh j hj) (by omega) (by omega)
    rw [mR_mR, mA_e] at ih
    show _ = bX5_map_196L N N (mR M 6 (two2 h 94 17 101 72 k (i + 1) (upd (upd (M.2.2.1 6) (94 + i) (h (17 + i))) (101 + i) (h (72 + i))))) (Int32.ofNat 0)
    rw [← ih]
    have a1 := hh (17 + i) (by omega)
    have a2 := hh (72 + i) (by omega)
    simp only [bX5_map_146L, bX5_map_146, pq_lit]
    simp (disch := omega) only [e1, pq_add, ↓mrd_n, mrd_n, ↓mwr_n, mwr_n, ma_s, mA_e, upd_o, a1, a2, mR_mR, eq_self, ↓reduceIte, Nat.reduceEqDiff, Nat.reduceLeDiff, Nat.reduceLT, Nat.reduceMul, Nat.reduceAdd, not_true_eq_false, not_false_eq_true, Bool.false_eq_true, pq_lit, pq_add, pq_le, pq_lt, pq_eq, pq_en, pq_ne, pq_nle, pq_nlt, pq_len, pq_ltn, pB_z, pB_o, mzt_0, mzt_1, mzt_B]
theorem m_196m : ∀ (k i m : Nat) (M : MS), (∀ j, j < 91 → M.2.2.1 6 j = h j) → i + k = 6 → k < m → bX5_map_196L N m M (Int32.ofNat i) = some (M.1 19, mF (mR M 6 (two2 h 108 79 114 85 k i (M.2.2.1 6))) 23 (Int32.ofNat 0))
  | k, i, 0, M, hh, h1, h2 => by omega
  | 0, i, m + 1, M, hh, h1, h2 => by
    have e1 : 6 ≤ i := by omega
    show _ = some (M.1 19, mF (mR M 6 (M.2.2.1 6)) 23 (Int32.ofNat 0))
    rw [mR_id]
    simp only [bX5_map_196L, bX5_map_196, pq_lit]
    simp (disch := omega) only [e1, ↓mpt, mF_ne, eq_self, ↓reduceIte, Nat.reduceEqDiff, Nat.reduceLeDiff, Nat.reduceLT, Nat.reduceMul, Nat.reduceAdd, not_true_eq_false, not_false_eq_true, Bool.false_eq_true, pq_lit, pq_add, pq_le, pq_lt, pq_eq, pq_en, pq_ne, pq_nle, pq_nlt, pq_len, pq_ltn, pB_z, pB_o, mzt_0, mzt_1, mzt_B]
  | k + 1, i, m + 1, M, hh, h1, h2 => by
    have e1 : ¬ 6 ≤ i := by omega
    have ih := m_196m k (i + 1) m (mR M 6 (upd (upd (M.2.2.1 6) (108 + i) (h (79 + i))) (114 + i) (h (85 + i)))) (fun j hj => by rw [mA_e, upd_o _ _ (by omega), upd_o _ _ (by omega)]; exact hh j hj) (by omega) (by omega)
    rw [mR_mR, mA_e, mA_i] at ih
    show _ = some (M.1 19, mF (mR M 6 (two2 h 108 79 114 85 k (i + 1) (upd (upd (M.2.2.1 6) (108 + i) (h (79 + i))) (114 + i) (h (85 + i))))) 23 (Int32.ofNat 0))
    rw [← ih]
    have a1 := hh (79 + i) (by omega)
    have a2 := hh (85 + i) (by omega)
    simp only [bX5_map_196L, bX5_map_196, pq_lit]
    simp (disch := omega) only [e1, pq_add, ↓mrd_n, mrd_n, ↓mwr_n, mwr_n, ma_s, mA_e, upd_o, a1, a2, mR_mR, eq_self, ↓reduceIte, Nat.reduceEqDiff, Nat.reduceLeDiff, Nat.reduceLT, Nat.reduceMul, Nat.reduceAdd, not_true_eq_false, not_false_eq_true, Bool.false_eq_true, pq_lit, pq_add, pq_le, pq_lt, pq_eq, pq_en, pq_ne, pq_nle, pq_nlt, pq_len, pq_ltn, pB_z, pB_o, mzt_0, mzt_1, mzt_B]
theorem m_begin (hN : 1000 ≤ N) (M : MS) : bX5_map_80L N N M (Int32.ofNat 0) = some (M.1 19, mF (mR (mQ M 9 (fun j => if j < 13 then M.2.2.2 9 (13 + j) else M.2.2.2 9 j)) 6 (begF (M.2.2.1 7) (M.2.2.1 6))) 23 (Int32.ofNat 0)) := by
  obtain ⟨f, hf⟩ : ∃ f : St, f = fun j => if 0 ≤ j ∧ j < 319 then (if j < 91 then M.2.2.1 7 j else Int32.ofNat 0) else M.2.2.1 6 j := ⟨_, rfl⟩
  have f91 : ∀ j, j < 91 → f j = M.2.2.1 7 j := fun j hj => by
    rw [hf]
    show (if 0 ≤ j ∧ j < 319 then (if j < 91 then M.2.2.1 7 j else Int32.ofNat 0) else M.2.2.1 6 j) = _
    rw [if_pos (by omega), if_pos hj]
  have t1 : ∀ j, j < 91 → two2 (M.2.2.1 7) 94 17 101 72 7 0 f j = M.2.2.1 7 j := fun j hj => by
    rw [two2_v 7 0 f j (by omega), if_neg (by omega), if_neg (by omega)]; exact f91 j hj
  have t2 : two2 (M.2.2.1 7) 108 79 114 85 6 0 (two2 (M.2.2.1 7) 94 17 101 72 7 0 f) = begF (M.2.2.1 7) (M.2.2.1 6) := by
    funext j
    rw [two2_v 6 0 _ j (by omega), two2_v 7 0 f j (by omega)]
    by_cases q1 : j < 91
    · rw [begF_lo q1, if_neg (by omega), if_neg (by omega), if_neg (by omega), if_neg (by omega)]; exact f91 j q1
    · by_cases q2 : j < 94
      · rw [begF_z (by omega), if_neg (by omega), if_neg (by omega), if_neg (by omega), if_neg (by omega), hf]
        show (if 0 ≤ j ∧ j < 319 then (if j < 91 then M.2.2.1 7 j else Int32.ofNat 0) else M.2.2.1 6 j) = _
        rw [if_pos (by omega), if_neg q1]
      · by_cases q3 : j < 101
        · obtain ⟨l, rfl⟩ : ∃ l, j = 94 + l := ⟨j - 94, by omega⟩
          rw [begF_94 (by omega), if_neg (by omega), if_neg (by omega), if_pos (by omega), show 94 + l - 94 = l by omega]
        · by_cases q4 : j < 108
          · obtain ⟨l, rfl⟩ : ∃ l, j = 101 + l := ⟨j - 101, by omega⟩
            rw [begF_101 (by omega), if_neg (by omega), if_neg (by omega), if_neg (by omega), if_pos (by omega), show 101 + l - 101 = l by omega]
          · by_cases q5 : j < 114
            · obtain ⟨l, rfl⟩ : ∃ l, j = 108 + l := ⟨j - 108, by omega⟩
              rw [begF_108 (by omega), if_pos (by omega), show 108 + l - 108 = l by omega]
            · by_cases q6 : j < 120
              · obtain ⟨l, rfl⟩ : ∃ l, j = 114 + l := ⟨j - 114, by omega⟩
                rw [begF_114 (by omega), if_neg (by omega), if_pos (by omega), show 114 + l - 114 = l by omega]
              · rw [if_neg (by omega), if_neg (by omega), if_neg (by omega), if_neg (by omega), hf]
                show (if 0 ≤ j ∧ j < 319 then (if j < 91 then M.2.2.1 7 j else Int32.ofNat 0) else M.2.2.1 6 j) = _
                by_cases q7 : j < 319
                · rw [begF_z (by omega), if_pos (by omega), if_neg q1]
                · rw [begF_hi (by omega), if_neg (by omega)]
  have eq9 : (fun j => if 0 ≤ j ∧ j < 13 then (mR M 6 f).2.2.2 9 (13 + j) else (mR M 6 f).2.2.2 9 j) = fun j => if j < 13 then M.2.2.2 9 (13 + j) else M.2.2.2 9 j := by
    funext j
    by_cases q : j < 13
    · rw [if_pos (by omega), if_pos q]; rfl
    · rw [if_neg (by omega), if_neg q]; rfl
  rw [m_80 319 0 N M (by omega) (by omega), ← hf, m_117 13 0 N _ (by omega) (by omega), eq9, m_146m (h := M.2.2.1 7) 7 0 N _ (fun j hj => ?_) (by omega) (by omega), m_196m (h := M.2.2.1 7) 6 0 N _ (fun j hj => ?_) (by omega) (by omega)]
  · obtain ⟨g9, hg9⟩ : ∃ g9 : Nat → Int64, g9 = fun j => if j < 13 then M.2.2.2 9 (13 + j) else M.2.2.2 9 j := ⟨_, rfl⟩
    rw [← hg9]
    have e6 : (mQ (mR M 6 f) 9 g9).2.2.1 6 = f := mA_e M 6 f
    rw [e6, mR_mR, mA_e, t2]
    have ec : mR (mQ (mR M 6 f) 9 g9) 6 (begF (M.2.2.1 7) (M.2.2.1 6)) = mR (mQ M 9 g9) 6 (begF (M.2.2.1 7) (M.2.2.1 6)) := by
      have : mQ (mR M 6 f) 9 g9 = mR (mQ M 9 g9) 6 f := rfl
      rw [this, mR_mR]
    rw [ec]
    rfl
  · rw [mA_e]
    have e6 : (mQ (mR M 6 f) 9 (fun j => if j < 13 then M.2.2.2 9 (13 + j) else M.2.2.2 9 j)).2.2.1 6 = f := mA_e M 6 f
    rw [e6]
    exact t1 j hj
  · have e6 : (mQ (mR M 6 f) 9 (fun j => if j < 13 then M.2.2.2 9 (13 + j) else M.2.2.2 9 j)).2.2.1 6 = f := mA_e M 6 f
    rw [e6]
    exact f91 j hj
end MJ
