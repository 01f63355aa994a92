/-! caravan: the model's next row -/
def Hold (f : Nat → Int32) (L : List Nat) : Prop := ∀ i, i < L.length → f i = Int32.ofNat (L.getD i 0)
def Sml (L : List Nat) : Prop := ∀ i, L.getD i 0 < 7
theorem swp_len (L : List Nat) (i j : Nat) : (swp L i j).length = L.length := by unfold swp; simp
theorem swp_get {L : List Nat} {i j k : Nat} (hk : k < L.length) : (swp L i j).getD k 0 = if k = j then L.getD i 0 else if k = i then L.getD j 0 else L.getD k 0 := by
  unfold swp
  rw [List.getD_eq_getElem?_getD, List.getElem?_set]
  by_cases e : k = j
  · subst e
    simp [hk]
  · rw [if_neg (Ne.symm e), if_neg e, List.getElem?_set]
    by_cases e2 : k = i
    · subst e2
      simp [hk]
    · rw [if_neg (Ne.symm e2), if_neg e2, List.getD_eq_getElem?_getD]
theorem Hold.swp {f : Nat → Int32} {L : List Nat} (h : Hold f L) {i j : Nat} (hi : i < L.length) (hj : j < L.length) : Hold (upd (upd f i (f j)) j (f i)) (swp L i j) := by
  intro k hk
  rw [swp_len] at hk
  rw [swp_get hk]
  show (if k = j then f i else if k = i then f j else f k) = _
  by_cases e : k = j
  · rw [if_pos e, if_pos e]; exact h i hi
  · rw [if_neg e, if_neg e]
    by_cases e2 : k = i
    · rw [if_pos e2, if_pos e2]; exact h j hj
    · rw [if_neg e2, if_neg e2]; exact h k hk
theorem Sml.swp {L : List Nat} (h : Sml L) (i j : Nat) : Sml (swp L i j) := by
  intro k
  by_cases hk : k < L.length
  · rw [swp_get hk]
    split
    · exact h i
    · split
      · exact h j
      · exact h k
  · rw [List.getD_eq_getElem?_getD, List.getElem?_eq_none (by rw [swp_len]; omega)]
    simp
theorem dn_s (m : Nat) (h : 0 < m) : Int32.ofNat m + -Int32.ofNat 1 = Int32.ofNat (m - 1) := by
  rw [← Int32.sub_eq_add_neg, pq_sub h]
theorem rvN_len : ∀ (fu : Nat) (L : List Nat) (i j : Nat), (rvN fu L i j).length = L.length
  | 0, _, _, _ => rfl
  | fu + 1, L, i, j => by
    unfold rvN
    split
    · rfl
    · rw [rvN_len fu, swp_len]
def im : Nat → Int32
  | 0 => -Int32.ofNat 1
  | m + 1 => Int32.ofNat m
theorem im_d (m : Nat) : Int32.ofNat m + -Int32.ofNat 1 = im m := by
  match m with
  | 0 => decide
  | m + 1 => exact dn_s (m + 1) (by omega)
theorem fiN_lt {L : List Nat} : ∀ (m i : Nat), fiN L m = some i → i < m
  | 0, _, h => by simp [fiN] at h
  | m + 1, i, h => by
    unfold fiN at h
    split at h
    · injection h with h; omega
    · have := fiN_lt m i h; omega
theorem fjN_le {L : List Nat} {i : Nat} : ∀ (j : Nat), fjN L i j ≤ j
  | 0 => Nat.le_refl _
  | j + 1 => by
    unfold fjN
    split
    · exact Nat.le_refl _
    · have := fjN_le (L := L) (i := i) j; omega
section OR
variable {E : gE} {N b : Nat} {A : FA} {S : GS} {M : MS}
theorem m_rv (hN : 1000 ≤ N) : ∀ (fu i j q : Nat) (L : List Nat) (M : MS), Hold (M.2.2.1 39) L → L.length ≤ 6 → j < L.length → j ≤ i + 2 * fu → fu < q → i < 1000 → ∃ f', Hold f' (rvN fu L i j) ∧ bX5_reorders_100L N q M (Int32.ofNat i) (Int32.ofNat j) = some (Int32.ofNat 1, mR M 39 f')
  | fu, i, j, 0, L, M, _, _, _, _, h, _ => by omega
  | 0, i, j, q + 1, L, M, h, hl, hj, hf, _, hi => by
    refine ⟨M.2.2.1 39, h, ?_⟩
    have z : j ≤ i := by omega
    simp only [bX5_reorders_100L, bX5_reorders_100, pq_lit]
    simp (disch := omega) only [z, mzt_1, mR_id, eq_self, ↓reduceIte, Nat.reduceEqDiff, Nat.reduceLeDiff, Nat.reduceLT, Nat.reduceMul, Nat.reduceAdd, not_true_eq_false, not_false_eq_true, Bool.false_eq_true, pq_lit, pq_add, pq_le, pq_lt, pq_eq, pq_en, pq_ne, pq_nle, pq_nlt, pq_len, pq_ltn, pB_z, pB_o, mzt_0, mzt_1, mzt_B]
  | fu + 1, i, j, q + 1, L, M, h, hl, hj, hf, hq, hi => by
    by_cases z : j ≤ i
    · refine ⟨M.2.2.1 39, by unfold rvN; rw [if_pos z]; exact h, ?_⟩
      simp only [bX5_reorders_100L, bX5_reorders_100, pq_lit]
      simp (disch := omega) only [z, mzt_1, mR_id, eq_self, ↓reduceIte, Nat.reduceEqDiff, Nat.reduceLeDiff, Nat.reduceLT, Nat.reduceMul, Nat.reduceAdd, not_true_eq_false, not_false_eq_true, Bool.false_eq_true, pq_lit, pq_add, pq_le, pq_lt, pq_eq, pq_en, pq_ne, pq_nle, pq_nlt, pq_len, pq_ltn, pB_z, pB_o, mzt_0, mzt_1, mzt_B]
    · have e := h.swp (i := i) (j := j) (by omega) hj
      obtain ⟨f', h1, h2⟩ := m_rv hN fu (i + 1) (j - 1) q (swp L i j) (mR M 39 (upd (upd (M.2.2.1 39) i (M.2.2.1 39 j)) j (M.2.2.1 39 i))) (by rw [mA_e]; exact e) (by rw [swp_len]; exact hl) (by rw [swp_len]; omega) (by omega) (by omega) (by omega)
      refine ⟨f', by unfold rvN; rw [if_neg z]; exact h1, ?_⟩
      rw [mR_mR] at h2
      have d := dn_s j (by omega)
      simp only [bX5_reorders_100L, bX5_reorders_100, pq_lit]
      simp (disch := omega) only [z, ↓mrd_n, mrd_n, ↓mwr_n, mwr_n, ma_s, mA_e, mR_mR, d, pq_add, h2, eq_self, ↓reduceIte, Nat.reduceEqDiff, Nat.reduceLeDiff, Nat.reduceLT, Nat.reduceMul, Nat.reduceAdd, not_true_eq_false, not_false_eq_true, Bool.false_eq_true, pq_lit, pq_add, pq_le, pq_lt, pq_eq, pq_en, pq_ne, pq_nle, pq_nlt, pq_len, pq_ltn, pB_z, pB_o, mzt_0, mzt_1, mzt_B]
theorem m_fj (hN : 1000 ≤ N) {L : List Nat} {k i : Nat} (h : Hold (M.2.2.1 39) L) (hs : Sml L) (hl : L.length ≤ 6) (hk : L.length = k) : ∀ (j q : Nat), i ≤ j → j < L.length → j < q → bX5_reorders_41L N q M (Int32.ofNat k) (Int32.ofNat i) (Int32.ofNat j) = bX5_reorders_100L N N (mR M 39 (upd (upd (M.2.2.1 39) i (M.2.2.1 39 (fjN L i j))) (fjN L i j) (M.2.2.1 39 i))) (Int32.ofNat (i + 1)) (Int32.ofNat (k - 1))
  | j, 0, _, _, h => by omega
  | 0, q + 1, hi, hj, _ => by
    have h0 : i = 0 := by omega
    subst h0
    have z : ¬ k < 1 := by omega
    have ks : Int32.ofNat k - Int32.ofNat 1 = Int32.ofNat (k - 1) := pq_sub (by omega)
    have e := h 0 (by omega)
    have s0 := hs 0
    simp only [bX5_reorders_41L, bX5_reorders_41, pq_lit]
    simp (disch := omega) only [↓mrd_n, mrd_n, ↓mwr_n, mwr_n, ma_s, mA_e, mR_mR, ks, pq_add, e, Nat.le_refl, fjN, eq_self, ↓reduceIte, Nat.reduceEqDiff, Nat.reduceLeDiff, Nat.reduceLT, Nat.reduceMul, Nat.reduceAdd, not_true_eq_false, not_false_eq_true, Bool.false_eq_true, pq_lit, pq_add, pq_le, pq_lt, pq_eq, pq_en, pq_ne, pq_nle, pq_nlt, pq_len, pq_ltn, pB_z, pB_o, mzt_0, mzt_1, mzt_B]
  | j + 1, q + 1, hi, hj, hq => by
    have ks : Int32.ofNat k - Int32.ofNat 1 = Int32.ofNat (k - 1) := pq_sub (by omega)
    have e1 := h i (by omega)
    have e2 := h (j + 1) (by omega)
    have s1 := hs i
    have s2 := hs (j + 1)
    have d := dn_s (j + 1) (by omega)
    rw [Nat.add_sub_cancel] at d
    simp only [bX5_reorders_41L, bX5_reorders_41, pq_lit]
    by_cases z : L.getD i 0 ≤ L.getD (j + 1) 0
    · have ej : fjN L i (j + 1) = j + 1 := by unfold fjN; rw [if_pos z]
      simp (disch := omega) only [↓mrd_n, mrd_n, ↓mwr_n, mwr_n, ma_s, mA_e, mR_mR, ks, pq_add, e1, e2, z, ej, eq_self, ↓reduceIte, Nat.reduceEqDiff, Nat.reduceLeDiff, Nat.reduceLT, Nat.reduceMul, Nat.reduceAdd, not_true_eq_false, not_false_eq_true, Bool.false_eq_true, pq_lit, pq_add, pq_le, pq_lt, pq_eq, pq_en, pq_ne, pq_nle, pq_nlt, pq_len, pq_ltn, pB_z, pB_o, mzt_0, mzt_1, mzt_B]
    · have ej : fjN L i (j + 1) = fjN L i j := by conv => lhs; unfold fjN; rw [if_neg z]
      have ne : i ≠ j + 1 := fun w => z (by rw [w]; exact Nat.le_refl _)
      have ih := m_fj (i := i) hN h hs hl hk j q (by omega) (by omega) (by omega)
      rw [e1] at ih
      rw [ej]
      simp (disch := omega) only [↓mrd_n, mrd_n, pq_add, e1, e2, z, d, ih, eq_self, ↓reduceIte, Nat.reduceEqDiff, Nat.reduceLeDiff, Nat.reduceLT, Nat.reduceMul, Nat.reduceAdd, not_true_eq_false, not_false_eq_true, Bool.false_eq_true, pq_lit, pq_add, pq_le, pq_lt, pq_eq, pq_en, pq_ne, pq_nle, pq_nlt, pq_len, pq_ltn, pB_z, pB_o, mzt_0, mzt_1, mzt_B]
theorem m_fi (hN : 1000 ≤ N) {L : List Nat} {k : Nat} (h : Hold (M.2.2.1 39) L) (hs : Sml L) (hl : L.length ≤ 6) (hk : L.length = k) : ∀ (m q : Nat), m < L.length → m < q → bX5_reorders_4L N q M (Int32.ofNat k) (im m) = match fiN L m with
      | none => some (Int32.ofNat 0, M)
      | some i => bX5_reorders_41L N N M (Int32.ofNat k) (Int32.ofNat i) (Int32.ofNat (k - 1))
  | m, 0, _, h => by omega
  | 0, q + 1, _, _ => by
    have e1 : (-Int32.ofNat 1 < Int32.ofNat 0) = True := by simp
    have e2 : (Int32.ofNat 0 ≤ -Int32.ofNat 1) = False := pq_nle (by omega)
    simp only [bX5_reorders_4L, bX5_reorders_4, bX5_reorders_31, pq_lit, im]
    simp (disch := omega) only [e1, e2, mzt_0, fiN, eq_self, ↓reduceIte, Nat.reduceEqDiff, Nat.reduceLeDiff, Nat.reduceLT, Nat.reduceMul, Nat.reduceAdd, not_true_eq_false, not_false_eq_true, Bool.false_eq_true, pq_lit, pq_add, pq_le, pq_lt, pq_eq, pq_en, pq_ne, pq_nle, pq_nlt, pq_len, pq_ltn, pB_z, pB_o, mzt_0, mzt_1, mzt_B]
  | m + 1, q + 1, hm, hq => by
    have ks : Int32.ofNat k - Int32.ofNat 1 = Int32.ofNat (k - 1) := pq_sub (by omega)
    have e1 := h m (by omega)
    have e2 := h (m + 1) (by omega)
    have s1 := hs m
    have s2 := hs (m + 1)
    have z0 : ¬ m < 0 := by omega
    simp only [bX5_reorders_4L, bX5_reorders_4, bX5_reorders_31, pq_lit, im]
    by_cases z : L.getD m 0 ≤ L.getD (m + 1) 0
    · have ef : fiN L (m + 1) = some m := by unfold fiN; rw [if_pos z]
      simp (disch := omega) only [↓mrd_n, mrd_n, pq_add, e1, e2, z, z0, ef, ks, Nat.zero_le, eq_self, ↓reduceIte, Nat.reduceEqDiff, Nat.reduceLeDiff, Nat.reduceLT, Nat.reduceMul, Nat.reduceAdd, not_true_eq_false, not_false_eq_true, Bool.false_eq_true, pq_lit, pq_add, pq_le, pq_lt, pq_eq, pq_en, pq_ne, pq_nle, pq_nlt, pq_len, pq_ltn, pB_z, pB_o, mzt_0, mzt_1, mzt_B]
    · have ef : fiN L (m + 1) = fiN L m := by conv => lhs; unfold fiN; rw [if_neg z]
      have ih := m_fi hN h hs hl hk m q (by omega) (by omega)
      rw [ef]
      simp (disch := omega) only [↓mrd_n, mrd_n, pq_add, e1, e2, z, z0, im_d, ih, eq_self, ↓reduceIte, Nat.reduceEqDiff, Nat.reduceLeDiff, Nat.reduceLT, Nat.reduceMul, Nat.reduceAdd, not_true_eq_false, not_false_eq_true, Bool.false_eq_true, pq_lit, pq_add, pq_le, pq_lt, pq_eq, pq_en, pq_ne, pq_nle, pq_nlt, pq_len, pq_ltn, pB_z, pB_o, mzt_0, mzt_1, mzt_B]
theorem m_reo (hN : 1000 ≤ N) {L : List Nat} {k : Nat} (h : Hold (M.2.2.1 39) L) (hs : Sml L) (hl : L.length ≤ 6) (hk : L.length = k) : match nxN L with
      | none => fX5_reorders N M (Int32.ofNat k) = some (Int32.ofNat 0, M)
      | some L' => ∃ f', Hold f' L' ∧ fX5_reorders N M (Int32.ofNat k) = some (Int32.ofNat 1, mR M 39 f') := by
  have e0 : fX5_reorders N M (Int32.ofNat k) = bX5_reorders_4L N N M (Int32.ofNat k) (Int32.ofNat k - Int32.ofNat 2) := rfl
  unfold nxN
  rw [e0, hk]
  by_cases k0 : k = 0
  · subst k0
    have e1 : (Int32.ofNat 0 - Int32.ofNat 2 < Int32.ofNat 0) = True := by simp
    have e2 : (Int32.ofNat 0 ≤ Int32.ofNat 0 - Int32.ofNat 2) = False := by simp
    show bX5_reorders_4L N N M (Int32.ofNat 0) (Int32.ofNat 0 - Int32.ofNat 2) = some (Int32.ofNat 0, M)
    obtain ⟨q, rfl⟩ : ∃ q, N = q + 1 := ⟨N - 1, by omega⟩
    simp only [bX5_reorders_4L, bX5_reorders_4, bX5_reorders_31, pq_lit]
    simp (disch := omega) only [e1, e2, mzt_0, eq_self, ↓reduceIte, Nat.reduceEqDiff, Nat.reduceLeDiff, Nat.reduceLT, Nat.reduceMul, Nat.reduceAdd, not_true_eq_false, not_false_eq_true, Bool.false_eq_true, pq_lit, pq_add, pq_le, pq_lt, pq_eq, pq_en, pq_ne, pq_nle, pq_nlt, pq_len, pq_ltn, pB_z, pB_o, mzt_0, mzt_1, mzt_B]
  · have ei : Int32.ofNat k - Int32.ofNat 2 = im (k - 1) := by
      rw [← im_d, ← pq_sub (show 1 ≤ k by omega), Int32.sub_eq_add_neg, Int32.sub_eq_add_neg, Int32.add_assoc]
      rfl
    have r := m_fi hN h hs hl hk (k - 1) N (by omega) (by omega)
    rw [ei, r]
    cases e : fiN L (k - 1) with
    | none => rfl
    | some i =>
      have hi := fiN_lt _ _ e
      have hj := fjN_le (L := L) (i := i) (k - 1)
      have ho := h.swp (i := i) (j := fjN L i (k - 1)) (by omega) (by omega)
      obtain ⟨f', h1, h2⟩ := m_rv hN 6 (i + 1) (k - 1) N (swp L i (fjN L i (k - 1))) (mR M 39 (upd (upd (M.2.2.1 39) i (M.2.2.1 39 (fjN L i (k - 1)))) (fjN L i (k - 1)) (M.2.2.1 39 i))) (by rw [mA_e]; exact ho) (by rw [swp_len]; exact hl) (by rw [swp_len]; omega) (by omega) (by omega) (by omega)
      refine ⟨f', h1, ?_⟩
      show bX5_reorders_41L N N M (Int32.ofNat k) (Int32.ofNat i) (Int32.ofNat (k - 1)) = _
      rw [m_fj hN h hs hl hk (k - 1) N (by omega) (by omega) (by omega), h2, mR_mR]
end OR
