/-! the model's rows of crossings in use: fewest, way, round, spare, made -/
def stM (S : MS) (p : Nat) : MS := mR (mR (mR (mR (mF (mF (mF S 30 (Int32.ofNat (hm (S.2.2.1 6) p))) 29 (spW (S.2.2.1 6) p)) 28 (Int32.ofNat 0)) 24 (upd (S.2.2.1 24) 0 (S.2.2.1 6 (108 + p)))) 25 (upd (S.2.2.1 25) 0 (S.2.2.1 6 (114 + p)))) 26 (upd (S.2.2.1 26) 0 (S.2.2.1 6 (94 + hm (S.2.2.1 6) p)))) 27 (upd (S.2.2.1 27) 0 (-Int32.ofNat 1))
abbrev dfw : List Nat := [24, 25, 26, 27, 28, 29, 30]
/-- the rows that the model has still to go through -/
def Gs (s : St) (h : Nat) (sp : Int32) (k : Nat) (M : MS) (L : List Row) : Prop := ∃ c, (DW s h sp k M c 0 ∧ M.1 28 = Int32.ofNat 0 ∧ L = remM s h sp k M c 0) ∨ (DW s h sp k M c (k - 1) ∧ M.1 28 = Int32.ofNat k ∧ L = remM s h sp k M c (k - 1))
section DG
variable {N : Nat} {S : MS}
theorem m_starts (hI : IvS (S.2.2.1 6)) {p : Nat} (hp : p < nP (S.2.2.1 6)) : fX5_starts N S (Int32.ofNat p) = some (Int32.ofNat 0, stM S p) := by
  have h6 := hI.p6
  have h7 := hI.l7
  have hl := hI.hl hp
  have hs := m_sp (N := N) (S := mF S 30 (Int32.ofNat (hm (S.2.2.1 6) p))) hI hp
  simp (disch := omega) only [fX5_starts, bX5_starts_0, pq_lit, pq_add, pq_le, pq_lt, pq_eq, pq_en, pq_ne, pq_nle, pq_nlt, pq_len, pq_ltn, pB_z, pB_o, mzt_0, mzt_1, mzt_B, mrd_n, mwr_n, mbd_s, mpt, mF_a, mF_w, mF_L, mF_e, mF_ne, mA_e, mA_n, mA_w, mA_i, mA_L, ma_s, hI.ho hp, hs]
  rfl
theorem stM_sm (S : MS) (p : Nat) : mSm dfw S (stM S p) := by
  unfold stM
  exact ((((((mSm.rf.mF _ (by decide)).mF _ (by decide)).mF _ (by decide)).mR _ (by decide)).mR _ (by decide)).mR _ (by decide)).mR _ (by decide)
theorem Gs_start {s : St} (hs : S.2.2.1 6 = s) {p k : Nat} (sp : Int32) (h1 : 1 ≤ k) (hk : k ≤ 5) : Gs s (hm s p) sp k (mF (stM S p) 29 sp) (rows s (hm s p) sp k (s (108 + p)) (s (114 + p)) (s (94 + hm s p))) := by
  subst hs
  refine ⟨fun _ => 0, Or.inl ⟨⟨rfl, mF_e _ _ _, rfl, by omega, hk, fun i hi => ?_⟩, rfl, ?_⟩⟩
  · have : i = 0 := by omega
    subst this
    exact ⟨rfl, Nat.zero_le _, fun h => absurd h (by omega)⟩
  · obtain ⟨j, rfl⟩ : ∃ j, k = j + 1 := ⟨k - 1, by omega⟩
    rfl
theorem Gs_start0 {s : St} (hs : S.2.2.1 6 = s) {p k : Nat} (h1 : 1 ≤ k) (hk : k ≤ 5) : Gs s (hm s p) (spW s p) k (stM S p) (rows s (hm s p) (spW s p) k (s (108 + p)) (s (114 + p)) (s (94 + hm s p))) := by
  have h := Gs_start (S := S) hs (p := p) (spW s p) h1 hk
  have e : mF (stM S p) 29 (spW s p) = stM S p := by
    subst hs
    exact mF_id (stM S p) 29
  rw [e] at h
  exact h
theorem rows_len {s : St} {h : Nat} {sp : Int32} : ∀ (j : Nat) (w t x : Int32) (r : Row), r ∈ rows s h sp j w t x → r.1.length = j ∧ (∀ l, l ∈ r.1 → l < nL s) ∧ (1 ≤ j → ∃ l, l < nL s ∧ r.2.1 = Int32.ofNat l)
  | 0, w, t, x, r, hr => by
    have := List.mem_singleton.mp hr
    subst this
    exact ⟨rfl, by simp, by omega⟩
  | j + 1, w, t, x, r, hr => by
    have key : ∀ (k l : Nat), l + k = nL s → r ∈ frm s h sp (rows s h sp j) w t x l k → r.1.length = j + 1 ∧ (∀ l, l ∈ r.1 → l < nL s) ∧ (1 ≤ j + 1 → ∃ l, l < nL s ∧ r.2.1 = Int32.ofNat l) := by
      intro k
      induction k with
      | zero => intro l _ hr; cases hr
      | succ k ih =>
        intro l hl hr
        unfold frm at hr
        rcases List.mem_append.mp hr with q | q
        · split at q
          · obtain ⟨r', m1, m2⟩ := List.mem_map.mp q
            obtain ⟨i1, i2, i3⟩ := rows_len j _ _ _ r' m1
            subst m2
            refine ⟨by simp [i1], fun l' hl' => ?_, fun _ => ?_⟩
            · rcases List.mem_cons.mp hl' with e | e
              · omega
              · exact i2 l' e
            · by_cases e : 1 ≤ j
              · exact i3 e
              · have : j = 0 := by omega
                subst this
                have := List.mem_singleton.mp m1
                subst this
                exact ⟨l, by omega, rfl⟩
          · cases q
        · exact ih (l + 1) (by omega) q
    exact key (nL s) 0 (by omega) hr
theorem m_goesTo {s : St} {h : Nat} {sp : Int32} {k : Nat} (hI : IvS s) (hN : 3000000 ≤ N) (hh : h < 7) {M : MS} {L : List Row} (hG : Gs s h sp k M L) :
    (L = [] → ∃ M', fX5_goesTo N M (Int32.ofNat k) = some (Int32.ofNat 0, M') ∧ mSm dfs M M' ∧ Fst M M') ∧
    (∀ row rest, L = row :: rest → ∃ M', fX5_goesTo N M (Int32.ofNat k) = some (Int32.ofNat 1, M') ∧ mSm dfs M M' ∧ Fst M M' ∧ Gs s h sp k M' rest ∧ M'.2.2.1 24 k = row.2.1 ∧ M'.2.2.1 25 k = row.2.2 ∧ Pth (M'.2.2.1 27) row.1 ∧ row.1.length = k) := by
  have h7 := hI.l7
  have fin : ∀ (M0 : MS) (c : Nat → Nat) (D : Nat), DW s h sp k M0 c D → M0.1 28 = Int32.ofNat D → mSm dfs M M0 → Fst M M0 → fX5_goesTo N M (Int32.ofNat k) = bX5_goesTo_18L N N M0 (Int32.ofNat k) →
      (remM s h sp k M0 c D = [] → ∃ M', fX5_goesTo N M (Int32.ofNat k) = some (Int32.ofNat 0, M') ∧ mSm dfs M M' ∧ Fst M M') ∧
      (∀ row rest, remM s h sp k M0 c D = row :: rest → ∃ M', fX5_goesTo N M (Int32.ofNat k) = some (Int32.ofNat 1, M') ∧ mSm dfs M M' ∧ Fst M M' ∧ Gs s h sp k M' rest ∧ M'.2.2.1 24 k = row.2.1 ∧ M'.2.2.1 25 k = row.2.2 ∧ Pth (M'.2.2.1 27) row.1 ∧ row.1.length = k) := by
    intro M0 c D hW hd hs hf e
    have hk5 : k ≤ 5 := hW.2.2.2.2.1
    have hDk : D < k := hW.2.2.2.1
    have z := mSz_le (n := nL s) (k := k) (c := c) h7 hk5 D
    have r := m_goTL hI (show 100 ≤ N by omega) hh N M0 c D hW hd (by omega)
    rw [e]
    refine ⟨fun q => ?_, fun row rest q => ?_⟩
    · obtain ⟨M', i1, i2, i3⟩ := r.1 q
      exact ⟨M', i1, hs.tr i2, i3.trans hf⟩
    · obtain ⟨M', c', i1, i2, i3, i4, i5, i6, i7, i8, i9, i10⟩ := r.2 row rest q
      refine ⟨M', i1, hs.tr i2, i3.trans hf, ⟨c', Or.inr ⟨i5, i4, i6.symm⟩⟩, i8, i9, ?_, ?_⟩
      · intro i l e2
        rw [i10] at e2
        have hi : i < k := by
          obtain ⟨q1, -⟩ := List.getElem?_eq_some_iff.mp e2
          rw [pre_len] at q1
          exact q1
        rw [pre_at c' k i hi] at e2
        have e3 : c' i - 1 = l := Option.some.inj e2
        obtain ⟨x1, x2, x3⟩ := i5.2.2.2.2.2 i (by omega)
        have x4 : 1 ≤ c' i := by
          by_cases e5 : i < k - 1
          · exact x3 e5
          · have : i = k - 1 := by omega
            subst this
            exact i7
        rw [x1, pq_sub x4, e3]
      · rw [i10, pre_len]
  obtain ⟨c, hc⟩ := hG
  rcases hc with ⟨hW, hd, rfl⟩ | ⟨hW, hd, rfl⟩
  · refine fin M c 0 hW hd mSm.rf rfl ?_
    have hk : 0 < k := hW.2.2.2.1
    have hk5 : k ≤ 5 := hW.2.2.2.2.1
    simp only [fX5_goesTo, bX5_goesTo_0, hd]
    rw [if_neg (by rw [pq_eq (by omega) (by omega)]; omega)]
  · have hk : k - 1 < k := hW.2.2.2.1
    have hk5 : k ≤ 5 := hW.2.2.2.2.1
    have W' : DW s h sp k (mF M 28 (Int32.ofNat (k - 1))) c (k - 1) := hW
    refine fin (mF M 28 (Int32.ofNat (k - 1))) c (k - 1) W' (mF_e _ _ _) (mSm.rf.mF _ (by decide)) rfl ?_
    simp only [fX5_goesTo, bX5_goesTo_0, hd, if_true, mpt, pq_lit]
    rw [pq_sub (by omega)]
/-- the first row that comes to a land, so long -/
def fnd (l n : Int32) (L : List Row) : Option Row := L.find? (fun r => decide (r.2.1 = l ∧ ¬ r.2.2 < n))
def fewS (s : St) (h : Nat) (sp w t x l n : Int32) : Nat → Nat → Option (Nat × Row)
  | _, 0 => none
  | k, m + 1 => match fnd l n (rows s h sp k w t x) with
    | some r => some (k, r)
    | none => fewS s h sp w t x l n (k + 1) m
theorem rows_cnt {s : St} {h : Nat} {sp : Int32} (hL : nL s ≤ 7) : ∀ (j : Nat) (w t x : Int32), (rows s h sp j w t x).length ≤ 7 ^ j
  | 0, _, _, _ => by simp [rows]
  | j + 1, w, t, x => by
    have key : ∀ k l, (frm s h sp (rows s h sp j) w t x l k).length ≤ k * 7 ^ j := by
      intro k
      induction k with
      | zero => intro l; simp [frm]
      | succ k ih =>
        intro l
        unfold frm
        rw [List.length_append, Nat.add_mul, Nat.one_mul]
        have i1 := ih (l + 1)
        split
        · rw [List.length_map]
          have := rows_cnt (h := h) (sp := sp) hL j (Int32.ofNat l) (wTl s h sp t x l) (wSt s h t x l)
          omega
        · simp only [List.length_nil]
          generalize 7 ^ j = z at *
          omega
    have := key (nL s) 0
    have p : nL s * 7 ^ j ≤ 7 * 7 ^ j := Nat.mul_le_mul_right _ hL
    rw [Nat.pow_succ]
    show (frm s h sp (rows s h sp j) w t x 0 (nL s)).length ≤ _
    omega
theorem m_fewL {s : St} {h : Nat} {sp : Int32} {k : Nat} (hI : IvS s) (hN : 3000000 ≤ N) (hh : h < 7) (hk : 1 ≤ k ∧ k ≤ 5) {K3 : MS → Int32 → Int32 → Int32 → Int32 → Int32 → Option (Int32 × MS)} {x1 l n x4 : Int32} : ∀ (L : List Row) (m : Nat) (M : MS), Gs s h sp k M L → L.length < m → ∃ M', mSm dfs M M' ∧ Fst M M' ∧ (match fnd l n L with
    | some r => bX5_fewest_52L N K3 m M x1 l n x4 (Int32.ofNat k) = some (Int32.ofNat k, M') ∧ Pth (M'.2.2.1 27) r.1
    | none => bX5_fewest_52L N K3 m M x1 l n x4 (Int32.ofNat k) = K3 M' x1 l n x4 (Int32.ofNat (k + 1)))
  | L, 0, M, _, h => by omega
  | [], m + 1, M, hG, _ => by
    obtain ⟨M', i1, i2, i3⟩ := (m_goesTo hI hN hh hG).1 rfl
    refine ⟨M', i2, i3, ?_⟩
    show _ = _
    simp (disch := omega) only [bX5_fewest_52L, bX5_fewest_52, bX5_fewest_91, i1, pq_lit, pq_add, pq_le, pq_lt, pq_eq, pq_en, pq_ne, pq_nle, pq_nlt, pq_len, pq_ltn, pB_z, pB_o, mzt_0, mzt_1, mzt_B, mrd_n, mwr_n, mbd_s, mpt, mF_a, mF_w, mF_L, mF_e, mF_ne, mA_e, mA_n, mA_w, mA_i, mA_L, ma_s, if_true]
    rw [if_neg (by omega)]
  | r :: L, m + 1, M, hG, hm => by
    obtain ⟨M', i1, i2, i3, i4, i5, i6, i7, i8⟩ := (m_goesTo hI hN hh hG).2 r L rfl
    obtain ⟨M2, j1, j2, j3⟩ := m_fewL hI hN hh hk (K3 := K3) (x1 := x1) (l := l) (n := n) (x4 := x4) L m M' i4 (by simp only [List.length_cons] at hm; omega)
    have e1 : bX5_fewest_52L N K3 (m + 1) M x1 l n x4 (Int32.ofNat k) = if r.2.1 = l ∧ ¬ r.2.2 < n then some (Int32.ofNat k, M') else bX5_fewest_52L N K3 m M' x1 l n x4 (Int32.ofNat k) := by
      simp (disch := omega) only [bX5_fewest_52L, bX5_fewest_52, i1, pq_lit, pq_add, pq_le, pq_lt, pq_eq, pq_en, pq_ne, pq_nle, pq_nlt, pq_len, pq_ltn, pB_z, pB_o, mzt_0, mzt_1, mzt_B, mrd_n, mwr_n, mbd_s, mpt, mF_a, mF_w, mF_L, mF_e, mF_ne, mA_e, mA_n, mA_w, mA_i, mA_L, ma_s, i5, i6]
      rw [if_neg (by omega), if_neg (by omega)]
      by_cases a1 : r.2.1 = l
      · by_cases a2 : r.2.2 < n
        · rw [if_pos a1, if_pos a2, if_neg (fun q => q.2 a2)]
        · rw [if_pos a1, if_neg a2, if_pos ⟨a1, a2⟩]
      · rw [if_neg a1, if_neg (fun q => a1 q.1)]
    rw [e1]
    by_cases q : r.2.1 = l ∧ ¬ r.2.2 < n
    · refine ⟨M', i2, i3, ?_⟩
      have e2 : fnd l n (r :: L) = some r := by
        unfold fnd
        rw [List.find?_cons_of_pos (by simpa using q)]
      rw [e2, if_pos q]
      exact ⟨rfl, i7⟩
    · refine ⟨M2, i2.tr j1, j2.trans i3, ?_⟩
      have e2 : fnd l n (r :: L) = fnd l n L := by
        unfold fnd
        rw [List.find?_cons_of_neg (by simpa using q)]
      rw [e2, if_neg q]
      exact j3
theorem m_few3 {s : St} (hI : IvS s) (hN : 3000000 ≤ N) {p : Nat} (hp : p < nP s) {l n more : Int32} : ∀ (m k q : Nat) (M : MS), M.2.2.1 6 = s → k + m = 6 → m < q → ∃ M', mSm dfw M M' ∧ (match fewS s (hm s p) (spW s p ||| more) (s (108 + p)) (s (114 + p)) (s (94 + hm s p)) l n k m with
    | some r => bX5_fewest_3L N q M (Int32.ofNat p) l n more (Int32.ofNat k) = some (Int32.ofNat r.1, M') ∧ Pth (M'.2.2.1 27) r.2.1 ∧ r.1 ≤ 5 ∧ r.2.1.length = r.1
    | none => bX5_fewest_3L N q M (Int32.ofNat p) l n more (Int32.ofNat k) = some (Int32.ofNat 1000000, M'))
  | m, k, 0, M, _, _, h => by omega
  | 0, k, q + 1, M, h6, hk, _ => by
    refine ⟨M, mSm.rf, ?_⟩
    show _ = _
    simp (disch := omega) only [bX5_fewest_3L, bX5_fewest_3, pq_lit, pq_add, pq_le, pq_lt, pq_eq, pq_en, pq_ne, pq_nle, pq_nlt, pq_len, pq_ltn, pB_z, pB_o, mzt_0, mzt_1, mzt_B, mrd_n, mwr_n, mbd_s, mpt, mF_a, mF_w, mF_L, mF_e, mF_ne, mA_e, mA_n, mA_w, mA_i, mA_L, ma_s]
    rw [if_pos (by omega)]
  | m + 1, k, q + 1, M, h6, hk, hq => by
    have h7 := hI.l7
    have hp6 := hI.p6
    have hh := hI.hl hp
    have e1 := m_starts (N := N) (S := M) (p := p) (by rw [h6]; exact hI) (by rw [h6]; exact hp)
    have e29 : (stM M p).1 29 = spW s p := by rw [← h6]; rfl
    have e6 : (mF (stM M p) 29 (spW s p ||| more)).2.2.1 6 = s := by
      unfold stM
      simp (disch := omega) only [mF_a, mA_n, h6]
    have e24 : (stM M p).2.2.1 24 0 = s (108 + p) := by
      unfold stM
      simp (disch := omega) only [mF_a, mA_n, mA_e, upd_s, h6]
    have e25 : (stM M p).2.2.1 25 0 = s (114 + p) := by
      unfold stM
      simp (disch := omega) only [mF_a, mA_n, mA_e, upd_s, h6]
    have sm0 : mSm dfw M (mF (stM M p) 29 (spW s p ||| more)) := (stM_sm M p).mF _ (by decide)
    have st : bX5_fewest_3L N (q + 1) M (Int32.ofNat p) l n more (Int32.ofNat k) = if k = 0 ∧ s (108 + p) = l ∧ ¬ s (114 + p) < n then some (Int32.ofNat 0, mF (stM M p) 29 (spW s p ||| more)) else bX5_fewest_52L N (bX5_fewest_3L N q) N (mF (stM M p) 29 (spW s p ||| more)) (Int32.ofNat p) l n more (Int32.ofNat k) := by
      simp (disch := omega) only [bX5_fewest_3L, bX5_fewest_3, e1, pq_lit, pq_add, pq_le, pq_lt, pq_eq, pq_en, pq_ne, pq_nle, pq_nlt, pq_len, pq_ltn, pB_z, pB_o, mzt_0, mzt_1, mzt_B, mrd_n, mwr_n, mbd_s, mpt, mF_a, mF_w, mF_L, mF_e, mF_ne, mA_e, mA_n, mA_w, mA_i, mA_L, ma_s, e29, e24, e25]
      rw [if_neg (by omega)]
      by_cases a0 : k = 0
      · by_cases a1 : s (108 + p) = l
        · by_cases a2 : s (114 + p) < n
          · rw [if_pos a0, if_pos a1, if_pos a2, if_neg (fun w => w.2.2 a2)]
          · rw [if_pos a0, if_pos a1, if_neg a2, if_pos ⟨a0, a1, a2⟩]
        · rw [if_pos a0, if_neg a1, if_neg (fun w => a1 w.2.1)]
      · rw [if_neg a0, if_neg (fun w => a0 w.1)]
    obtain ⟨M0, hM0⟩ : ∃ M0, M0 = mF (stM M p) 29 (spW s p ||| more) := ⟨_, rfl⟩
    rw [st, ← hM0]
    rw [← hM0] at sm0 e6
    unfold fewS
    by_cases a0 : k = 0
    · subst a0
      have rw0 : fnd l n (rows s (hm s p) (spW s p ||| more) 0 (s (108 + p)) (s (114 + p)) (s (94 + hm s p))) = if s (108 + p) = l ∧ ¬ s (114 + p) < n then some ([], s (108 + p), s (114 + p)) else none := by
        unfold fnd rows
        by_cases w : s (108 + p) = l ∧ ¬ s (114 + p) < n
        · rw [List.find?_cons_of_pos (by simpa using w), if_pos w]
        · rw [List.find?_cons_of_neg (by simpa using w), if_neg w]
          rfl
      rw [rw0]
      by_cases w : s (108 + p) = l ∧ ¬ s (114 + p) < n
      · rw [if_pos w, if_pos ⟨rfl, w⟩]
        exact ⟨M0, sm0, rfl, by intro i l q; simp at q, by omega, rfl⟩
      · rw [if_neg w, if_neg (fun z => w z.2)]
        obtain ⟨M', i1, i2⟩ := m_few3 hI hN hp (l := l) (n := n) (more := more) m 1 q M0 e6 (by omega) (by omega)
        refine ⟨M', sm0.tr i1, ?_⟩
        have e : bX5_fewest_52L N (bX5_fewest_3L N q) N M0 (Int32.ofNat p) l n more (Int32.ofNat 0) = bX5_fewest_3L N q M0 (Int32.ofNat p) l n more (Int32.ofNat 1) := by
          obtain ⟨N', rfl⟩ : ∃ N', N = N' + 1 := ⟨N - 1, by omega⟩
          simp (disch := omega) only [bX5_fewest_52L, bX5_fewest_52, bX5_fewest_91, pq_lit, pq_add, pq_le, pq_lt, pq_eq, pq_en, pq_ne, pq_nle, pq_nlt, pq_len, pq_ltn, pB_z, pB_o, mzt_0, mzt_1, mzt_B, mrd_n, mwr_n, mbd_s, mpt, mF_a, mF_w, mF_L, mF_e, mF_ne, mA_e, mA_n, mA_w, mA_i, mA_L, ma_s, Nat.le_refl, if_true]
        rw [e]
        exact i2
    · rw [if_neg (fun w => a0 w.1)]
      have hG := Gs_start (S := M) h6 (p := p) (k := k) (spW s p ||| more) (by omega) (by omega)
      rw [← hM0] at hG
      have hc := rows_cnt (s := s) (h := hm s p) (sp := spW s p ||| more) h7 k (s (108 + p)) (s (114 + p)) (s (94 + hm s p))
      have h75 : 7 ^ k ≤ 7 ^ 5 := Nat.pow_le_pow_right (by omega) (by omega)
      obtain ⟨M', i1, i2, i3⟩ := m_fewL hI hN (by omega) (by omega) (K3 := bX5_fewest_3L N q) (x1 := Int32.ofNat p) (l := l) (n := n) (x4 := more) _ N M0 hG (by omega)
      have sm1 : mSm dfw M M' := sm0.tr (i1.su (by decide))
      cases e : fnd l n (rows s (hm s p) (spW s p ||| more) k (s (108 + p)) (s (114 + p)) (s (94 + hm s p))) with
      | some r =>
        rw [e] at i3
        have hr := rows_len k _ _ _ r (List.mem_of_find?_eq_some e)
        exact ⟨M', sm1, i3.1, i3.2, by omega, hr.1⟩
      | none =>
        rw [e] at i3
        obtain ⟨M2, j1, j2⟩ := m_few3 hI hN hp (l := l) (n := n) (more := more) m (k + 1) q M' (((i1.2 6 (by decide)).2).trans e6) (by omega) (by omega)
        refine ⟨M2, sm1.tr j1, ?_⟩
        have i3' : bX5_fewest_52L N (bX5_fewest_3L N q) N M0 (Int32.ofNat p) l n more (Int32.ofNat k) = bX5_fewest_3L N q M' (Int32.ofNat p) l n more (Int32.ofNat (k + 1)) := i3
        rw [i3']
        exact j2
theorem m_few {s : St} (hI : IvS s) (hN : 3000000 ≤ N) {p : Nat} (hp : p < nP s) (l n more : Int32) {M : MS} (h6 : M.2.2.1 6 = s) : ∃ M', mSm dfw M M' ∧ (match fewS s (hm s p) (spW s p ||| more) (s (108 + p)) (s (114 + p)) (s (94 + hm s p)) l n 0 6 with
    | some r => fX5_fewest N M (Int32.ofNat p) l n more = some (Int32.ofNat r.1, M') ∧ Pth (M'.2.2.1 27) r.2.1 ∧ r.1 ≤ 5 ∧ r.2.1.length = r.1
    | none => fX5_fewest N M (Int32.ofNat p) l n more = some (Int32.ofNat 1000000, M')) := m_few3 hI hN hp 6 0 N M h6 (by omega) (by omega)
end DG
