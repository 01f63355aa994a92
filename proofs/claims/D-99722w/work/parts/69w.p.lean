/-! sentences: one operand, up to its first token -/
def x5t : Nat → Int32 := fun i => if i = 2 then Int32.ofNat 0 else if i = 3 then Int32.ofNat 1 else if i = 4 then Int32.ofNat 2 else -Int32.ofNat 1
def x6t : Nat → Int32 := fun i => if i = 5 then Int32.ofNat 0 else if i = 6 then Int32.ofNat 1 else if i = 7 then Int32.ofNat 2 else if i = 8 then Int32.ofNat 3 else -Int32.ofNat 1
def x7t : Nat → Int32 := fun i => if i < 9 then Int32.ofNat i else -Int32.ofNat 1
/-- by what a condition may begin -/
def Cl (t : Tk) (i : Nat) : Prop := (i < 10 ∧ t.1 = 2 ∧ opn t = false ∧ ∀ j, j < 12 → tg t j = decide (i = j)) ∨ (i = 12 ∧ t.1 = 6 ∧ opn t = true ∧ ∀ j, j < 12 → tg t j = false)
def Nc (t : Tk) (i : Nat) : Prop := (i = 10 ∨ i = 11 ∨ i = 13) ∧ opn t = false ∧ ∀ j, j < 12 → tg t j = decide (i = j)
theorem cl_or (t : Tk) : (∃ i, Cl t i) ∨ ∃ i, Nc t i := by
  rcases tk_cl t with ⟨i, hi, h1, h2, h3⟩ | ⟨h1, h2, h3⟩ | ⟨h1, h2⟩
  · by_cases e : i < 10
    · exact Or.inl ⟨i, Or.inl ⟨e, h1, h2, h3⟩⟩
    · exact Or.inr ⟨i, by omega, h2, h3⟩
  · exact Or.inl ⟨12, Or.inr ⟨rfl, h2, h1, h3⟩⟩
  · exact Or.inr ⟨13, Or.inr (Or.inr rfl), h1, fun j hj => by rw [h2 j hj]; exact (decide_eq_false (by omega)).symm⟩
theorem cl_i {t : Tk} {i : Nat} (h : Cl t i) : (i = 0 ∨ i = 1 ∨ i = 2 ∨ i = 3 ∨ i = 4 ∨ i = 5 ∨ i = 6 ∨ i = 7 ∨ i = 8 ∨ i = 9 ∨ i = 12) ∧ 2 ≤ t.1 ∧ opn t = decide (i = 12) ∧ ∀ j, j < 12 → tg t j = decide (i = j) := by
  rcases h with ⟨h1, h2, h3, h4⟩ | ⟨h1, h2, h3, h4⟩
  · exact ⟨by omega, by omega, by rw [h3]; exact (decide_eq_false (by omega)).symm, h4⟩
  · exact ⟨by omega, by omega, by rw [h3, h1]; rfl, fun j hj => by rw [h4 j hj]; exact (decide_eq_false (by omega)).symm⟩
section SD
variable {E : gE} {N b : Nat} {A : FA} {S0 S : GS} {M0 M : MS} {q a nl l0 n lim fr on wi : Nat} {f0 : Nat → Nat} {t : Tk} {ρ0 ρ1 ρ2 ρ3 : GS → Option Nat → Option ((Option Nat ⊕ Nat) × GS)}
theorem c_opn (h : Rd b A S M q 18 (sEx a on wi) n lim fr t) : bX25_says_0 E N ρ0 ρ1 ρ2 ρ3 q (put b A S) = bX25_says_23 E N ρ0 ρ1 ρ2 ρ3 q (put b A S) (bI (opn t)) := by
  obtain ⟨p, kd, nu, sg, wr, c, h1, h2, h3, h4, h5, h6, h7, hk, h9, h10, h11, h12⟩ := h
  have r47 := fun {β : Type} (K : Int32 → Option β) => rd_47 hk c A K
  have r50 := fun {β : Type} (K : Int32 → Option β) => rd_50 hk c A K
  by_cases e : t.1 = 6
  · have hw : kd = Int32.ofNat 6 ∧ sgOk t.2.2 ∧ sg = Int32.ofNat t.2.2 := by
      rcases h12 with h | h | h | h | h | h
      · omega
      · omega
      · omega
      · omega
      · omega
      · exact ⟨h.2.1, h.2.2.2.1, h.2.2.2.2.1⟩
    have sl : t.2.2 ≤ 62 := by have := hw.2.1; unfold sgOk at this; omega
    by_cases e2 : t.2.2 = 40
    · have eo : opn t = true := decide_eq_true ⟨e, e2⟩
      rw [eo]
      simp only [bX25_says_0, pq_lit]
      simp (disch := omega) only [↓r47, hw.1, ↓r50, hw.2.2, e2, bI_t, ↓gbd_s, gbd_s, ↓gbx_s, gbx_s, ↓gnn_s, ↓grf_s, eq_self, ↓reduceIte, Nat.reduceEqDiff, Nat.reduceLeDiff, Nat.reduceLT, Nat.reduceMul, Nat.reduceAdd, not_true_eq_false, not_false_eq_true, Bool.false_eq_true, pq_lit, pq_add, pq_le, pq_lt, pq_eq, pq_en, pq_ne, pq_nle, pq_nlt, pq_len, pq_ltn, pB_z, pB_o, mzt_0, mzt_1, mzt_B]
    · have eo : opn t = false := decide_eq_false (fun q => e2 q.2)
      rw [eo]
      simp only [bX25_says_0, bX25_says_22, pq_lit]
      simp (disch := omega) only [↓r47, hw.1, ↓r50, hw.2.2, e2, bI_f, ↓gbd_s, gbd_s, ↓gbx_s, gbx_s, ↓gnn_s, ↓grf_s, eq_self, ↓reduceIte, Nat.reduceEqDiff, Nat.reduceLeDiff, Nat.reduceLT, Nat.reduceMul, Nat.reduceAdd, not_true_eq_false, not_false_eq_true, Bool.false_eq_true, pq_lit, pq_add, pq_le, pq_lt, pq_eq, pq_en, pq_ne, pq_nle, pq_nlt, pq_len, pq_ltn, pB_z, pB_o, mzt_0, mzt_1, mzt_B]
  · have eo : opn t = false := decide_eq_false (fun q => e q.1)
    have nk : ¬ kd = Int32.ofNat 6 := by
      rcases h12 with h | h | h | h | h | h
      · rw [h.2.1]; decide
      · rcases h.2.1 with q | q <;> rw [q] <;> decide
      · rw [h.2.1]; decide
      · rw [h.2.1]; decide
      · rw [h.2.1]; decide
      · exact absurd h.1 e
    rw [eo]
    simp only [bX25_says_0, bX25_says_22, pq_lit]
    simp (disch := omega) only [↓r47, nk, bI_f, ↓gbd_s, gbd_s, ↓gbx_s, gbx_s, ↓gnn_s, ↓grf_s, eq_self, ↓reduceIte, Nat.reduceEqDiff, Nat.reduceLeDiff, Nat.reduceLT, Nat.reduceMul, Nat.reduceAdd, not_true_eq_false, not_false_eq_true, Bool.false_eq_true, pq_lit, pq_add, pq_le, pq_lt, pq_eq, pq_en, pq_ne, pq_nle, pq_nlt, pq_len, pq_ltn, pB_z, pB_o, mzt_0, mzt_1, mzt_B]
theorem m_opn (h : Rd b A S M q 18 (sEx a on wi) n lim fr t) : fX5_isSign N M (Int32.ofNat 40) = some (bI (opn t), M) ∧ fX5_isSign N M (Int32.ofNat 41) = some (bI (cls t), M) := by
  obtain ⟨p, kd, nu, sg, wr, c, h1, h2, h3, h4, h5, h6, h7, hk, h9, h10, h11, h12⟩ := h
  have key : ∀ x, x = 40 ∨ x = 41 → fX5_isSign N M (Int32.ofNat x) = some (bI (decide (t.1 = 6 ∧ t.2.2 = x)), M) := by
    intro x hx
    by_cases e : t.1 = 6
    · have hw : M.1 11 = Int32.ofNat 3 ∧ sgOk t.2.2 ∧ M.1 14 = Int32.ofNat t.2.2 := by
        rcases h12 with h | h | h | h | h | h
        · omega
        · omega
        · omega
        · omega
        · omega
        · exact ⟨h.2.2.1, h.2.2.2.1, h.2.2.2.2.2⟩
      have sl : t.2.2 ≤ 62 := by have := hw.2.1; unfold sgOk at this; omega
      by_cases e2 : t.2.2 = x
      · rw [decide_eq_true ⟨e, e2⟩]
        simp only [bX5_isSign_21, bX5_isSign_20, bX5_isSign_0, fX5_isSign, pq_lit]
        simp (disch := omega) only [hw.1, hw.2.2, e2, bI_t, ↓mbd_s, mbd_s, eq_self, ↓reduceIte, Nat.reduceEqDiff, Nat.reduceLeDiff, Nat.reduceLT, Nat.reduceMul, Nat.reduceAdd, not_true_eq_false, not_false_eq_true, Bool.false_eq_true, pq_lit, pq_add, pq_le, pq_lt, pq_eq, pq_en, pq_ne, pq_nle, pq_nlt, pq_len, pq_ltn, pB_z, pB_o, mzt_0, mzt_1, mzt_B]
      · rw [decide_eq_false (fun q => e2 q.2)]
        simp only [bX5_isSign_21, bX5_isSign_20, bX5_isSign_0, fX5_isSign, pq_lit]
        simp (disch := omega) only [hw.1, hw.2.2, e2, bI_f, ↓mbd_s, mbd_s, eq_self, ↓reduceIte, Nat.reduceEqDiff, Nat.reduceLeDiff, Nat.reduceLT, Nat.reduceMul, Nat.reduceAdd, not_true_eq_false, not_false_eq_true, Bool.false_eq_true, pq_lit, pq_add, pq_le, pq_lt, pq_eq, pq_en, pq_ne, pq_nle, pq_nlt, pq_len, pq_ltn, pB_z, pB_o, mzt_0, mzt_1, mzt_B]
    · rw [decide_eq_false (fun q => e q.1)]
      have hw : M.1 11 = Int32.ofNat 3 → M.1 14 = Int32.ofNat 59 := by
        rcases h12 with h | h | h | h | h | h
        · rw [h.2.2]; exact fun q => absurd q (by decide)
        · rw [h.2.2]; exact fun q => absurd q (by decide)
        · rw [h.2.2.1]; exact fun q => absurd q (by decide)
        · rw [h.2.2.1]; exact fun q => absurd q (by decide)
        · exact fun _ => h.2.2.2
        · exact absurd h.1 e
      by_cases e3 : M.1 11 = Int32.ofNat 3
      · have e14 := hw e3
        have e15 : ¬ 59 = x := by omega
        simp only [bX5_isSign_21, bX5_isSign_20, bX5_isSign_0, fX5_isSign, pq_lit]
        simp (disch := omega) only [e3, e14, e15, bI_f, ↓mbd_s, mbd_s, eq_self, ↓reduceIte, Nat.reduceEqDiff, Nat.reduceLeDiff, Nat.reduceLT, Nat.reduceMul, Nat.reduceAdd, not_true_eq_false, not_false_eq_true, Bool.false_eq_true, pq_lit, pq_add, pq_le, pq_lt, pq_eq, pq_en, pq_ne, pq_nle, pq_nlt, pq_len, pq_ltn, pB_z, pB_o, mzt_0, mzt_1, mzt_B]
      · simp only [bX5_isSign_21, bX5_isSign_20, bX5_isSign_0, fX5_isSign, pq_lit]
        simp (disch := omega) only [e3, bI_f, ↓mbd_s, mbd_s, eq_self, ↓reduceIte, Nat.reduceEqDiff, Nat.reduceLeDiff, Nat.reduceLT, Nat.reduceMul, Nat.reduceAdd, not_true_eq_false, not_false_eq_true, Bool.false_eq_true, pq_lit, pq_add, pq_le, pq_lt, pq_eq, pq_en, pq_ne, pq_nle, pq_nlt, pq_len, pq_ltn, pB_z, pB_o, mzt_0, mzt_1, mzt_B]
  exact ⟨key 40 (Or.inl rfl), key 41 (Or.inr rfl)⟩
theorem c_cl (cx : SCx E N b A S0 M0 q a nl l0 f0) (x : Ext S0 S) (h : Rd b A S M q 18 (sEx a on wi) n lim fr t) {i : Nat} (hi : i < 14) (ho : opn t = decide (i = 12)) (hg : ∀ j, j < 12 → tg t j = decide (i = j)) : bX25_says_0 E N ρ0 ρ1 ρ2 ρ3 q (put b A S) = bX25_says_68 E N ρ0 ρ1 ρ2 ρ3 q (put b A S) (bI (decide (i = 12))) (bI (decide (i = 9))) (bI (decide (i = 0))) (bI (decide (i = 0) || decide (i = 1))) (x5t i) (x6t i) := by
  obtain ⟨ic, im⟩ := s_is cx x h
  have i9 := ic 11 9 (by decide)
  have i0 := ic 12 0 (by decide)
  have i1 := ic 13 1 (by decide)
  have i2 := ic 14 2 (by decide)
  have i3 := ic 15 3 (by decide)
  have i4 := ic 16 4 (by decide)
  have i5 := ic 17 5 (by decide)
  have i6 := ic 18 6 (by decide)
  have i7 := ic 19 7 (by decide)
  have i8 := ic 20 8 (by decide)
  rw [hg 9 (by omega)] at i9
  rw [hg 0 (by omega)] at i0
  rw [hg 1 (by omega)] at i1
  rw [hg 2 (by omega)] at i2
  rw [hg 3 (by omega)] at i3
  rw [hg 4 (by omega)] at i4
  rw [hg 5 (by omega)] at i5
  rw [hg 6 (by omega)] at i6
  rw [hg 7 (by omega)] at i7
  rw [hg 8 (by omega)] at i8
  rw [c_opn h, ho]
  have hn : fX25_named E N (put b A S) q = some (x5t i, put b A S) := by
    simp only [fX25_named, bX25_named_0, bX25_named_40, x5t, pq_lit]
    by_cases e2 : i = 2
    · subst e2
      simp (disch := omega) only [v_is h, ↓gbd_h (i2), i2, decide_true, bI_t, ↓gbd_s, gbd_s, ↓gbx_s, gbx_s, ↓gnn_s, ↓grf_s, eq_self, ↓reduceIte, Nat.reduceEqDiff, Nat.reduceLeDiff, Nat.reduceLT, Nat.reduceMul, Nat.reduceAdd, not_true_eq_false, not_false_eq_true, Bool.false_eq_true, pq_lit, pq_add, pq_le, pq_lt, pq_eq, pq_en, pq_ne, pq_nle, pq_nlt, pq_len, pq_ltn, pB_z, pB_o, mzt_0, mzt_1, mzt_B]
    · by_cases e3 : i = 3
      · subst e3
        simp (disch := omega) only [v_is h, ↓gbd_h (i2), i2, ↓gbd_h (i3), i3, e2, decide_true, decide_false, bI_t, bI_f, ↓gbd_s, gbd_s, ↓gbx_s, gbx_s, ↓gnn_s, ↓grf_s, eq_self, ↓reduceIte, Nat.reduceEqDiff, Nat.reduceLeDiff, Nat.reduceLT, Nat.reduceMul, Nat.reduceAdd, not_true_eq_false, not_false_eq_true, Bool.false_eq_true, pq_lit, pq_add, pq_le, pq_lt, pq_eq, pq_en, pq_ne, pq_nle, pq_nlt, pq_len, pq_ltn, pB_z, pB_o, mzt_0, mzt_1, mzt_B]
      · by_cases e4 : i = 4
        · subst e4
          simp (disch := omega) only [v_is h, ↓gbd_h (i2), i2, ↓gbd_h (i3), i3, ↓gbd_h (i4), i4, e2, e3, decide_true, decide_false, bI_t, bI_f, ↓gbd_s, gbd_s, ↓gbx_s, gbx_s, ↓gnn_s, ↓grf_s, eq_self, ↓reduceIte, Nat.reduceEqDiff, Nat.reduceLeDiff, Nat.reduceLT, Nat.reduceMul, Nat.reduceAdd, not_true_eq_false, not_false_eq_true, Bool.false_eq_true, pq_lit, pq_add, pq_le, pq_lt, pq_eq, pq_en, pq_ne, pq_nle, pq_nlt, pq_len, pq_ltn, pB_z, pB_o, mzt_0, mzt_1, mzt_B]
        · simp (disch := omega) only [v_is h, ↓gbd_h (i2), i2, ↓gbd_h (i3), i3, ↓gbd_h (i4), i4, e2, e3, e4, decide_true, decide_false, bI_t, bI_f, ↓gbd_s, gbd_s, ↓gbx_s, gbx_s, ↓gnn_s, ↓grf_s, eq_self, ↓reduceIte, Nat.reduceEqDiff, Nat.reduceLeDiff, Nat.reduceLT, Nat.reduceMul, Nat.reduceAdd, not_true_eq_false, not_false_eq_true, Bool.false_eq_true, pq_lit, pq_add, pq_le, pq_lt, pq_eq, pq_en, pq_ne, pq_nle, pq_nlt, pq_len, pq_ltn, pB_z, pB_o, mzt_0, mzt_1, mzt_B]
  have hb : fX25_numbered E N (put b A S) q = some (x6t i, put b A S) := by
    simp only [fX25_numbered, bX25_numbered_0, bX25_numbered_53, x6t, pq_lit]
    by_cases e2 : i = 5
    · subst e2
      simp (disch := omega) only [v_is h, ↓gbd_h (i5), i5, decide_true, bI_t, ↓gbd_s, gbd_s, ↓gbx_s, gbx_s, ↓gnn_s, ↓grf_s, eq_self, ↓reduceIte, Nat.reduceEqDiff, Nat.reduceLeDiff, Nat.reduceLT, Nat.reduceMul, Nat.reduceAdd, not_true_eq_false, not_false_eq_true, Bool.false_eq_true, pq_lit, pq_add, pq_le, pq_lt, pq_eq, pq_en, pq_ne, pq_nle, pq_nlt, pq_len, pq_ltn, pB_z, pB_o, mzt_0, mzt_1, mzt_B]
    · by_cases e3 : i = 6
      · subst e3
        simp (disch := omega) only [v_is h, ↓gbd_h (i5), i5, ↓gbd_h (i6), i6, e2, decide_true, decide_false, bI_t, bI_f, ↓gbd_s, gbd_s, ↓gbx_s, gbx_s, ↓gnn_s, ↓grf_s, eq_self, ↓reduceIte, Nat.reduceEqDiff, Nat.reduceLeDiff, Nat.reduceLT, Nat.reduceMul, Nat.reduceAdd, not_true_eq_false, not_false_eq_true, Bool.false_eq_true, pq_lit, pq_add, pq_le, pq_lt, pq_eq, pq_en, pq_ne, pq_nle, pq_nlt, pq_len, pq_ltn, pB_z, pB_o, mzt_0, mzt_1, mzt_B]
      · by_cases e4 : i = 7
        · subst e4
          simp (disch := omega) only [v_is h, ↓gbd_h (i5), i5, ↓gbd_h (i6), i6, ↓gbd_h (i7), i7, e2, e3, decide_true, decide_false, bI_t, bI_f, ↓gbd_s, gbd_s, ↓gbx_s, gbx_s, ↓gnn_s, ↓grf_s, eq_self, ↓reduceIte, Nat.reduceEqDiff, Nat.reduceLeDiff, Nat.reduceLT, Nat.reduceMul, Nat.reduceAdd, not_true_eq_false, not_false_eq_true, Bool.false_eq_true, pq_lit, pq_add, pq_le, pq_lt, pq_eq, pq_en, pq_ne, pq_nle, pq_nlt, pq_len, pq_ltn, pB_z, pB_o, mzt_0, mzt_1, mzt_B]
        · by_cases e5 : i = 8
          · subst e5
            simp (disch := omega) only [v_is h, ↓gbd_h (i5), i5, ↓gbd_h (i6), i6, ↓gbd_h (i7), i7, ↓gbd_h (i8), i8, e2, e3, e4, decide_true, decide_false, bI_t, bI_f, ↓gbd_s, gbd_s, ↓gbx_s, gbx_s, ↓gnn_s, ↓grf_s, eq_self, ↓reduceIte, Nat.reduceEqDiff, Nat.reduceLeDiff, Nat.reduceLT, Nat.reduceMul, Nat.reduceAdd, not_true_eq_false, not_false_eq_true, Bool.false_eq_true, pq_lit, pq_add, pq_le, pq_lt, pq_eq, pq_en, pq_ne, pq_nle, pq_nlt, pq_len, pq_ltn, pB_z, pB_o, mzt_0, mzt_1, mzt_B]
          · simp (disch := omega) only [v_is h, ↓gbd_h (i5), i5, ↓gbd_h (i6), i6, ↓gbd_h (i7), i7, ↓gbd_h (i8), i8, e2, e3, e4, e5, decide_true, decide_false, bI_t, bI_f, ↓gbd_s, gbd_s, ↓gbx_s, gbx_s, ↓gnn_s, ↓grf_s, eq_self, ↓reduceIte, Nat.reduceEqDiff, Nat.reduceLeDiff, Nat.reduceLT, Nat.reduceMul, Nat.reduceAdd, not_true_eq_false, not_false_eq_true, Bool.false_eq_true, pq_lit, pq_add, pq_le, pq_lt, pq_eq, pq_en, pq_ne, pq_nle, pq_nlt, pq_len, pq_ltn, pB_z, pB_o, mzt_0, mzt_1, mzt_B]
  have k1 : ∀ o, bX25_says_23 E N ρ0 ρ1 ρ2 ρ3 q (put b A S) o = bX25_says_30 E N ρ0 ρ1 ρ2 ρ3 q (put b A S) o (bI (decide (i = 9))) := by
    intro o
    unfold bX25_says_23
    rw [v_is h, gbd_h i9]
  have k2 : ∀ o n, bX25_says_30 E N ρ0 ρ1 ρ2 ρ3 q (put b A S) o n = bX25_says_37 E N ρ0 ρ1 ρ2 ρ3 q (put b A S) o n (bI (decide (i = 0))) := by
    intro o n
    unfold bX25_says_30
    rw [v_is h, gbd_h i0]
  have k3 : ∀ o n, bX25_says_37 E N ρ0 ρ1 ρ2 ρ3 q (put b A S) o n (bI (decide (i = 0))) = bX25_says_56 E N ρ0 ρ1 ρ2 ρ3 q (put b A S) o n (bI (decide (i = 0))) (bI (decide (i = 0) || decide (i = 1))) := by
    intro o n
    unfold bX25_says_37
    by_cases e0 : i = 0
    · rw [decide_eq_true e0, bI_t, if_neg (by decide)]
      rfl
    · rw [decide_eq_false e0, bI_f, if_pos (show Int32.ofNat 0 = (0 : Int32) from rfl), v_is h, gbd_h i1, Bool.false_or]
      unfold bX25_says_48
      cases decide (i = 1) with
      | true => rw [bI_t, if_neg (by decide)]; rfl
      | false => rw [bI_f, if_pos (show Int32.ofNat 0 = (0 : Int32) from rfl)]; rfl
  rw [k1, k2, k3]
  unfold bX25_says_56
  rw [v_nam h, gbd_h hn]
  unfold bX25_says_62
  rw [v_nub h, gbd_h hb]
theorem m_leaf (hM : ∀ j, j < 12 → fX5_isWord N M (enc (lw j)) = some (bI (tg t j), M)) {i : Nat} (hi : i < 14) (hg : ∀ j, j < 12 → tg t j = decide (i = j)) : fX5_leafOf N M = some (x7t i, M) := by
  obtain ⟨a0, a1, a2, a3, a4, a5, a6, a7, a8, a9, a10, a11⟩ := lwe
  have k0 := hM 0 (by omega)
  have k1 := hM 1 (by omega)
  have k2 := hM 2 (by omega)
  have k3 := hM 3 (by omega)
  have k4 := hM 4 (by omega)
  have k5 := hM 5 (by omega)
  have k6 := hM 6 (by omega)
  have k7 := hM 7 (by omega)
  have k8 := hM 8 (by omega)
  rw [hg 0 (by omega), ← a0] at k0
  rw [hg 1 (by omega), ← a1] at k1
  rw [hg 2 (by omega), ← a2] at k2
  rw [hg 3 (by omega), ← a3] at k3
  rw [hg 4 (by omega), ← a4] at k4
  rw [hg 5 (by omega), ← a5] at k5
  rw [hg 6 (by omega), ← a6] at k6
  rw [hg 7 (by omega), ← a7] at k7
  rw [hg 8 (by omega), ← a8] at k8
  simp only [fX5_leafOf, bX5_leafOf_0, bX5_leafOf_130, pq_lit]
  by_cases e0 : i = 0
  · subst e0
    simp (disch := omega) only [↓mbd_h (k0), k0, decide_true, bI_t, x7t, ↓mbd_s, mbd_s, eq_self, ↓reduceIte, Nat.reduceEqDiff, Nat.reduceLeDiff, Nat.reduceLT, Nat.reduceMul, Nat.reduceAdd, not_true_eq_false, not_false_eq_true, Bool.false_eq_true, pq_lit, pq_add, pq_le, pq_lt, pq_eq, pq_en, pq_ne, pq_nle, pq_nlt, pq_len, pq_ltn, pB_z, pB_o, mzt_0, mzt_1, mzt_B]
  by_cases e1 : i = 1
  · subst e1
    simp (disch := omega) only [↓mbd_h (k0), k0, ↓mbd_h (k1), k1, e0, decide_true, decide_false, bI_t, bI_f, x7t, ↓mbd_s, mbd_s, eq_self, ↓reduceIte, Nat.reduceEqDiff, Nat.reduceLeDiff, Nat.reduceLT, Nat.reduceMul, Nat.reduceAdd, not_true_eq_false, not_false_eq_true, Bool.false_eq_true, pq_lit, pq_add, pq_le, pq_lt, pq_eq, pq_en, pq_ne, pq_nle, pq_nlt, pq_len, pq_ltn, pB_z, pB_o, mzt_0, mzt_1, mzt_B]
  by_cases e2 : i = 2
  · subst e2
    simp (disch := omega) only [↓mbd_h (k0), k0, ↓mbd_h (k1), k1, ↓mbd_h (k2), k2, e0, e1, decide_true, decide_false, bI_t, bI_f, x7t, ↓mbd_s, mbd_s, eq_self, ↓reduceIte, Nat.reduceEqDiff, Nat.reduceLeDiff, Nat.reduceLT, Nat.reduceMul, Nat.reduceAdd, not_true_eq_false, not_false_eq_true, Bool.false_eq_true, pq_lit, pq_add, pq_le, pq_lt, pq_eq, pq_en, pq_ne, pq_nle, pq_nlt, pq_len, pq_ltn, pB_z, pB_o, mzt_0, mzt_1, mzt_B]
  by_cases e3 : i = 3
  · subst e3
    simp (disch := omega) only [↓mbd_h (k0), k0, ↓mbd_h (k1), k1, ↓mbd_h (k2), k2, ↓mbd_h (k3), k3, e0, e1, e2, decide_true, decide_false, bI_t, bI_f, x7t, ↓mbd_s, mbd_s, eq_self, ↓reduceIte, Nat.reduceEqDiff, Nat.reduceLeDiff, Nat.reduceLT, Nat.reduceMul, Nat.reduceAdd, not_true_eq_false, not_false_eq_true, Bool.false_eq_true, pq_lit, pq_add, pq_le, pq_lt, pq_eq, pq_en, pq_ne, pq_nle, pq_nlt, pq_len, pq_ltn, pB_z, pB_o, mzt_0, mzt_1, mzt_B]
  by_cases e4 : i = 4
  · subst e4
    simp (disch := omega) only [↓mbd_h (k0), k0, ↓mbd_h (k1), k1, ↓mbd_h (k2), k2, ↓mbd_h (k3), k3, ↓mbd_h (k4), k4, e0, e1, e2, e3, decide_true, decide_false, bI_t, bI_f, x7t, ↓mbd_s, mbd_s, eq_self, ↓reduceIte, Nat.reduceEqDiff, Nat.reduceLeDiff, Nat.reduceLT, Nat.reduceMul, Nat.reduceAdd, not_true_eq_false, not_false_eq_true, Bool.false_eq_true, pq_lit, pq_add, pq_le, pq_lt, pq_eq, pq_en, pq_ne, pq_nle, pq_nlt, pq_len, pq_ltn, pB_z, pB_o, mzt_0, mzt_1, mzt_B]
  by_cases e5 : i = 5
  · subst e5
    simp (disch := omega) only [↓mbd_h (k0), k0, ↓mbd_h (k1), k1, ↓mbd_h (k2), k2, ↓mbd_h (k3), k3, ↓mbd_h (k4), k4, ↓mbd_h (k5), k5, e0, e1, e2, e3, e4, decide_true, decide_false, bI_t, bI_f, x7t, ↓mbd_s, mbd_s, eq_self, ↓reduceIte, Nat.reduceEqDiff, Nat.reduceLeDiff, Nat.reduceLT, Nat.reduceMul, Nat.reduceAdd, not_true_eq_false, not_false_eq_true, Bool.false_eq_true, pq_lit, pq_add, pq_le, pq_lt, pq_eq, pq_en, pq_ne, pq_nle, pq_nlt, pq_len, pq_ltn, pB_z, pB_o, mzt_0, mzt_1, mzt_B]
  by_cases e6 : i = 6
  · subst e6
    simp (disch := omega) only [↓mbd_h (k0), k0, ↓mbd_h (k1), k1, ↓mbd_h (k2), k2, ↓mbd_h (k3), k3, ↓mbd_h (k4), k4, ↓mbd_h (k5), k5, ↓mbd_h (k6), k6, e0, e1, e2, e3, e4, e5, decide_true, decide_false, bI_t, bI_f, x7t, ↓mbd_s, mbd_s, eq_self, ↓reduceIte, Nat.reduceEqDiff, Nat.reduceLeDiff, Nat.reduceLT, Nat.reduceMul, Nat.reduceAdd, not_true_eq_false, not_false_eq_true, Bool.false_eq_true, pq_lit, pq_add, pq_le, pq_lt, pq_eq, pq_en, pq_ne, pq_nle, pq_nlt, pq_len, pq_ltn, pB_z, pB_o, mzt_0, mzt_1, mzt_B]
  by_cases e7 : i = 7
  · subst e7
    simp (disch := omega) only [↓mbd_h (k0), k0, ↓mbd_h (k1), k1, ↓mbd_h (k2), k2, ↓mbd_h (k3), k3, ↓mbd_h (k4), k4, ↓mbd_h (k5), k5, ↓mbd_h (k6), k6, ↓mbd_h (k7), k7, e0, e1, e2, e3, e4, e5, e6, decide_true, decide_false, bI_t, bI_f, x7t, ↓mbd_s, mbd_s, eq_self, ↓reduceIte, Nat.reduceEqDiff, Nat.reduceLeDiff, Nat.reduceLT, Nat.reduceMul, Nat.reduceAdd, not_true_eq_false, not_false_eq_true, Bool.false_eq_true, pq_lit, pq_add, pq_le, pq_lt, pq_eq, pq_en, pq_ne, pq_nle, pq_nlt, pq_len, pq_ltn, pB_z, pB_o, mzt_0, mzt_1, mzt_B]
  by_cases e8 : i = 8
  · subst e8
    simp (disch := omega) only [↓mbd_h (k0), k0, ↓mbd_h (k1), k1, ↓mbd_h (k2), k2, ↓mbd_h (k3), k3, ↓mbd_h (k4), k4, ↓mbd_h (k5), k5, ↓mbd_h (k6), k6, ↓mbd_h (k7), k7, ↓mbd_h (k8), k8, e0, e1, e2, e3, e4, e5, e6, e7, decide_true, decide_false, bI_t, bI_f, x7t, ↓mbd_s, mbd_s, eq_self, ↓reduceIte, Nat.reduceEqDiff, Nat.reduceLeDiff, Nat.reduceLT, Nat.reduceMul, Nat.reduceAdd, not_true_eq_false, not_false_eq_true, Bool.false_eq_true, pq_lit, pq_add, pq_le, pq_lt, pq_eq, pq_en, pq_ne, pq_nle, pq_nlt, pq_len, pq_ltn, pB_z, pB_o, mzt_0, mzt_1, mzt_B]
  have e9 : ¬ i < 9 := by omega
  simp (disch := omega) only [↓mbd_h (k0), k0, ↓mbd_h (k1), k1, ↓mbd_h (k2), k2, ↓mbd_h (k3), k3, ↓mbd_h (k4), k4, ↓mbd_h (k5), k5, ↓mbd_h (k6), k6, ↓mbd_h (k7), k7, ↓mbd_h (k8), k8, e0, e1, e2, e3, e4, e5, e6, e7, e8, e9, decide_true, decide_false, bI_t, bI_f, x7t, ↓mbd_s, mbd_s, eq_self, ↓reduceIte, Nat.reduceEqDiff, Nat.reduceLeDiff, Nat.reduceLT, Nat.reduceMul, Nat.reduceAdd, not_true_eq_false, not_false_eq_true, Bool.false_eq_true, pq_lit, pq_add, pq_le, pq_lt, pq_eq, pq_en, pq_ne, pq_nle, pq_nlt, pq_len, pq_ltn, pB_z, pB_o, mzt_0, mzt_1, mzt_B]
theorem x_i {i : Nat} (hi : i = 0 ∨ i = 1 ∨ i = 2 ∨ i = 3 ∨ i = 4 ∨ i = 5 ∨ i = 6 ∨ i = 7 ∨ i = 8 ∨ i = 9 ∨ i = 12) : bX25_says_68 E N ρ0 ρ1 ρ2 ρ3 q (put b A S) (bI (decide (i = 12))) (bI (decide (i = 9))) (bI (decide (i = 0))) (bI (decide (i = 0) || decide (i = 1))) (x5t i) (x6t i) = bX25_says_96 E N ρ0 ρ1 ρ2 ρ3 q (put b A S) (bI (decide (i = 12))) (bI (decide (i = 9))) (bI (decide (i = 0))) (bI (decide (i = 0) || decide (i = 1))) (x5t i) (x6t i) (some q) := by
  rcases hi with rfl | rfl | rfl | rfl | rfl | rfl | rfl | rfl | rfl | rfl | rfl <;> rfl
theorem x_n {i : Nat} (hi : i = 10 ∨ i = 11 ∨ i = 13) : bX25_says_68 E N ρ0 ρ1 ρ2 ρ3 q (put b A S) (bI (decide (i = 12))) (bI (decide (i = 9))) (bI (decide (i = 0))) (bI (decide (i = 0) || decide (i = 1))) (x5t i) (x6t i) = bX25_says_101 E N ρ0 ρ1 ρ2 ρ3 q (put b A S) (bI (decide (i = 12))) (bI (decide (i = 9))) (bI (decide (i = 0))) (bI (decide (i = 0) || decide (i = 1))) (x5t i) (x6t i) (some q) (Int32.ofNat 0) := by
  rcases hi with rfl | rfl | rfl <;> rfl
/-- what the model does behind an operand's first token -/
noncomputable def opT (N : Nat) (S_5 : MS) (x1 x2 x3 : Int32) : Option (Int32 × MS) :=
      if x1 = 0 then
        if x2 = 0 then
          mzt (1 : Int32) (mpt S_5 55 (1 : Int32) (fun S_9 =>
          if (2 : Int32) ≤ x3 then
            if (5 : Int32) ≤ x3 then
              if (S_9.1 11) = (3 : Int32) then
                if (S_9.1 14) < (60 : Int32) then
                  bX5_operand_208 N S_9
                else
                  if (S_9.1 14) ≤ (62 : Int32) then
                    mbd (fX5_next N S_9) (fun _ S_17 =>
                    if (S_17.1 11) = (2 : Int32) then
                      mbd (fX5_code N S_17 x3 (S_9.1 14) (S_17.1 14)) (fun _ S_21 =>
                      mbd (fX5_next N S_21) (fun _ S_24 =>
                      mzt (1 : Int32) (some ((1 : Int32), S_24))))
                    else
                      mbd (fX5_bad N S_17 (1 : Int32)) (fun r_26 S_27 =>
                      mzt r_26 (some (r_26, S_27))))
                  else
                    bX5_operand_208 N S_9
              else
                bX5_operand_208 N S_9
            else
              mrd (S_9.2.2.1 6) 319 (0 : Int32) (fun v_29 =>
              mbd (fX5_looksAt N S_9 (0 : Int32) v_29) (fun r_31 S_32 =>
              if r_31 = 0 then
                mzt (0 : Int32) (some ((0 : Int32), S_32))
              else
                mbd (fX5_code N S_32 x3 (0 : Int32) (S_32.1 18)) (fun _ S_36 =>
                mbd (fX5_next N S_36) (fun _ S_39 =>
                mzt (1 : Int32) (some ((1 : Int32), S_39))))))
          else
            mbd (fX5_code N S_9 x3 (0 : Int32) (0 : Int32)) (fun _ S_42 =>
            mzt (1 : Int32) (some ((1 : Int32), S_42)))))
        else
          bX5_operand_84 N S_5 x1
      else
        bX5_operand_84 N S_5 x1
/-- both sides up to the first token behind it; or both fail -/
theorem j_sy (cx : SCx E N b A S0 M0 q a nl l0 f0) (x : Ext S0 S) (sm : mSm sk M0 M) (h : Rd b A S M q 18 (sEx a on wi) n lim fr t) {cs : List Cd} {st : List Nat} (hs : SnM M cs st on false) (hd : dpt st = wi) (hw : wi ≤ 8) : SF N b A S0 M0 lim S M fr (fX25_says E N ρ0 ρ1 ρ2 ρ3 (put b A S) q) ∨ ∃ i S3 M3 fr3 t3, (i = 0 ∨ i = 1 ∨ i = 2 ∨ i = 3 ∨ i = 4 ∨ i = 5 ∨ i = 6 ∨ i = 7 ∨ i = 8 ∨ i = 9 ∨ i = 12) ∧ on < 20 ∧ wi < 8 ∧ fX25_says E N ρ0 ρ1 ρ2 ρ3 (put b A S) q = bX25_says_157 E N ρ0 ρ1 ρ2 ρ3 q (put b A S3) (bI (decide (i = 12))) (bI (decide (i = 9))) (bI (decide (i = 0))) (bI (decide (i = 0) || decide (i = 1))) (x5t i) (x6t i) ∧ fX5_operand N M = opT N M3 (bI (decide (i = 9))) (bI (decide (i = 12))) (x7t i) ∧ Rd b A S3 M3 q 18 (sEx a (on + 1) (wi + 1)) n lim fr3 t3 ∧ SnM M3 cs st (on + 1) false ∧ Ext S0 S3 ∧ Xo q S S3 ∧ mSm sk M0 M3 ∧ fr + 1 ≤ fr3 ∧ S3.2.2.1 ≤ S.2.2.1 + 4 ∧ S3.2.2.2 ≤ S.2.2.2 + 40 := by
  have cx' := cx
  obtain ⟨kok, hN, hq, hr, hl, ha, h6⟩ := cx
  have hE := kok.1
  have hb0 := kok.2.1
  have hb : b + 111 ≤ S.2.1 := Nat.le_trans hb0 x.1
  have hfl : fr ≤ lim := by
    obtain ⟨p, kd, nu, sg, wr, c, _, _, _, _, _, _, _, _, _, h10, _⟩ := h
    exact h10
  obtain ⟨ic, im⟩ := s_is cx' x h
  have mo := (m_opn (N := N) h).1
  have m9 := im 9 (by omega)
  obtain ⟨a0, a1, a2, a3, a4, a5, a6, a7, a8, a9, a10, a11⟩ := lwe
  rw [← a9] at m9
  obtain ⟨h51, h8, h53, h50, h52, h54, h55, hlen, ho20, hx23⟩ := hs
  rw [hd] at h54
  have h55' : M.1 55 = Int32.ofNat 0 := h55
  -- a failure of k
  have fl : ∀ k : Nat, (k = 1 ∨ t.1 ≠ 1) → (∀ S', fX6_need E N (put b A S) q (Int32.ofNat 0) (Int32.ofNat k) = some (Sum.inr S.2.1, put b A S') → fX25_says E N ρ0 ρ1 ρ2 ρ3 (put b A S) q = some (Sum.inr S.2.1, put b A S')) → (∀ M', fX5_bad N M (Int32.ofNat k) = some (Int32.ofNat 0, M') → fX5_operand N M = some (Int32.ofNat 0, M')) → SF N b A S0 M0 lim S M fr (fX25_says E N ρ0 ρ1 ρ2 ρ3 (put b A S) q) := by
    intro k hk hc hm
    obtain ⟨S2, b1, b2, x2, f2, y1, y2⟩ := j_bad (E := E) (N := N) hE hb h (k := k) hk
    have s16 : mSm [15, 16] M (mF (mF M 15 (Int32.ofNat k)) 16 (Int32.ofNat fr)) := (mSm.rf.mF _ (by decide)).mF _ (by decide)
    refine ⟨S.2.1, _, _, S2, mF (mF M 15 (Int32.ofNat k)) 16 (Int32.ofNat fr), 1, hc _ b1, fun k => ?_, x.tr x2, f2, ?_, mF_e _ _ _, (sm.su (by decide)).sn.tr (s16.rd (by decide)), by omega, by omega, by omega⟩
    · rw [sL_ox h55' (hm _ b2), mF_e]
    · rw [mF_ne _ _ (by omega)]; exact mF_e _ _ _
  rcases cl_or t with ⟨i, hcl⟩ | ⟨i, hi, ho, hg⟩
  · obtain ⟨hi, ht2, ho, hg⟩ := cl_i hcl
    have hi14 : i < 14 := by omega
    have lf := m_leaf im hi14 hg
    rw [hg 9 (by omega)] at m9
    rw [ho] at mo
    have n1 := c_need1 (E := E) (N := N) (b := b) (A := A) (S := S) (q := q) (Int32.ofNat 1)
    have c105 : fX25_says E N ρ0 ρ1 ρ2 ρ3 (put b A S) q = bX25_says_105 E N ρ0 ρ1 ρ2 ρ3 q (put b A S) (bI (decide (i = 12))) (bI (decide (i = 9))) (bI (decide (i = 0))) (bI (decide (i = 0) || decide (i = 1))) (x5t i) (x6t i) := by
      rw [fX25_says, c_cl cx' x h hi14 ho hg, x_i hi]
      simp only [bX25_says_96, bX25_says_101, pq_lit]
      simp (disch := omega) only [v_need h, ↓gbx_h n1, ↓gbd_s, gbd_s, ↓gbx_s, gbx_s, ↓gnn_s, ↓grf_s, eq_self, ↓reduceIte, Nat.reduceEqDiff, Nat.reduceLeDiff, Nat.reduceLT, Nat.reduceMul, Nat.reduceAdd, not_true_eq_false, not_false_eq_true, Bool.false_eq_true, pq_lit, pq_add, pq_le, pq_lt, pq_eq, pq_en, pq_ne, pq_nle, pq_nlt, pq_len, pq_ltn, pB_z, pB_o, mzt_0, mzt_1, mzt_B]
    have m38 : fX5_operand N M = bX5_operand_38 N M (bI (decide (i = 9))) (bI (decide (i = 12))) (x7t i) := by
      simp only [fX5_operand, bX5_operand_0, pq_lit]
      simp (disch := omega) only [↓mbd_h (m9), m9, ↓mbd_h (mo), mo, ↓mbd_h (lf), lf, ↓mbd_s, mbd_s, eq_self, ↓reduceIte, Nat.reduceEqDiff, Nat.reduceLeDiff, Nat.reduceLT, Nat.reduceMul, Nat.reduceAdd, not_true_eq_false, not_false_eq_true, Bool.false_eq_true, pq_lit, pq_add, pq_le, pq_lt, pq_eq, pq_en, pq_ne, pq_nle, pq_nlt, pq_len, pq_ltn, pB_z, pB_o, mzt_0, mzt_1, mzt_B]
      rcases hi with rfl | rfl | rfl | rfl | rfl | rfl | rfl | rfl | rfl | rfl | rfl <;> rfl
    have q98 := fun {β : Type} (K : Int32 → Option β) => sr_98 h K
    have q99 := fun {β : Type} (K : Int32 → Option β) => sr_99 h K
    by_cases e1 : on = 20
    · refine Or.inl (fl 4 (Or.inr (by omega)) (fun S' e => ?_) (fun M' e => ?_))
      · rw [c105]
        have z : 20 ≤ on := by omega
        simp only [bX25_says_105, bX25_says_128, bX25_says_129, pq_lit]
        simp (disch := omega) only [↓q98, z, v_need h, ↓gbx_x e, ↓gbd_s, gbd_s, ↓gbx_s, gbx_s, ↓gnn_s, ↓grf_s, eq_self, ↓reduceIte, Nat.reduceEqDiff, Nat.reduceLeDiff, Nat.reduceLT, Nat.reduceMul, Nat.reduceAdd, not_true_eq_false, not_false_eq_true, Bool.false_eq_true, pq_lit, pq_add, pq_le, pq_lt, pq_eq, pq_en, pq_ne, pq_nle, pq_nlt, pq_len, pq_ltn, pB_z, pB_o, mzt_0, mzt_1, mzt_B]
      · rw [m38]
        simp only [bX5_operand_38, bX5_operand_56, pq_lit]
        simp (disch := omega) only [h52, e1, ↓mbd_h (e), e, ↓mbd_s, mbd_s, eq_self, ↓reduceIte, Nat.reduceEqDiff, Nat.reduceLeDiff, Nat.reduceLT, Nat.reduceMul, Nat.reduceAdd, not_true_eq_false, not_false_eq_true, Bool.false_eq_true, pq_lit, pq_add, pq_le, pq_lt, pq_eq, pq_en, pq_ne, pq_nle, pq_nlt, pq_len, pq_ltn, pB_z, pB_o, mzt_0, mzt_1, mzt_B]
    · by_cases e2 : wi = 8
      · refine Or.inl (fl 4 (Or.inr (by omega)) (fun S' e => ?_) (fun M' e => ?_))
        · rw [c105]
          have z : ¬ 20 ≤ on := by omega
          have z2 : 8 ≤ wi := by omega
          simp only [bX25_says_105, bX25_says_128, bX25_says_129, pq_lit]
          simp (disch := omega) only [↓q98, ↓q99, z, z2, v_need h, ↓gbx_x e, ↓gbd_s, gbd_s, ↓gbx_s, gbx_s, ↓gnn_s, ↓grf_s, eq_self, ↓reduceIte, Nat.reduceEqDiff, Nat.reduceLeDiff, Nat.reduceLT, Nat.reduceMul, Nat.reduceAdd, not_true_eq_false, not_false_eq_true, Bool.false_eq_true, pq_lit, pq_add, pq_le, pq_lt, pq_eq, pq_en, pq_ne, pq_nle, pq_nlt, pq_len, pq_ltn, pB_z, pB_o, mzt_0, mzt_1, mzt_B]
        · rw [m38]
          have z2 : ¬ 1 + wi ≤ 8 := by omega
          simp only [bX5_operand_38, bX5_operand_56, pq_lit]
          simp (disch := omega) only [h52, e1, h54, z2, ↓mbd_h (e), e, ↓mbd_s, mbd_s, eq_self, ↓reduceIte, Nat.reduceEqDiff, Nat.reduceLeDiff, Nat.reduceLT, Nat.reduceMul, Nat.reduceAdd, not_true_eq_false, not_false_eq_true, Bool.false_eq_true, pq_lit, pq_add, pq_le, pq_lt, pq_eq, pq_en, pq_ne, pq_nle, pq_nlt, pq_len, pq_ltn, pB_z, pB_o, mzt_0, mzt_1, mzt_B]
      · have hEq : E.1 ≤ q := by omega
        obtain ⟨S1, w1, r1, xo1, z1⟩ := sr_w98 (E := E) h hEq (on + 1)
        have t99 := fun {β : Type} (K : Int32 → Option β) => sr_99 r1 K
        obtain ⟨S2, w2, r2, xo2, z2⟩ := sr_w99 (E := E) r1 hEq (wi + 1)
        have r2' : Rd b A S2 (mF M 52 (Int32.ofNat (on + 1))) q 18 (sEx a (on + 1) (wi + 1)) n lim fr t := r2.mm (fun k hk => mF_ne _ _ (by rintro rfl; revert hk; decide)) rfl rfl
        have z21 : S2.2 = S.2 := z2.trans z1
        obtain ⟨S3, M3, fr3, t3, gc, gm, h3, hf, xo3, fx3, sm3, y1, y2⟩ := j_gw (E := E) (N := N) hE (by omega) (by rw [z21]; exact hb) (by omega) r2' ht2
        have n4 := c_need1 (E := E) (N := N) (b := b) (A := A) (S := S) (q := q) (Int32.ofNat 4)
        have xoA : Xo q S S3 := (xo1.tr xo2).tr xo3
        rw [z21] at y1 y2
        refine Or.inr ⟨i, S3, M3, fr3, t3, hi, by omega, by omega, ?_, ?_, h3, ?_, xoA.ext x hq, xoA, (sm.tr (mSm.rf.mF _ (by decide))).tr (sm3.su (by decide)), hf, y1, y2⟩
        · rw [c105]
          have z : ¬ 20 ≤ on := by omega
          have z2 : ¬ 8 ≤ wi := by omega
          simp only [bX25_says_105, bX25_says_129, bX25_says_133, pq_lit]
          simp (disch := omega) only [↓q98, ↓q99, z, z2, v_need h, ↓gbx_h n4, ↓w1, ↓t99, ↓w2, v_go r2, ↓gbd_h (gc), gc, ↓gbd_s, gbd_s, ↓gbx_s, gbx_s, ↓gnn_s, ↓grf_s, eq_self, ↓reduceIte, Nat.reduceEqDiff, Nat.reduceLeDiff, Nat.reduceLT, Nat.reduceMul, Nat.reduceAdd, not_true_eq_false, not_false_eq_true, Bool.false_eq_true, pq_lit, pq_add, pq_le, pq_lt, pq_eq, pq_en, pq_ne, pq_nle, pq_nlt, pq_len, pq_ltn, pB_z, pB_o, mzt_0, mzt_1, mzt_B]
        · rw [m38]
          have c1 : ¬ M.1 52 = (20 : Int32) := by show ¬ M.1 52 = Int32.ofNat 20; rw [h52, pq_eq (by omega) (by omega)]; exact e1
          have c2 : M.1 54 ≤ (8 : Int32) := by show M.1 54 ≤ Int32.ofNat 8; rw [h54, pq_le (by omega) (by omega)]; omega
          have e52 : M.1 52 + 1 = Int32.ofNat (on + 1) := by rw [h52]; exact pq_add on 1
          have sx : ∀ x1 x2 x3, bX5_operand_38 N M x1 x2 x3 = mbd (fX5_next N (mF M 52 (M.1 52 + 1))) (fun _ S_5 => opT N S_5 x1 x2 x3) := by
            intro x1 x2 x3
            unfold bX5_operand_38
            rw [if_neg c1, if_pos c2]
            rfl
          rw [sx, e52, mbd_h gm]
        · have sn : SnM (mF M 52 (Int32.ofNat (on + 1))) cs st (on + 1) false := by
            refine ⟨h51, h8, h53, h50, mF_e _ _ _, ?_, h55, ?_, by omega, hx23⟩
            · rw [mF_ne _ _ (by omega), hd]; exact h54
            · have : cs.length + st.length + 0 ≤ 2 * on := hlen
              show cs.length + st.length + 0 ≤ 2 * (on + 1)
              omega
          exact sn.sm sm3 (by decide)
  · have hi14 : i < 14 := by omega
    have ho' : opn t = decide (i = 12) := by rw [ho]; exact (decide_eq_false (by omega)).symm
    have lf := m_leaf im hi14 hg
    rw [hg 9 (by omega)] at m9
    rw [ho'] at mo
    refine Or.inl (fl 1 (Or.inl rfl) (fun S' e => ?_) (fun M' e => ?_))
    · rw [fX25_says, c_cl cx' x h hi14 ho' hg, x_n hi]
      simp only [bX25_says_101, pq_lit]
      simp (disch := omega) only [v_need h, ↓gbx_x e, ↓gbd_s, gbd_s, ↓gbx_s, gbx_s, ↓gnn_s, ↓grf_s, eq_self, ↓reduceIte, Nat.reduceEqDiff, Nat.reduceLeDiff, Nat.reduceLT, Nat.reduceMul, Nat.reduceAdd, not_true_eq_false, not_false_eq_true, Bool.false_eq_true, pq_lit, pq_add, pq_le, pq_lt, pq_eq, pq_en, pq_ne, pq_nle, pq_nlt, pq_len, pq_ltn, pB_z, pB_o, mzt_0, mzt_1, mzt_B]
    · simp only [fX5_operand, bX5_operand_0, pq_lit]
      have f1 : ¬ i = 9 := by omega
      have f2 : ¬ i = 12 := by omega
      have f3 : ¬ i < 9 := by omega
      have f4 : ¬ Int32.ofNat 0 ≤ -Int32.ofNat 1 := by simp
      simp (disch := omega) only [↓mbd_h (m9), m9, ↓mbd_h (mo), mo, ↓mbd_h (lf), lf, f1, f2, x7t, f3, f4, decide_false, bI_f, ↓mbd_h (e), e, ↓mbd_s, mbd_s, eq_self, ↓reduceIte, Nat.reduceEqDiff, Nat.reduceLeDiff, Nat.reduceLT, Nat.reduceMul, Nat.reduceAdd, not_true_eq_false, not_false_eq_true, Bool.false_eq_true, pq_lit, pq_add, pq_le, pq_lt, pq_eq, pq_en, pq_ne, pq_nle, pq_nlt, pq_len, pq_ltn, pB_z, pB_o, mzt_0, mzt_1, mzt_B]
end SD
