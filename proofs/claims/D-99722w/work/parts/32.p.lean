/-! what holds of s all the time -/
def ix (i : Nat) : Nat := if i < 7 then 94 + i else 107 + i
def sF (f : Nat → Nat) : Nat → Nat
  | 0 => 0
  | n + 1 => sF f n + f n
theorem sF_c {f g : Nat → Nat} : ∀ (n : Nat), (∀ k, k < n → f k = g k) → sF f n = sF g n
  | 0, _ => rfl
  | n + 1, h => by
    unfold sF
    rw [sF_c n (fun k hk => h k (by omega)), h n (by omega)]
theorem sF_up {f : Nat → Nat} {i v : Nat} : ∀ (n : Nat), i < n → sF (fun k => if k = i then v else f k) n + f i = sF f n + v
  | 0, h => by omega
  | n + 1, h => by
    by_cases e : i = n
    · subst e
      unfold sF
      rw [sF_c (g := f) i (fun k hk => if_neg (by omega)), if_pos rfl]
      omega
    · have ih := sF_up (f := f) (i := i) (v := v) n (by omega)
      unfold sF
      rw [if_neg (by omega)]
      omega
theorem sF_le {f : Nat → Nat} {i : Nat} : ∀ (n : Nat), i < n → f i ≤ sF f n
  | 0, h => by omega
  | n + 1, h => by
    by_cases e : i = n
    · subst e
      unfold sF
      omega
    · have ih := sF_le (f := f) (i := i) n (by omega)
      unfold sF
      omega
def IvC (s : St) : Prop := ∃ f : Nat → Nat, (∀ i, i < 13 → s (ix i) = Int32.ofNat (f i)) ∧ sF f 13 ≤ 3000 ∧ ∀ p, p < 6 → f (7 + p) ≤ 240
def IvB (s : St) : Prop := (∀ l, l < 7 → ∃ v, v < 128 ∧ s (101 + l) = Int32.ofNat v) ∧ ∃ v, v < 2 ^ nR s ∧ s 93 = Int32.ofNat v
def IvM (s : St) : Prop := (∀ l, l < 7 → (∃ v, v ≤ 20 ∧ s (3 + l) = Int32.ofNat v) ∧ ∃ v, v ≤ 20 ∧ s (10 + l) = Int32.ofNat v) ∧ ∀ r, r < nR s → r < 12 → ∃ x y, x < nL s ∧ y < nL s ∧ s (24 + r) = Int32.ofNat x ∧ s (36 + r) = Int32.ofNat y
def IvA (s : St) : Prop := IvS s ∧ IvD s ∧ IvZ s ∧ IvC s ∧ IvB s ∧ IvM s
theorem IvC.eq {s s' : St} (h : IvC s) (e : ∀ i, i < 13 → s' (ix i) = s (ix i)) : IvC s' := by
  obtain ⟨f, h1, h2, h3⟩ := h
  exact ⟨f, fun i hi => (e i hi).trans (h1 i hi), h2, h3⟩
theorem IvC.tr {s s' : St} (h : IvC s) {i j n : Nat} (hi : i < 13) (hj : j < 13) (hij : i ≠ j) (hn : ∀ v, v ≤ 3000 → s (ix i) = Int32.ofNat v → n ≤ v) (hb : 7 ≤ j → ∀ v, v ≤ 3000 → s (ix j) = Int32.ofNat v → v + n ≤ 240) (e1 : s' (ix i) = s (ix i) - Int32.ofNat n) (e2 : s' (ix j) = s (ix j) + Int32.ofNat n) (e3 : ∀ k, k < 13 → k ≠ i → k ≠ j → s' (ix k) = s (ix k)) : IvC s' := by
  obtain ⟨f, h1, h2, h3⟩ := h
  have li := sF_le (f := f) 13 hi
  have lj := sF_le (f := f) 13 hj
  have ni := hn (f i) (by omega) (h1 i hi)
  refine ⟨fun k => if k = j then f j + n else if k = i then f i - n else f k, fun k hk => ?_, ?_, fun p hp => ?_⟩
  · show s' (ix k) = Int32.ofNat (if k = j then f j + n else if k = i then f i - n else f k)
    by_cases q : k = j
    · subst q
      rw [if_pos rfl, e2, h1 k hk, pq_add]
    · rw [if_neg q]
      by_cases q2 : k = i
      · subst q2
        rw [if_pos rfl, e1, h1 k hk, pq_sub ni]
      · rw [if_neg q2, e3 k hk q2 q]
        exact h1 k hk
  · have u1 := sF_up (f := fun k => if k = i then f i - n else f k) (i := j) (v := f j + n) 13 hj
    have u2 := sF_up (f := f) (i := i) (v := f i - n) 13 hi
    rw [if_neg (fun q => hij q.symm)] at u1
    omega
  · show (if 7 + p = j then f j + n else if 7 + p = i then f i - n else f (7 + p)) ≤ 240
    by_cases q : 7 + p = j
    · rw [if_pos q]
      exact hb (by omega) (f j) (by omega) (h1 j hj)
    · rw [if_neg q]
      have := h3 p hp
      by_cases q2 : 7 + p = i
      · rw [if_pos q2, ← q2]
        omega
      · rw [if_neg q2]
        exact this
theorem mn_n {x y : Nat} (hx : x < 2147483648) (hy : y < 2147483648) : mn (Int32.ofNat x) (Int32.ofNat y) = Int32.ofNat (min x y) := by
  unfold mn
  simp only [pq_lt hy hx]
  by_cases h : y < x
  · rw [if_pos h, Nat.min_eq_right (by omega)]
  · rw [if_neg h, Nat.min_eq_left (by omega)]
theorem ix_l {l : Nat} (h : l < 7) : ix l = 94 + l := if_pos h
theorem ix_p (p : Nat) : ix (7 + p) = 114 + p := by unfold ix; rw [if_neg (by omega)]; omega
theorem ix_ge (i : Nat) : 94 ≤ ix i := by unfold ix; split <;> omega
theorem ix_in {i : Nat} (h : i < 13) : (94 ≤ ix i ∧ ix i ≤ 100) ∨ (114 ≤ ix i ∧ ix i ≤ 119) := by unfold ix; split <;> omega
theorem ix_ne {i j : Nat} (h : i ≠ j) : ix i ≠ ix j := by unfold ix; split <;> split <;> omega
theorem IvZ.eq {s s' : St} (h : IvZ s) (eL : nL s' = nL s) (eP : nP s' = nP s) (e : ∀ l, nL s ≤ l → l < 7 → s' (94 + l) = s (94 + l) ∧ s' (101 + l) = s (101 + l)) (e2 : ∀ p, nP s ≤ p → p < 6 → s' (114 + p) = s (114 + p)) : IvZ s' := by
  refine ⟨fun l h1 h2 => ?_, fun p h1 h2 => ?_⟩
  · rw [eL] at h1
    rw [(e l h1 h2).1, (e l h1 h2).2]
    exact h.1 l h1 h2
  · rw [eP] at h1
    rw [e2 p h1 h2]
    exact h.2 p h1 h2
theorem IvB.eq {s s' : St} (h : IvB s) (eR : nR s' = nR s) (e : ∀ l, l < 7 → s' (101 + l) = s (101 + l)) (e2 : s' 93 = s 93) : IvB s' := by
  refine ⟨fun l hl => ?_, ?_⟩
  · rw [e l hl]; exact h.1 l hl
  · rw [eR, e2]; exact h.2
theorem IvM.mp {s s' : St} (h : IvM s) (m : Mp s s') : IvM s' := by
  have e0 : nL s' = nL s := by unfold nL; rw [m _ (by omega)]
  have e1 : nR s' = nR s := by unfold nR; rw [m _ (by omega)]
  refine ⟨fun l hl => ?_, fun r hr hq => ?_⟩
  · rw [m _ (by omega), m _ (by omega)]
    exact h.1 l hl
  · rw [e1] at hr
    obtain ⟨x, y, h1, h2, h3, h4⟩ := h.2 r hr hq
    exact ⟨x, y, by omega, by omega, by rw [m _ (by omega), h3], by rw [m _ (by omega), h4]⟩
theorem IvA.grow {s : St} (h : IvA s) {p : Nat} (hp : p < nP s) : IvA (growS s p) := by
  obtain ⟨hI, hD, hZ, hC, hB, hM⟩ := h
  have h6 := hI.p6
  have h7 := hI.l7
  have hh := hI.hl hp
  have i1 := hI.grow hp
  refine ⟨i1.1, ?_, ?_, ?_, ?_, hM.mp mp_grow⟩
  · refine hD.eq ?_
    unfold growS
    split
    · rw [upd_o _ _ (by omega), upd_o _ _ (by omega)]
    · rfl
  · refine hZ.eq i1.2.2.1 i1.2.1 (fun l h1 h2 => ?_) (fun q h1 h2 => ?_)
    · unfold growS
      split
      · rw [upd_o _ _ (by omega), upd_o _ _ (by omega), upd_o _ _ (by omega), upd_o _ _ (by omega)]; exact ⟨rfl, rfl⟩
      · exact ⟨rfl, rfl⟩
    · unfold growS
      split
      · rw [upd_o _ _ (by omega), upd_o _ _ (by omega)]
      · rfl
  · unfold growS
    split
    · rename_i g
      unfold growB at g
      rw [decide_eq_true_eq] at g
      refine hC.tr (i := hm s p) (j := 7 + p) (n := 1) (by omega) (by omega) (by omega) (fun v hv e => ?_) (fun _ v hv e => ?_) ?_ ?_ (fun k hk k1 k2 => ?_)
      · rw [ix_l (by omega)] at e
        have g2 := g.2.2
        rw [e, pq_lt (by omega) (by omega)] at g2
        omega
      · rw [ix_p] at e
        have g2 := g.2.1
        rw [e, pq_lt (by omega) (by omega)] at g2
        omega
      · rw [ix_l (by omega), upd_s]
      · rw [ix_p, upd_o _ _ (by omega), upd_s]
      · have e1 := ix_ne k1
        have e2 := ix_ne k2
        rw [ix_l (show hm s p < 7 by omega)] at e1
        rw [ix_p] at e2
        rw [upd_o _ _ e1, upd_o _ _ e2]
    · exact hC
  · refine hB.eq i1.2.2.2 (fun l hl => ?_) ?_
    · unfold growS
      split
      · rw [upd_o _ _ (by omega), upd_o _ _ (by omega)]
      · rfl
    · unfold growS
      split
      · rw [upd_o _ _ (by omega), upd_o _ _ (by omega)]
      · rfl
theorem IvA.dayF : ∀ (k p : Nat) {s : St}, IvA s → p + k = nP s → IvA (dayF p k s)
  | 0, _, _, h, _ => h
  | k + 1, p, s, h, hk => IvA.dayF k (p + 1) (h.grow (by omega)) (by rw [(h.1.grow (p := p) (by omega)).2.1]; omega)
/-- a write where nothing is asked -/
theorem IvA.up {s : St} (h : IvA s) {k : Nat} {v : Int32} (hk : k = 92 ∨ (120 ≤ k)) : IvA (upd s k v) := by
  obtain ⟨hI, hD, hZ, hC, hB, hM⟩ := h
  refine ⟨hI.up (by omega) (by omega), hD.eq (upd_o _ _ (by omega)), hZ.eq (upd_nL (by omega)) (upd_nP (by omega)) (fun l h1 h2 => ?_) (fun q h1 h2 => ?_), hC.eq (fun i hi => ?_), hB.eq (upd_nR (by omega)) (fun l hl => ?_) ?_, hM.mp (Mp.rf.up (by omega))⟩
  · rw [upd_o _ _ (by omega), upd_o _ _ (by omega)]; exact ⟨rfl, rfl⟩
  · rw [upd_o _ _ (by omega)]
  · have := ix_in hi
    rw [upd_o _ _ (by omega)]
  · rw [upd_o _ _ (by omega)]
  · rw [upd_o _ _ (by omega)]
theorem IvA.at {s : St} (h : IvA s) {p l : Nat} (hp : p < 6) (hl : l < nL s) : IvA (upd s (108 + p) (Int32.ofNat l)) := by
  obtain ⟨hI, hD, hZ, hC, hB, hM⟩ := h
  have h7 := hI.l7
  refine ⟨hI.at hp hl, hD.eq (upd_o _ _ (by omega)), hZ.eq (upd_nL (by omega)) (upd_nP (by omega)) (fun l h1 h2 => ?_) (fun q h1 h2 => ?_), hC.eq (fun i hi => ?_), hB.eq (upd_nR (by omega)) (fun l hl => ?_) ?_, hM.mp (Mp.rf.up (by omega))⟩
  · rw [upd_o _ _ (by omega), upd_o _ _ (by omega)]; exact ⟨rfl, rfl⟩
  · rw [upd_o _ _ (by omega)]
  · have := ix_in hi
    rw [upd_o _ _ (by omega)]
  · rw [upd_o _ _ (by omega)]
  · rw [upd_o _ _ (by omega)]
/-- some of it goes from one to another -/
theorem IvA.tr {s : St} (h : IvA s) {i j n : Nat} (hi : i < nL s ∨ (7 ≤ i ∧ i < 7 + nP s)) (hj : j < nL s ∨ (7 ≤ j ∧ j < 7 + nP s)) (hij : i ≠ j) (hn : ∀ v, v ≤ 3000 → s (ix i) = Int32.ofNat v → n ≤ v) (hb : 7 ≤ j → ∀ v, v ≤ 3000 → s (ix j) = Int32.ofNat v → v + n ≤ 240) : IvA (upd (upd s (ix i) (s (ix i) - Int32.ofNat n)) (ix j) (s (ix j) + Int32.ofNat n)) := by
  obtain ⟨hI, hD, hZ, hC, hB, hM⟩ := h
  have h7 := hI.l7
  have h6 := hI.p6
  have ei := ix_in (i := i) (by omega)
  have ej := ix_in (i := j) (by omega)
  have xi : ix i = (if i < 7 then 94 + i else 107 + i) := rfl
  have xj : ix j = (if j < 7 then 94 + j else 107 + j) := rfl
  refine ⟨(hI.up (by omega) (by omega)).up (by omega) (by omega), ?_, ?_, ?_, ?_, hM.mp ((Mp.rf.up (by omega)).up (by omega))⟩
  · refine hD.eq ?_
    rw [upd_o _ _ (by omega), upd_o _ _ (by omega)]
  · refine hZ.eq ?_ ?_ (fun l h1 h2 => ?_) (fun q h1 h2 => ?_)
    · rw [upd_nL (by omega), upd_nL (by omega)]
    · rw [upd_nP (by omega), upd_nP (by omega)]
    · have a1 : 94 + l ≠ ix j := by rw [xj]; split <;> omega
      have a2 : 94 + l ≠ ix i := by rw [xi]; split <;> omega
      rw [upd_o _ _ a1, upd_o _ _ a2, upd_o _ _ (by omega), upd_o _ _ (by omega)]; exact ⟨rfl, rfl⟩
    · have a1 : 114 + q ≠ ix j := by rw [xj]; split <;> omega
      have a2 : 114 + q ≠ ix i := by rw [xi]; split <;> omega
      rw [upd_o _ _ a1, upd_o _ _ a2]
  · refine hC.tr (i := i) (j := j) (n := n) (by omega) (by omega) hij hn hb ?_ ?_ (fun k hk k1 k2 => ?_)
    · rw [upd_o _ _ (ix_ne hij), upd_s]
    · rw [upd_s]
    · rw [upd_o _ _ (ix_ne k2), upd_o _ _ (ix_ne k1)]
  · refine hB.eq ?_ (fun l hl => ?_) ?_
    · rw [upd_nR (by omega), upd_nR (by omega)]
    · rw [upd_o _ _ (by omega), upd_o _ _ (by omega)]
    · rw [upd_o _ _ (by omega), upd_o _ _ (by omega)]
theorem why0 {s : St} {fr : Int32} {l : Nat} {m : Int32} (h : whyS s fr l m false = Int32.ofNat 0) : s (3 + l) < m := by
  unfold whyS at h
  split at h
  · exact absurd h (by decide)
  · split at h
    · exact absurd h (by decide)
    · split at h
      · exact absurd h (by decide)
      · split at h
        · exact absurd h (by decide)
        · split at h
          · exact absurd h (by decide)
          · rename_i q
            exact Int32.not_le.mp (fun w => q ⟨rfl, w⟩)
theorem IvA.cr {s : St} (h : IvA s) {p l : Nat} (hp : p < nP s) (hl : l < nL s) (hw : whyC s p l = Int32.ofNat 0) : IvA (crS s p l) := by
  have h0 := h
  obtain ⟨hI, hD, hZ, hC, hB, hM⟩ := h
  have h7 := hI.l7
  have h6 := hI.p6
  have fin : ∀ s1 : St, IvA s1 → l < nL s1 → IvA (upd (upd (upd s1 (108 + p) (Int32.ofNat l)) (132 + p) (s1 (132 + p) + Int32.ofNat 1)) 92 (s1 92 + Int32.ofNat 1)) := fun s1 i1 l1 => ((i1.at (by omega) l1).up (by omega)).up (by omega)
  unfold crS
  simp only []
  have hC0 := hC
  obtain ⟨f, f1, f2, f3⟩ := hC0
  have fl := f1 l (by omega)
  have fp := f1 (7 + p) (by omega)
  rw [ix_l (by omega)] at fl
  rw [ix_p] at fp
  have fl2 := sF_le (f := f) (i := l) 13 (by omega)
  have fp2 := f3 p (by omega)
  split
  · obtain ⟨g, g1, g2⟩ := (hM.1 l (by omega)).2
    have e : givS s l (s (114 + p)) (s (94 + l)) = Int32.ofNat (min g (min (f l) (240 - f (7 + p)))) := by
      unfold givS
      rw [g2, fl, fp, pq_sub fp2, mn_n (by omega) (by omega), mn_n (by omega) (by omega)]
    rw [e]
    have t := h0.tr (i := l) (j := 7 + p) (n := min g (min (f l) (240 - f (7 + p)))) (Or.inl hl) (by omega) (by omega) (fun v hv ev => by
      rw [ix_l (by omega), fl, pq_eq (by omega) (by omega)] at ev
      omega) (fun _ v hv ev => by
      rw [ix_p, fp, pq_eq (by omega) (by omega)] at ev
      omega)
    rw [ix_l (by omega), ix_p] at t
    refine fin _ (t.up (by omega)) ?_
    rw [upd_nL (by omega), upd_nL (by omega), upd_nL (by omega)]
    exact hl
  · split
    · rename_i q1 q2
      obtain ⟨t, t1, t2⟩ := (hM.1 l (by omega)).1
      have w : whyS s (s (108 + p)) l (s (114 + p)) false = Int32.ofNat 0 := by rw [← q2]; exact hw
      have w2 := why0 w
      rw [t2, fp, pq_lt (by omega) (by omega)] at w2
      have t := h0.tr (i := 7 + p) (j := l) (n := t) (by omega) (Or.inl hl) (by omega) (fun v hv ev => by
        rw [ix_p, fp, pq_eq (by omega) (by omega)] at ev
        omega) (fun q => by omega)
      rw [ix_p, ix_l (by omega), ← t2] at t
      refine fin _ (IvA.up (k := 120 + p) ?_ (by omega)) ?_
      · have e : upd (upd s (94 + l) (s (94 + l) + s (3 + l))) (114 + p) (s (114 + p) - s (3 + l)) = upd (upd s (114 + p) (s (114 + p) - s (3 + l))) (94 + l) (s (94 + l) + s (3 + l)) := by
          funext k
          simp only [upd]
          grind
        rw [e]
        exact t
      · rw [upd_nL (by omega), upd_nL (by omega), upd_nL (by omega)]
        exact hl
    · exact fin _ h0 hl
theorem IvA.day {s : St} (h : IvA s) (q : s 91 < Int32.ofNat 400) : IvA (dayS s) := by
  have h1 := IvA.dayF (nP s) 0 h (by omega)
  have h2 := h.2.1.day q
  unfold dayS
  obtain ⟨hI, hD, hZ, hC, hB, hM⟩ := h1
  refine ⟨hI.up (by omega) (by omega), h2, hZ.eq (upd_nL (by omega)) (upd_nP (by omega)) (fun l h1 h2 => ?_) (fun q h1 h2 => ?_), hC.eq (fun i hi => ?_), hB.eq (upd_nR (by omega)) (fun l hl => ?_) ?_, hM.mp (Mp.rf.up (by omega))⟩
  · rw [upd_o _ _ (by omega), upd_o _ _ (by omega)]; exact ⟨rfl, rfl⟩
  · rw [upd_o _ _ (by omega)]
  · have := ix_in hi
    rw [upd_o _ _ (by omega)]
  · rw [upd_o _ _ (by omega)]
  · rw [upd_o _ _ (by omega)]
theorem IvA.go : ∀ (k e : Nat) {s : St}, IvA s → IvA (goF k e s).2
  | 0, _, _, h => h
  | k + 1, e, s, h => by
    unfold goF
    split
    · rename_i q
      exact IvA.go k _ (h.day q)
    · exact h
theorem pw_le {x n : Nat} (h : x < n) : 2 ^ x < 2 ^ n := Nat.pow_lt_pow_right (by omega) h
theorem p1_n : ∀ x, x < 12 → p1 x = Int32.ofNat (2 ^ x) := by decide
theorem xor_n {v w : Nat} : Int32.ofNat v ^^^ Int32.ofNat w = Int32.ofNat (v ^^^ w) := by
  rw [← Int32.toBitVec_inj, Int32.toBitVec_xor]
  apply BitVec.eq_of_toNat_eq
  simp [Nat.xor_mod_two_pow]
theorem IvA.cl {s : St} (h : IvA s) {x : Nat} (hx : x < nR s) : IvA (upd s 93 (s 93 ^^^ p1 x)) := by
  obtain ⟨hI, hD, hZ, hC, hB, hM⟩ := h
  have h12 := hI.r12
  refine ⟨hI.up (by omega) (by omega), hD.eq (upd_o _ _ (by omega)), hZ.eq (upd_nL (by omega)) (upd_nP (by omega)) (fun l h1 h2 => ?_) (fun q h1 h2 => ?_), hC.eq (fun i hi => ?_), ⟨fun l hl => ?_, ?_⟩, hM.mp (Mp.rf.up (by omega))⟩
  · rw [upd_o _ _ (by omega), upd_o _ _ (by omega)]; exact ⟨rfl, rfl⟩
  · rw [upd_o _ _ (by omega)]
  · have := ix_in hi
    rw [upd_o _ _ (by omega)]
  · rw [upd_o _ _ (by omega)]
    exact hB.1 l hl
  · obtain ⟨v, v1, v2⟩ := hB.2
    refine ⟨v ^^^ 2 ^ x, ?_, ?_⟩
    · rw [upd_nR (by omega)]
      exact Nat.xor_lt_two_pow v1 (pw_le hx)
    · rw [upd_s, v2, p1_n x (by omega), xor_n]
theorem IvA.sp {s : St} (h : IvA s) {x y : Nat} (hx : x < nL s) (hy : y < nL s) : IvA (upd s (101 + x) (s (101 + x) ^^^ p1 y)) := by
  obtain ⟨hI, hD, hZ, hC, hB, hM⟩ := h
  have h7 := hI.l7
  refine ⟨hI.up (by omega) (by omega), hD.eq (upd_o _ _ (by omega)), hZ.eq (upd_nL (by omega)) (upd_nP (by omega)) (fun l h1 h2 => ?_) (fun q h1 h2 => ?_), hC.eq (fun i hi => ?_), ⟨fun l hl => ?_, ?_⟩, hM.mp (Mp.rf.up (by omega))⟩
  · rw [upd_o _ _ (by omega), upd_o _ _ (by omega)]; exact ⟨rfl, rfl⟩
  · rw [upd_o _ _ (by omega)]
  · have := ix_in hi
    rw [upd_o _ _ (by omega)]
  · by_cases e : l = x
    · subst e
      obtain ⟨v, v1, v2⟩ := hB.1 l hl
      refine ⟨v ^^^ 2 ^ y, ?_, ?_⟩
      · exact Nat.xor_lt_two_pow (n := 7) v1 (pw_le (by omega))
      · rw [upd_s, v2, p1_n y (by omega), xor_n]
    · rw [upd_o _ _ (by omega)]
      exact hB.1 l hl
  · rw [upd_nR (by omega), upd_o _ _ (by omega)]
    exact hB.2
theorem IvA.act {s : St} (h : IvA s) {k x y n : Nat} (ho : ActOk s k x y n) (hz : actN s k x y n = 0) : IvA (actS s k x y n) := by
  obtain ⟨hk, h0, h1, h2, h3, h4⟩ := ho
  have h7 := h.1.l7
  match k, hk with
  | 0, _ =>
    obtain ⟨hx, hy⟩ := h0 rfl
    refine h.cr hx hy ?_
    have hw := (whyS_n s (s (108 + x)) y (s (114 + x)) (spd s x y)).1
    have hz2 : (whyS s (s (108 + x)) y (s (114 + x)) (spd s x y)).toNatClampNeg = 0 := hz
    rw [hz2] at hw
    exact hw
  | 1, _ =>
    obtain ⟨hx, hy⟩ := h1 (by omega)
    exact h.sp hx hy
  | 2, _ =>
    obtain ⟨hx, hy⟩ := h1 (by omega)
    exact h.sp hx hy
  | 3, _ =>
    refine h.cl ?_
    unfold actN at hz
    simp only [] at hz
    split at hz
    · assumption
    · omega
  | 4, _ =>
    refine h.cl ?_
    unfold actN at hz
    simp only [] at hz
    split at hz
    · assumption
    · omega
  | 5, _ =>
    obtain ⟨hx, hy⟩ := h1 (by omega)
    unfold actN at hz
    simp only [] at hz
    split at hz
    · omega
    · rename_i e
      split at hz
      · omega
      · rename_i e2
        have t := h.tr (i := x) (j := y) (n := n) (Or.inl hx) (Or.inl hy) e (fun v hv ev => by
          rw [ix_l (by omega)] at ev
          rw [ev, pq_lt (by omega) (by omega)] at e2
          omega) (fun q => by omega)
        rw [ix_l (by omega), ix_l (by omega)] at t
        exact t
  | 6, _ => exact IvA.go x 0 h
theorem IvA.aF {s : St} (h : IvA s) {k x y n : Nat} (ho : ActOk s k x y n) : IvA (actF s k x y n) := by
  unfold actF
  split
  · rename_i q
    exact h.act ho q
  · exact h
theorem IvA.dR {s : St} (h : IvA s) (sd : Int32) : IvA (drR sd s).2 := by
  unfold drR
  split
  · rename_i q
    exact h.cl (drw_lt _ q.2)
  · exact h
theorem IvA.dP : ∀ (k p : Nat) (sd : Int32) {s : St}, IvA s → p + k = nP s → 0 < nL s → IvA (drP p k sd s).2
  | 0, _, _, _, h, _, _ => h
  | k + 1, p, sd, s, h, hk, h0 => by
    have h1 := iv_drP1 h.1 (p := p) sd (by omega) h0
    unfold drP
    refine IvA.dP k _ _ ?_ (by rw [h1.2.1]; omega) (by rw [h1.2.2.1]; exact h0)
    split
    · rename_i q
      exact h.cr (by omega) (drw_lt _ h0) q
    · exact h
theorem IvA.dD {s : St} (h : IvA s) (q : s 91 < Int32.ofNat 400) (sd : Int32) (h0 : 0 < nL s) : IvA (drD sd s).2 := by
  have h1 := iv_drR h.1 sd
  have h2 := IvA.dP (nP s) 0 (drR sd s).1 (h.dR sd) (by rw [h1.2.1]; omega) (by rw [h1.2.2.1]; exact h0)
  exact h2.day (by rw [drP_91, drR_91]; exact q)
theorem IvA.dr : ∀ (k e : Nat) (sd : Int32) {s : St}, IvA s → 0 < nL s → IvA (drF k e sd s).2.2
  | 0, _, _, _, h, _ => h
  | k + 1, e, sd, s, h, h0 => by
    unfold drF
    split
    · rename_i q
      exact IvA.dr k _ _ (h.dD q sd h0) (by rw [(iv_drD h.1 sd h0).2.2.1]; exact h0)
    · exact h
theorem sm_act {s : St} (h : IvS s) {k x y n : Nat} (ho : ActOk s k x y n) : Sm s (actF s k x y n) := by
  obtain ⟨hk, h0, h1, h2, h3, h4⟩ := ho
  have h7 := h.l7
  have h6 := h.p6
  unfold actF
  split
  · match k, hk with
    | 0, _ =>
      obtain ⟨hx, hy⟩ := h0 rfl
      exact sm_cr (by omega) (by omega)
    | 1, _ =>
      obtain ⟨hx, hy⟩ := h1 (by omega)
      exact Sm.rf.up (by omega)
    | 2, _ =>
      obtain ⟨hx, hy⟩ := h1 (by omega)
      exact Sm.rf.up (by omega)
    | 3, _ => exact Sm.rf.up (by omega)
    | 4, _ => exact Sm.rf.up (by omega)
    | 5, _ =>
      obtain ⟨hx, hy⟩ := h1 (by omega)
      exact (Sm.rf.up (by omega)).up (by omega)
    | 6, _ => exact sm_go x 0 h
  · exact Sm.rf
