/-! the component's own cells, by their places from b on -/
abbrev FT : Type := Option Nat × Int32 × (Nat → Int32)
abbrev FA : Type := (Nat → FT) × (Nat → Int32) × (Nat → Option Nat) × (Nat → Nat → Int32) × Nat × (Nat → Option Nat × Option Nat)
abbrev aT (A : FA) (j : Nat) : FT := A.1 j
abbrev aI (A : FA) (k : Nat) : Int32 := A.2.1 k
abbrev aR (A : FA) (k : Nat) : Option Nat := A.2.2.1 k
abbrev aV (A : FA) (k : Nat) : Nat → Int32 := A.2.2.2.1 k
abbrev aC (A : FA) : Nat := A.2.2.2.2.1
abbrev aK (A : FA) (k : Nat) : Option Nat × Option Nat := A.2.2.2.2.2 k
def sT (A : FA) (j : Nat) (x : FT) : FA := (va_up A.1 j x, A.2)
def sI (A : FA) (k : Nat) (v : Int32) : FA := (A.1, va_up A.2.1 k v, A.2.2)
def sR (A : FA) (k : Nat) (v : Option Nat) : FA := (A.1, A.2.1, va_up A.2.2.1 k v, A.2.2.2)
def sV (A : FA) (k : Nat) (f : Nat → Int32) : FA := (A.1, A.2.1, A.2.2.1, va_up A.2.2.2.1 k f, A.2.2.2.2)
def sC (A : FA) (c : Nat) : FA := (A.1, A.2.1, A.2.2.1, A.2.2.2.1, c, A.2.2.2.2.2)
def sK (A : FA) (k : Nat) (v : Option Nat × Option Nat) : FA := (A.1, A.2.1, A.2.2.1, A.2.2.2.1, A.2.2.2.2.1, va_up A.2.2.2.2.2 k v)
/-- of the Times by number (0 now, 1 trial, 2.. before, 10 11 kept) the place -/
def toff (j : Nat) : Nat := if j < 2 then 6 + 8 * j else if j < 10 then 47 + 8 * (j - 2) else if j = 10 then 30 else 39
def tloc (k : Nat) : Option (Nat × Nat) :=
  if 6 ≤ k ∧ k < 22 then some ((k - 6) / 8, (k - 6) % 8) else if 47 ≤ k ∧ k < 111 then some (2 + (k - 47) / 8, (k - 47) % 8)
  else if 30 ≤ k ∧ k < 38 then some (10, k - 30) else if 39 ≤ k ∧ k < 47 then some (11, k - 39) else none
def tad (b j : Nat) : Nat := b + toff j
def clip (n : Nat) (f : Nat → Int32) : Nat → Int32 := fun j => if j < n then f j else Int32.ofNat 0
def tarr (n o : Nat) (s : Nat → Int32) : Nat → Int32 := clip n (fun i => s (o + i))
def tfs (t : Nat) (x : FT) : List Value := [va_rf x.1, .int (x.2.2 91), .int (x.2.2 92), .int (x.2.2 93), .ref (t + 1), .ref (t + 2), .ref (t + 3), .ref (t + 4), .ref (t + 5), .ref (t + 6), .ref (t + 7), .int x.2.1]
def tcell (t : Nat) (x : FT) (i : Nat) : Option GE := match i with
  | 0 => some (.inr (2, tfs t x))
  | 1 => some (.inl (1, 7, .inl (tarr 7 94 x.2.2)))
  | 2 => some (.inl (1, 7, .inl (tarr 7 101 x.2.2)))
  | 3 => some (.inl (1, 6, .inl (tarr 6 108 x.2.2)))
  | 4 => some (.inl (1, 6, .inl (tarr 6 114 x.2.2)))
  | 5 => some (.inl (1, 6, .inl (tarr 6 120 x.2.2)))
  | 6 => some (.inl (1, 6, .inl (tarr 6 126 x.2.2)))
  | 7 => some (.inl (1, 6, .inl (tarr 6 132 x.2.2)))
  | _ => none
def ffs (b : Nat) (A : FA) : List Value := [.ref (b + 1), .int (aI A 1), .int (aI A 2), va_rf (aR A 3), .ref (tad b 0), .ref (tad b 1), va_rf (aR A 6), .ref (b + 22), .int (aI A 8), .ref (b + 23), .ref (b + 24), .int (aI A 11), .int (aI A 12), .int (aI A 13), .int (aI A 14), .ref (b + 25), .ref (b + 26), .int (aI A 17), .int (aI A 18), .int (aI A 19), .int (aI A 20), va_rf (aR A 21), .ref (b + 27), .ref (b + 28)]
def bef (b c : Nat) : Nat → Option Nat := fun k => if k < 8 then some (tad b (2 + (k + c) % 8)) else none
def fcell (b : Nat) (A : FA) (k : Nat) : Option GE := match k with
  | 0 => some (.inr (0, ffs b A))
  | 1 => some (.inl (0, 940, .inl (aV A 0)))
  | 22 => some (.inl (3, 8, .inr (.inr (.inr (.inr (bef b (aC A)))))))
  | 23 => some (.inl (1, 5, .inl (aV A 9)))
  | 24 => some (.inl (1, 5, .inl (aV A 10)))
  | 25 => some (.inl (1, 6, .inl (aV A 15)))
  | 26 => some (.inl (1, 6, .inl (aV A 16)))
  | 27 => some (.inl (1, 4, .inl (aV A 22)))
  | 28 => some (.inl (4, 2, .inr (.inr (.inr (.inr (fun k => if k = 0 then some (b + 29) else if k = 1 then some (b + 38) else none))))))
  | 29 => some (.inr (3, [va_rf (aK A 0).1, va_rf (aK A 0).2, .ref (tad b 10)]))
  | 38 => some (.inr (3, [va_rf (aK A 1).1, va_rf (aK A 1).2, .ref (tad b 11)]))
  | _ => none
def core (b : Nat) (A : FA) (k : Nat) : Option GE := match tloc k with
  | some (j, i) => tcell (tad b j) (aT A j) i
  | none => fcell b A k
def isM (k : Nat) : Prop := k < 111 ∧ (k < 2 ∨ 6 ≤ k)
noncomputable def put (b : Nat) (A : FA) (S : GS) : GS := (fun q => if b ≤ q ∧ (q - b < 111 ∧ (q - b < 2 ∨ 6 ≤ q - b)) then core b A (q - b) else S.1 q, S.2)
theorem put_2 (b : Nat) (A : FA) (S : GS) : (put b A S).2 = S.2 := rfl
theorem put_m {b : Nat} {A : FA} {S : GS} {k : Nat} (h : isM k) : (put b A S).1 (b + k) = core b A k := by
  unfold isM at h
  simp only [put, Nat.add_sub_cancel_left]
  rw [if_pos (by omega)]
theorem put_m0 {b : Nat} {A : FA} {S : GS} : (put b A S).1 b = core b A 0 := put_m (k := 0) (by unfold isM; omega)
/-- not one of the component's own cells that change -/
def nM (b q : Nat) : Prop := ¬ (b ≤ q ∧ (q - b < 111 ∧ (q - b < 2 ∨ 6 ≤ q - b)))
theorem put_o {b : Nat} {A : FA} {S : GS} {q : Nat} (h : nM b q) : (put b A S).1 q = S.1 q := if_neg h
theorem tloc_to {j i : Nat} (hj : j < 12) (hi : i < 8) : tloc (toff j + i) = some (j, i) := by
  unfold tloc toff
  by_cases h1 : j < 2
  · rw [if_pos h1, if_pos (by omega)]; congr 2 <;> omega
  · rw [if_neg h1]
    by_cases h2 : j < 10
    · rw [if_pos h2, if_neg (by omega), if_pos (by omega)]; congr 2 <;> omega
    · rw [if_neg h2]
      by_cases h3 : j = 10
      · rw [if_pos h3, if_neg (by omega), if_neg (by omega), if_pos (by omega)]; congr 2 <;> omega
      · rw [if_neg h3, if_neg (by omega), if_neg (by omega), if_neg (by omega), if_pos (by omega)]; congr 2 <;> omega
theorem tloc_of {k j i : Nat} (h : tloc k = some (j, i)) : j < 12 ∧ i < 8 ∧ k = toff j + i := by
  unfold tloc at h
  split at h
  · cases h; unfold toff; rw [if_pos (by omega)]; omega
  · split at h
    · cases h; unfold toff; rw [if_neg (by omega), if_pos (by omega)]; omega
    · split at h
      · cases h; unfold toff; rw [if_neg (by omega), if_neg (by omega), if_pos (by omega)]; omega
      · split at h
        · cases h; unfold toff; rw [if_neg (by omega), if_neg (by omega), if_neg (by omega)]; omega
        · cases h
theorem toff_m {j i : Nat} (hj : j < 12) (hi : i < 8) : isM (toff j + i) := by
  unfold isM toff
  by_cases h1 : j < 2
  · rw [if_pos h1]; omega
  · rw [if_neg h1]
    by_cases h2 : j < 10
    · rw [if_pos h2]; omega
    · rw [if_neg h2]; split <;> omega
theorem core_t {b : Nat} {A : FA} {j i : Nat} (hj : j < 12) (hi : i < 8) : core b A (toff j + i) = tcell (tad b j) (aT A j) i := by
  unfold core; rw [tloc_to hj hi]
theorem put_t {b : Nat} {A : FA} {S : GS} {j i : Nat} (hj : j < 12) (hi : i < 8) : (put b A S).1 (tad b j + i) = tcell (tad b j) (aT A j) i := by
  unfold tad
  rw [Nat.add_assoc, put_m (toff_m hj hi), core_t hj hi]; rfl
theorem put_t0 {b : Nat} {A : FA} {S : GS} {j : Nat} (hj : j < 12) : (put b A S).1 (tad b j) = some (.inr (2, tfs (tad b j) (aT A j))) := put_t (i := 0) hj (by omega)
theorem tcell_s {i : Nat} (hi : i < 8) (t : Nat) (x : FT) : ∃ e, tcell t x i = some e := by
  unfold tcell
  match i, hi with
  | 0, _ => exact ⟨_, rfl⟩
  | 1, _ => exact ⟨_, rfl⟩
  | 2, _ => exact ⟨_, rfl⟩
  | 3, _ => exact ⟨_, rfl⟩
  | 4, _ => exact ⟨_, rfl⟩
  | 5, _ => exact ⟨_, rfl⟩
  | 6, _ => exact ⟨_, rfl⟩
  | 7, _ => exact ⟨_, rfl⟩
theorem gup_put {b : Nat} {A A' : FA} {S : GS} {k : Nat} {e : GE} (hk : isM k) (h : ∀ k', isM k' → core b A' k' = if k' = k then some e else core b A k') : gup (put b A S) (b + k) e = put b A' S := by
  unfold gup
  refine Prod.ext (funext fun q => ?_) rfl
  show va_up (put b A S).1 (b + k) (some e) q = (put b A' S).1 q
  by_cases hq : nM b q
  · rw [put_o hq]
    unfold va_up
    rw [if_neg, put_o hq]
    intro e
    subst e
    unfold nM at hq
    unfold isM at hk
    omega
  · have hm : b ≤ q ∧ isM (q - b) := Classical.not_not.mp hq
    have e : q = b + (q - b) := by omega
    rw [e, put_m hm.2, h _ hm.2]
    unfold va_up
    by_cases h2 : q - b = k
    · rw [if_pos h2, if_pos (by omega)]
    · rw [if_neg h2, if_neg (by omega), put_m hm.2]
theorem gup_t {b : Nat} {A : FA} {S : GS} {j i : Nat} {e : GE} {x : FT} (hj : j < 12) (hi : i < 8) (h : ∀ i', i' < 8 → tcell (tad b j) x i' = if i' = i then some e else tcell (tad b j) (aT A j) i') : gup (put b A S) (tad b j + i) e = put b (sT A j x) S := by
  unfold tad
  rw [Nat.add_assoc]
  refine gup_put (toff_m hj hi) (fun k' hk' => ?_)
  unfold core
  cases hl : tloc k' with
  | none =>
    rw [if_neg]
    · rfl
    · intro e
      rw [e, tloc_to hj hi] at hl
      cases hl
  | some p =>
    obtain ⟨j', i'⟩ := p
    obtain ⟨h1, h2, h3⟩ := tloc_of hl
    show tcell (tad b j') ((sT A j x).1 j') i' = _
    by_cases hjj : j' = j
    · subst hjj
      have e1 : (sT A j' x).1 j' = x := by simp [sT, va_up]
      rw [e1, h i' h2]
      by_cases hii : i' = i
      · subst hii; rw [if_pos rfl, if_pos h3]
      · rw [if_neg hii, if_neg (by omega)]
    · have e1 : (sT A j x).1 j' = A.1 j' := by simp [sT, va_up, hjj]
      rw [e1, if_neg]
      intro e
      rw [e, tloc_to hj hi] at hl
      cases hl
      exact hjj rfl
theorem tarr_at {n o : Nat} {s : Nat → Int32} {i : Nat} (h : i < n) : tarr n o s i = s (o + i) := if_pos h
theorem tarr_up {n o : Nat} {s : Nat → Int32} {i : Nat} {v : Int32} (h : i < n) : upd (tarr n o s) i v = tarr n o (upd s (o + i) v) := by
  funext j
  unfold upd tarr clip
  by_cases h1 : j = i
  · subst h1; simp [h]
  · by_cases h2 : j < n
    · simp [h1, h2]
    · simp [h1, h2]
theorem tarr_oth {n o : Nat} {s : Nat → Int32} {k : Nat} {v : Int32} (h : k < o ∨ o + n ≤ k) : tarr n o (upd s k v) = tarr n o s := by
  funext j
  unfold tarr clip
  by_cases h2 : j < n
  · simp only [h2, if_true]; exact upd_o _ _ (by omega)
  · simp only [h2, if_false]
section PT
variable {β : Type} {E : gE} {b : Nat} {A : FA} {S : GS} {j : Nat}
theorem t_a (hj : j < 12) (K : Option Nat → Option β) : ggr (put b A S) (some (tad b j)) 28 K = K (aT A j).1 := ggr_at (put_t0 hj) rfl rfl K
theorem t_29 (hj : j < 12) (K : Int32 → Option β) : ggi (put b A S) (some (tad b j)) 29 K = K ((aT A j).2.2 91) := ggi_at (put_t0 hj) rfl rfl K
theorem t_30 (hj : j < 12) (K : Int32 → Option β) : ggi (put b A S) (some (tad b j)) 30 K = K ((aT A j).2.2 92) := ggi_at (put_t0 hj) rfl rfl K
theorem t_31 (hj : j < 12) (K : Int32 → Option β) : ggi (put b A S) (some (tad b j)) 31 K = K ((aT A j).2.2 93) := ggi_at (put_t0 hj) rfl rfl K
theorem t_39 (hj : j < 12) (K : Int32 → Option β) : ggi (put b A S) (some (tad b j)) 39 K = K (aT A j).2.1 := ggi_at (put_t0 hj) rfl rfl K
theorem t_32 (hj : j < 12) (K : Option Nat → Option β) : ggr (put b A S) (some (tad b j)) 32 K = K (some (tad b j + 1)) := ggr_as (put_t0 hj) rfl rfl K
theorem t_g1 (hj : j < 12) {i : Nat} (hi : i < 7) (K : Int32 → Option β) : gai 1 (put b A S) (some (tad b j + 1)) (Int32.ofNat i) K = K ((aT A j).2.2 (94 + i)) := by
  rw [gai_at (put_t (i := 1) hj (by omega)) hi (by omega), tarr_at hi]
theorem t_l1 (hj : j < 12) (K : Int32 → Option β) : gal (put b A S) (some (tad b j + 1)) K = K (Int32.ofNat 7) := gal_at (put_t (i := 1) hj (by omega)) (by omega) K
theorem t_33 (hj : j < 12) (K : Option Nat → Option β) : ggr (put b A S) (some (tad b j)) 33 K = K (some (tad b j + 2)) := ggr_as (put_t0 hj) rfl rfl K
theorem t_g2 (hj : j < 12) {i : Nat} (hi : i < 7) (K : Int32 → Option β) : gai 1 (put b A S) (some (tad b j + 2)) (Int32.ofNat i) K = K ((aT A j).2.2 (101 + i)) := by
  rw [gai_at (put_t (i := 2) hj (by omega)) hi (by omega), tarr_at hi]
theorem t_l2 (hj : j < 12) (K : Int32 → Option β) : gal (put b A S) (some (tad b j + 2)) K = K (Int32.ofNat 7) := gal_at (put_t (i := 2) hj (by omega)) (by omega) K
theorem t_34 (hj : j < 12) (K : Option Nat → Option β) : ggr (put b A S) (some (tad b j)) 34 K = K (some (tad b j + 3)) := ggr_as (put_t0 hj) rfl rfl K
theorem t_g3 (hj : j < 12) {i : Nat} (hi : i < 6) (K : Int32 → Option β) : gai 1 (put b A S) (some (tad b j + 3)) (Int32.ofNat i) K = K ((aT A j).2.2 (108 + i)) := by
  rw [gai_at (put_t (i := 3) hj (by omega)) hi (by omega), tarr_at hi]
theorem t_l3 (hj : j < 12) (K : Int32 → Option β) : gal (put b A S) (some (tad b j + 3)) K = K (Int32.ofNat 6) := gal_at (put_t (i := 3) hj (by omega)) (by omega) K
theorem t_35 (hj : j < 12) (K : Option Nat → Option β) : ggr (put b A S) (some (tad b j)) 35 K = K (some (tad b j + 4)) := ggr_as (put_t0 hj) rfl rfl K
theorem t_g4 (hj : j < 12) {i : Nat} (hi : i < 6) (K : Int32 → Option β) : gai 1 (put b A S) (some (tad b j + 4)) (Int32.ofNat i) K = K ((aT A j).2.2 (114 + i)) := by
  rw [gai_at (put_t (i := 4) hj (by omega)) hi (by omega), tarr_at hi]
theorem t_l4 (hj : j < 12) (K : Int32 → Option β) : gal (put b A S) (some (tad b j + 4)) K = K (Int32.ofNat 6) := gal_at (put_t (i := 4) hj (by omega)) (by omega) K
theorem t_36 (hj : j < 12) (K : Option Nat → Option β) : ggr (put b A S) (some (tad b j)) 36 K = K (some (tad b j + 5)) := ggr_as (put_t0 hj) rfl rfl K
theorem t_g5 (hj : j < 12) {i : Nat} (hi : i < 6) (K : Int32 → Option β) : gai 1 (put b A S) (some (tad b j + 5)) (Int32.ofNat i) K = K ((aT A j).2.2 (120 + i)) := by
  rw [gai_at (put_t (i := 5) hj (by omega)) hi (by omega), tarr_at hi]
theorem t_l5 (hj : j < 12) (K : Int32 → Option β) : gal (put b A S) (some (tad b j + 5)) K = K (Int32.ofNat 6) := gal_at (put_t (i := 5) hj (by omega)) (by omega) K
theorem t_37 (hj : j < 12) (K : Option Nat → Option β) : ggr (put b A S) (some (tad b j)) 37 K = K (some (tad b j + 6)) := ggr_as (put_t0 hj) rfl rfl K
theorem t_g6 (hj : j < 12) {i : Nat} (hi : i < 6) (K : Int32 → Option β) : gai 1 (put b A S) (some (tad b j + 6)) (Int32.ofNat i) K = K ((aT A j).2.2 (126 + i)) := by
  rw [gai_at (put_t (i := 6) hj (by omega)) hi (by omega), tarr_at hi]
theorem t_l6 (hj : j < 12) (K : Int32 → Option β) : gal (put b A S) (some (tad b j + 6)) K = K (Int32.ofNat 6) := gal_at (put_t (i := 6) hj (by omega)) (by omega) K
theorem t_38 (hj : j < 12) (K : Option Nat → Option β) : ggr (put b A S) (some (tad b j)) 38 K = K (some (tad b j + 7)) := ggr_as (put_t0 hj) rfl rfl K
theorem t_g7 (hj : j < 12) {i : Nat} (hi : i < 6) (K : Int32 → Option β) : gai 1 (put b A S) (some (tad b j + 7)) (Int32.ofNat i) K = K ((aT A j).2.2 (132 + i)) := by
  rw [gai_at (put_t (i := 7) hj (by omega)) hi (by omega), tarr_at hi]
theorem t_l7 (hj : j < 12) (K : Int32 → Option β) : gal (put b A S) (some (tad b j + 7)) K = K (Int32.ofNat 6) := gal_at (put_t (i := 7) hj (by omega)) (by omega) K
/-- of a Times what is so -/
def sS (A : FA) (j : Nat) (s : Nat → Int32) : FA := sT A j ((aT A j).1, (aT A j).2.1, s)
theorem tad_b (b j : Nat) : b ≤ tad b j := Nat.le_add_right _ _
theorem t_w1 (hE : E.1 ≤ b) (hj : j < 12) {i : Nat} (hi : i < 7) (v : Int32) (K : GS → Option β) : gaw 1 E (put b A S) (some (tad b j + 1)) (Int32.ofNat i) v K = K (put b (sS A j (upd (aT A j).2.2 (94 + i) v)) S) := by
  rw [gaw_at (put_t (i := 1) hj (by omega)) hi (by omega) (Nat.le_trans hE (Nat.le_trans (tad_b b j) (Nat.le_add_right _ _)))]
  congr 1
  refine gup_t hj (by omega) (fun i' hi' => ?_)
  match i', hi' with
  | 0, _ => simp (disch := omega) only [tcell, tfs, upd_o]; rfl
  | 1, _ => simp only [tcell, if_true]; rw [tarr_up hi]
  | 2, _ => simp (disch := omega) only [tcell, tarr_oth]; rfl
  | 3, _ => simp (disch := omega) only [tcell, tarr_oth]; rfl
  | 4, _ => simp (disch := omega) only [tcell, tarr_oth]; rfl
  | 5, _ => simp (disch := omega) only [tcell, tarr_oth]; rfl
  | 6, _ => simp (disch := omega) only [tcell, tarr_oth]; rfl
  | 7, _ => simp (disch := omega) only [tcell, tarr_oth]; rfl
theorem t_w2 (hE : E.1 ≤ b) (hj : j < 12) {i : Nat} (hi : i < 7) (v : Int32) (K : GS → Option β) : gaw 1 E (put b A S) (some (tad b j + 2)) (Int32.ofNat i) v K = K (put b (sS A j (upd (aT A j).2.2 (101 + i) v)) S) := by
  rw [gaw_at (put_t (i := 2) hj (by omega)) hi (by omega) (Nat.le_trans hE (Nat.le_trans (tad_b b j) (Nat.le_add_right _ _)))]
  congr 1
  refine gup_t hj (by omega) (fun i' hi' => ?_)
  match i', hi' with
  | 0, _ => simp (disch := omega) only [tcell, tfs, upd_o]; rfl
  | 1, _ => simp (disch := omega) only [tcell, tarr_oth]; rfl
  | 2, _ => simp only [tcell, if_true]; rw [tarr_up hi]
  | 3, _ => simp (disch := omega) only [tcell, tarr_oth]; rfl
  | 4, _ => simp (disch := omega) only [tcell, tarr_oth]; rfl
  | 5, _ => simp (disch := omega) only [tcell, tarr_oth]; rfl
  | 6, _ => simp (disch := omega) only [tcell, tarr_oth]; rfl
  | 7, _ => simp (disch := omega) only [tcell, tarr_oth]; rfl
theorem t_w3 (hE : E.1 ≤ b) (hj : j < 12) {i : Nat} (hi : i < 6) (v : Int32) (K : GS → Option β) : gaw 1 E (put b A S) (some (tad b j + 3)) (Int32.ofNat i) v K = K (put b (sS A j (upd (aT A j).2.2 (108 + i) v)) S) := by
  rw [gaw_at (put_t (i := 3) hj (by omega)) hi (by omega) (Nat.le_trans hE (Nat.le_trans (tad_b b j) (Nat.le_add_right _ _)))]
  congr 1
  refine gup_t hj (by omega) (fun i' hi' => ?_)
  match i', hi' with
  | 0, _ => simp (disch := omega) only [tcell, tfs, upd_o]; rfl
  | 1, _ => simp (disch := omega) only [tcell, tarr_oth]; rfl
  | 2, _ => simp (disch := omega) only [tcell, tarr_oth]; rfl
  | 3, _ => simp only [tcell, if_true]; rw [tarr_up hi]
  | 4, _ => simp (disch := omega) only [tcell, tarr_oth]; rfl
  | 5, _ => simp (disch := omega) only [tcell, tarr_oth]; rfl
  | 6, _ => simp (disch := omega) only [tcell, tarr_oth]; rfl
  | 7, _ => simp (disch := omega) only [tcell, tarr_oth]; rfl
theorem t_w4 (hE : E.1 ≤ b) (hj : j < 12) {i : Nat} (hi : i < 6) (v : Int32) (K : GS → Option β) : gaw 1 E (put b A S) (some (tad b j + 4)) (Int32.ofNat i) v K = K (put b (sS A j (upd (aT A j).2.2 (114 + i) v)) S) := by
  rw [gaw_at (put_t (i := 4) hj (by omega)) hi (by omega) (Nat.le_trans hE (Nat.le_trans (tad_b b j) (Nat.le_add_right _ _)))]
  congr 1
  refine gup_t hj (by omega) (fun i' hi' => ?_)
  match i', hi' with
  | 0, _ => simp (disch := omega) only [tcell, tfs, upd_o]; rfl
  | 1, _ => simp (disch := omega) only [tcell, tarr_oth]; rfl
  | 2, _ => simp (disch := omega) only [tcell, tarr_oth]; rfl
  | 3, _ => simp (disch := omega) only [tcell, tarr_oth]; rfl
  | 4, _ => simp only [tcell, if_true]; rw [tarr_up hi]
  | 5, _ => simp (disch := omega) only [tcell, tarr_oth]; rfl
  | 6, _ => simp (disch := omega) only [tcell, tarr_oth]; rfl
  | 7, _ => simp (disch := omega) only [tcell, tarr_oth]; rfl
theorem t_w5 (hE : E.1 ≤ b) (hj : j < 12) {i : Nat} (hi : i < 6) (v : Int32) (K : GS → Option β) : gaw 1 E (put b A S) (some (tad b j + 5)) (Int32.ofNat i) v K = K (put b (sS A j (upd (aT A j).2.2 (120 + i) v)) S) := by
  rw [gaw_at (put_t (i := 5) hj (by omega)) hi (by omega) (Nat.le_trans hE (Nat.le_trans (tad_b b j) (Nat.le_add_right _ _)))]
  congr 1
  refine gup_t hj (by omega) (fun i' hi' => ?_)
  match i', hi' with
  | 0, _ => simp (disch := omega) only [tcell, tfs, upd_o]; rfl
  | 1, _ => simp (disch := omega) only [tcell, tarr_oth]; rfl
  | 2, _ => simp (disch := omega) only [tcell, tarr_oth]; rfl
  | 3, _ => simp (disch := omega) only [tcell, tarr_oth]; rfl
  | 4, _ => simp (disch := omega) only [tcell, tarr_oth]; rfl
  | 5, _ => simp only [tcell, if_true]; rw [tarr_up hi]
  | 6, _ => simp (disch := omega) only [tcell, tarr_oth]; rfl
  | 7, _ => simp (disch := omega) only [tcell, tarr_oth]; rfl
theorem t_w6 (hE : E.1 ≤ b) (hj : j < 12) {i : Nat} (hi : i < 6) (v : Int32) (K : GS → Option β) : gaw 1 E (put b A S) (some (tad b j + 6)) (Int32.ofNat i) v K = K (put b (sS A j (upd (aT A j).2.2 (126 + i) v)) S) := by
  rw [gaw_at (put_t (i := 6) hj (by omega)) hi (by omega) (Nat.le_trans hE (Nat.le_trans (tad_b b j) (Nat.le_add_right _ _)))]
  congr 1
  refine gup_t hj (by omega) (fun i' hi' => ?_)
  match i', hi' with
  | 0, _ => simp (disch := omega) only [tcell, tfs, upd_o]; rfl
  | 1, _ => simp (disch := omega) only [tcell, tarr_oth]; rfl
  | 2, _ => simp (disch := omega) only [tcell, tarr_oth]; rfl
  | 3, _ => simp (disch := omega) only [tcell, tarr_oth]; rfl
  | 4, _ => simp (disch := omega) only [tcell, tarr_oth]; rfl
  | 5, _ => simp (disch := omega) only [tcell, tarr_oth]; rfl
  | 6, _ => simp only [tcell, if_true]; rw [tarr_up hi]
  | 7, _ => simp (disch := omega) only [tcell, tarr_oth]; rfl
theorem t_w7 (hE : E.1 ≤ b) (hj : j < 12) {i : Nat} (hi : i < 6) (v : Int32) (K : GS → Option β) : gaw 1 E (put b A S) (some (tad b j + 7)) (Int32.ofNat i) v K = K (put b (sS A j (upd (aT A j).2.2 (132 + i) v)) S) := by
  rw [gaw_at (put_t (i := 7) hj (by omega)) hi (by omega) (Nat.le_trans hE (Nat.le_trans (tad_b b j) (Nat.le_add_right _ _)))]
  congr 1
  refine gup_t hj (by omega) (fun i' hi' => ?_)
  match i', hi' with
  | 0, _ => simp (disch := omega) only [tcell, tfs, upd_o]; rfl
  | 1, _ => simp (disch := omega) only [tcell, tarr_oth]; rfl
  | 2, _ => simp (disch := omega) only [tcell, tarr_oth]; rfl
  | 3, _ => simp (disch := omega) only [tcell, tarr_oth]; rfl
  | 4, _ => simp (disch := omega) only [tcell, tarr_oth]; rfl
  | 5, _ => simp (disch := omega) only [tcell, tarr_oth]; rfl
  | 6, _ => simp (disch := omega) only [tcell, tarr_oth]; rfl
  | 7, _ => simp only [tcell, if_true]; rw [tarr_up hi]
theorem t_p29 (hE : E.1 ≤ b) (hj : j < 12) (v : Int32) (K : GS → Option β) : gpv E (put b A S) (some (tad b j)) 29 (.int v) K = K (put b (sS A j (upd (aT A j).2.2 91 v)) S) := by
  rw [gpv_at (put_t0 hj) (k := 1) rfl (by decide : 1 < 12) (Nat.le_trans hE (tad_b b j))]
  congr 1
  refine gup_t (i := 0) hj (by omega) (fun i' hi' => ?_)
  match i', hi' with
  | 0, _ => simp (disch := omega) only [tcell, tfs, upd_o, upd_s, if_true]; rfl
  | 1, _ => simp (disch := omega) only [tcell, tarr_oth]; rfl
  | 2, _ => simp (disch := omega) only [tcell, tarr_oth]; rfl
  | 3, _ => simp (disch := omega) only [tcell, tarr_oth]; rfl
  | 4, _ => simp (disch := omega) only [tcell, tarr_oth]; rfl
  | 5, _ => simp (disch := omega) only [tcell, tarr_oth]; rfl
  | 6, _ => simp (disch := omega) only [tcell, tarr_oth]; rfl
  | 7, _ => simp (disch := omega) only [tcell, tarr_oth]; rfl
theorem t_p30 (hE : E.1 ≤ b) (hj : j < 12) (v : Int32) (K : GS → Option β) : gpv E (put b A S) (some (tad b j)) 30 (.int v) K = K (put b (sS A j (upd (aT A j).2.2 92 v)) S) := by
  rw [gpv_at (put_t0 hj) (k := 2) rfl (by decide : 2 < 12) (Nat.le_trans hE (tad_b b j))]
  congr 1
  refine gup_t (i := 0) hj (by omega) (fun i' hi' => ?_)
  match i', hi' with
  | 0, _ => simp (disch := omega) only [tcell, tfs, upd_o, upd_s, if_true]; rfl
  | 1, _ => simp (disch := omega) only [tcell, tarr_oth]; rfl
  | 2, _ => simp (disch := omega) only [tcell, tarr_oth]; rfl
  | 3, _ => simp (disch := omega) only [tcell, tarr_oth]; rfl
  | 4, _ => simp (disch := omega) only [tcell, tarr_oth]; rfl
  | 5, _ => simp (disch := omega) only [tcell, tarr_oth]; rfl
  | 6, _ => simp (disch := omega) only [tcell, tarr_oth]; rfl
  | 7, _ => simp (disch := omega) only [tcell, tarr_oth]; rfl
theorem t_p31 (hE : E.1 ≤ b) (hj : j < 12) (v : Int32) (K : GS → Option β) : gpv E (put b A S) (some (tad b j)) 31 (.int v) K = K (put b (sS A j (upd (aT A j).2.2 93 v)) S) := by
  rw [gpv_at (put_t0 hj) (k := 3) rfl (by decide : 3 < 12) (Nat.le_trans hE (tad_b b j))]
  congr 1
  refine gup_t (i := 0) hj (by omega) (fun i' hi' => ?_)
  match i', hi' with
  | 0, _ => simp (disch := omega) only [tcell, tfs, upd_o, upd_s, if_true]; rfl
  | 1, _ => simp (disch := omega) only [tcell, tarr_oth]; rfl
  | 2, _ => simp (disch := omega) only [tcell, tarr_oth]; rfl
  | 3, _ => simp (disch := omega) only [tcell, tarr_oth]; rfl
  | 4, _ => simp (disch := omega) only [tcell, tarr_oth]; rfl
  | 5, _ => simp (disch := omega) only [tcell, tarr_oth]; rfl
  | 6, _ => simp (disch := omega) only [tcell, tarr_oth]; rfl
  | 7, _ => simp (disch := omega) only [tcell, tarr_oth]; rfl
theorem t_p39 (hE : E.1 ≤ b) (hj : j < 12) (v : Int32) (K : GS → Option β) : gpv E (put b A S) (some (tad b j)) 39 (.int v) K = K (put b (sT A j ((aT A j).1, v, (aT A j).2.2)) S) := by
  rw [gpv_at (put_t0 hj) (k := 11) rfl (by decide : 11 < 12) (Nat.le_trans hE (tad_b b j))]
  congr 1
  refine gup_t (i := 0) hj (by omega) (fun i' hi' => ?_)
  match i', hi' with
  | 0, _ => rfl
  | 1, _ => rfl
  | 2, _ => rfl
  | 3, _ => rfl
  | 4, _ => rfl
  | 5, _ => rfl
  | 6, _ => rfl
  | 7, _ => rfl
theorem t_pa (hE : E.1 ≤ b) (hj : j < 12) (v : Option Nat) (K : GS → Option β) : gpv E (put b A S) (some (tad b j)) 28 (va_rf v) K = K (put b (sT A j (v, (aT A j).2)) S) := by
  rw [gpv_at (put_t0 hj) (k := 0) rfl (by decide : 0 < 12) (Nat.le_trans hE (tad_b b j))]
  congr 1
  refine gup_t (i := 0) hj (by omega) (fun i' hi' => ?_)
  match i', hi' with
  | 0, _ => rfl
  | 1, _ => rfl
  | 2, _ => rfl
  | 3, _ => rfl
  | 4, _ => rfl
  | 5, _ => rfl
  | 6, _ => rfl
  | 7, _ => rfl
theorem f_c : (put b A S).1 b = some (.inr (0, ffs b A)) := put_m0
theorem f_cls (K : Nat → Nat → Option β) : gvd (put b A S) (some b) K = K b 0 := gvd_at f_c K
theorem t_cls (hj : j < 12) (K : Nat → Nat → Option β) : gvd (put b A S) (some (tad b j)) K = K (tad b j) 2 := gvd_at (put_t0 hj) K
theorem core_f {A A' : FA} (h : A'.1 = A.1) (hf : ∀ k, isM k → tloc k = none → k ≠ 0 → fcell b A' k = fcell b A k) : ∀ k', isM k' → core b A' k' = if k' = 0 then some (.inr (0, ffs b A')) else core b A k' := by
  intro k' hk'
  by_cases h0 : k' = 0
  · subst h0; rfl
  · rw [if_neg h0]
    unfold core
    cases hl : tloc k' with
    | none => exact hf k' hk' hl h0
    | some p => simp only [aT, h]
theorem f_1 (K : Int32 → Option β) : ggi (put b A S) (some b) 1 K = K (aI A 1) := ggi_at f_c rfl rfl K
theorem f_p1 (hE : E.1 ≤ b) (v : Int32) (K : GS → Option β) : gpv E (put b A S) (some b) 1 (.int v) K = K (put b (sI A 1 v) S) := by
  rw [gpv_at f_c (k := 1) rfl (by decide : 1 < 24) hE]
  congr 1
  exact gup_put (k := 0) (by unfold isM; omega) (core_f (A' := sI A 1 v) rfl (fun k _ _ h0 => by unfold fcell; split <;> first | exact absurd rfl h0 | rfl))
theorem f_2 (K : Int32 → Option β) : ggi (put b A S) (some b) 2 K = K (aI A 2) := ggi_at f_c rfl rfl K
theorem f_p2 (hE : E.1 ≤ b) (v : Int32) (K : GS → Option β) : gpv E (put b A S) (some b) 2 (.int v) K = K (put b (sI A 2 v) S) := by
  rw [gpv_at f_c (k := 2) rfl (by decide : 2 < 24) hE]
  congr 1
  exact gup_put (k := 0) (by unfold isM; omega) (core_f (A' := sI A 2 v) rfl (fun k _ _ h0 => by unfold fcell; split <;> first | exact absurd rfl h0 | rfl))
theorem f_8 (K : Int32 → Option β) : ggi (put b A S) (some b) 8 K = K (aI A 8) := ggi_at f_c rfl rfl K
theorem f_p8 (hE : E.1 ≤ b) (v : Int32) (K : GS → Option β) : gpv E (put b A S) (some b) 8 (.int v) K = K (put b (sI A 8 v) S) := by
  rw [gpv_at f_c (k := 8) rfl (by decide : 8 < 24) hE]
  congr 1
  exact gup_put (k := 0) (by unfold isM; omega) (core_f (A' := sI A 8 v) rfl (fun k _ _ h0 => by unfold fcell; split <;> first | exact absurd rfl h0 | rfl))
theorem f_11 (K : Int32 → Option β) : ggi (put b A S) (some b) 11 K = K (aI A 11) := ggi_at f_c rfl rfl K
theorem f_p11 (hE : E.1 ≤ b) (v : Int32) (K : GS → Option β) : gpv E (put b A S) (some b) 11 (.int v) K = K (put b (sI A 11 v) S) := by
  rw [gpv_at f_c (k := 11) rfl (by decide : 11 < 24) hE]
  congr 1
  exact gup_put (k := 0) (by unfold isM; omega) (core_f (A' := sI A 11 v) rfl (fun k _ _ h0 => by unfold fcell; split <;> first | exact absurd rfl h0 | rfl))
theorem f_12 (K : Int32 → Option β) : ggi (put b A S) (some b) 12 K = K (aI A 12) := ggi_at f_c rfl rfl K
theorem f_p12 (hE : E.1 ≤ b) (v : Int32) (K : GS → Option β) : gpv E (put b A S) (some b) 12 (.int v) K = K (put b (sI A 12 v) S) := by
  rw [gpv_at f_c (k := 12) rfl (by decide : 12 < 24) hE]
  congr 1
  exact gup_put (k := 0) (by unfold isM; omega) (core_f (A' := sI A 12 v) rfl (fun k _ _ h0 => by unfold fcell; split <;> first | exact absurd rfl h0 | rfl))
theorem f_13 (K : Int32 → Option β) : ggi (put b A S) (some b) 13 K = K (aI A 13) := ggi_at f_c rfl rfl K
theorem f_p13 (hE : E.1 ≤ b) (v : Int32) (K : GS → Option β) : gpv E (put b A S) (some b) 13 (.int v) K = K (put b (sI A 13 v) S) := by
  rw [gpv_at f_c (k := 13) rfl (by decide : 13 < 24) hE]
  congr 1
  exact gup_put (k := 0) (by unfold isM; omega) (core_f (A' := sI A 13 v) rfl (fun k _ _ h0 => by unfold fcell; split <;> first | exact absurd rfl h0 | rfl))
theorem f_14 (K : Int32 → Option β) : ggi (put b A S) (some b) 14 K = K (aI A 14) := ggi_at f_c rfl rfl K
theorem f_p14 (hE : E.1 ≤ b) (v : Int32) (K : GS → Option β) : gpv E (put b A S) (some b) 14 (.int v) K = K (put b (sI A 14 v) S) := by
  rw [gpv_at f_c (k := 14) rfl (by decide : 14 < 24) hE]
  congr 1
  exact gup_put (k := 0) (by unfold isM; omega) (core_f (A' := sI A 14 v) rfl (fun k _ _ h0 => by unfold fcell; split <;> first | exact absurd rfl h0 | rfl))
theorem f_17 (K : Int32 → Option β) : ggi (put b A S) (some b) 17 K = K (aI A 17) := ggi_at f_c rfl rfl K
theorem f_p17 (hE : E.1 ≤ b) (v : Int32) (K : GS → Option β) : gpv E (put b A S) (some b) 17 (.int v) K = K (put b (sI A 17 v) S) := by
  rw [gpv_at f_c (k := 17) rfl (by decide : 17 < 24) hE]
  congr 1
  exact gup_put (k := 0) (by unfold isM; omega) (core_f (A' := sI A 17 v) rfl (fun k _ _ h0 => by unfold fcell; split <;> first | exact absurd rfl h0 | rfl))
theorem f_18 (K : Int32 → Option β) : ggi (put b A S) (some b) 18 K = K (aI A 18) := ggi_at f_c rfl rfl K
theorem f_p18 (hE : E.1 ≤ b) (v : Int32) (K : GS → Option β) : gpv E (put b A S) (some b) 18 (.int v) K = K (put b (sI A 18 v) S) := by
  rw [gpv_at f_c (k := 18) rfl (by decide : 18 < 24) hE]
  congr 1
  exact gup_put (k := 0) (by unfold isM; omega) (core_f (A' := sI A 18 v) rfl (fun k _ _ h0 => by unfold fcell; split <;> first | exact absurd rfl h0 | rfl))
theorem f_19 (K : Int32 → Option β) : ggi (put b A S) (some b) 19 K = K (aI A 19) := ggi_at f_c rfl rfl K
theorem f_p19 (hE : E.1 ≤ b) (v : Int32) (K : GS → Option β) : gpv E (put b A S) (some b) 19 (.int v) K = K (put b (sI A 19 v) S) := by
  rw [gpv_at f_c (k := 19) rfl (by decide : 19 < 24) hE]
  congr 1
  exact gup_put (k := 0) (by unfold isM; omega) (core_f (A' := sI A 19 v) rfl (fun k _ _ h0 => by unfold fcell; split <;> first | exact absurd rfl h0 | rfl))
theorem f_20 (K : Int32 → Option β) : ggi (put b A S) (some b) 20 K = K (aI A 20) := ggi_at f_c rfl rfl K
theorem f_p20 (hE : E.1 ≤ b) (v : Int32) (K : GS → Option β) : gpv E (put b A S) (some b) 20 (.int v) K = K (put b (sI A 20 v) S) := by
  rw [gpv_at f_c (k := 20) rfl (by decide : 20 < 24) hE]
  congr 1
  exact gup_put (k := 0) (by unfold isM; omega) (core_f (A' := sI A 20 v) rfl (fun k _ _ h0 => by unfold fcell; split <;> first | exact absurd rfl h0 | rfl))
theorem f_3 (K : Option Nat → Option β) : ggr (put b A S) (some b) 3 K = K (aR A 3) := ggr_at f_c rfl rfl K
theorem f_p3 (hE : E.1 ≤ b) (v : Option Nat) (K : GS → Option β) : gpv E (put b A S) (some b) 3 (va_rf v) K = K (put b (sR A 3 v) S) := by
  rw [gpv_at f_c (k := 3) rfl (by decide : 3 < 24) hE]
  congr 1
  exact gup_put (k := 0) (by unfold isM; omega) (core_f (A' := sR A 3 v) rfl (fun k _ _ h0 => by unfold fcell; split <;> first | exact absurd rfl h0 | rfl))
theorem f_6 (K : Option Nat → Option β) : ggr (put b A S) (some b) 6 K = K (aR A 6) := ggr_at f_c rfl rfl K
theorem f_p6 (hE : E.1 ≤ b) (v : Option Nat) (K : GS → Option β) : gpv E (put b A S) (some b) 6 (va_rf v) K = K (put b (sR A 6 v) S) := by
  rw [gpv_at f_c (k := 6) rfl (by decide : 6 < 24) hE]
  congr 1
  exact gup_put (k := 0) (by unfold isM; omega) (core_f (A' := sR A 6 v) rfl (fun k _ _ h0 => by unfold fcell; split <;> first | exact absurd rfl h0 | rfl))
theorem f_21 (K : Option Nat → Option β) : ggr (put b A S) (some b) 21 K = K (aR A 21) := ggr_at f_c rfl rfl K
theorem f_p21 (hE : E.1 ≤ b) (v : Option Nat) (K : GS → Option β) : gpv E (put b A S) (some b) 21 (va_rf v) K = K (put b (sR A 21 v) S) := by
  rw [gpv_at f_c (k := 21) rfl (by decide : 21 < 24) hE]
  congr 1
  exact gup_put (k := 0) (by unfold isM; omega) (core_f (A' := sR A 21 v) rfl (fun k _ _ h0 => by unfold fcell; split <;> first | exact absurd rfl h0 | rfl))
theorem f_p6n (hE : E.1 ≤ b) (K : GS → Option β) : gpv E (put b A S) (some b) 6 .null K = K (put b (sR A 6 none) S) := f_p6 hE none K
theorem f_0 (K : Option Nat → Option β) : ggr (put b A S) (some b) 0 K = K (some (b + 1)) := ggr_as f_c rfl rfl K
theorem f_4 (K : Option Nat → Option β) : ggr (put b A S) (some b) 4 K = K (some (tad b 0)) := ggr_as f_c rfl rfl K
theorem f_5 (K : Option Nat → Option β) : ggr (put b A S) (some b) 5 K = K (some (tad b 1)) := ggr_as f_c rfl rfl K
theorem f_7 (K : Option Nat → Option β) : ggr (put b A S) (some b) 7 K = K (some (b + 22)) := ggr_as f_c rfl rfl K
theorem f_9 (K : Option Nat → Option β) : ggr (put b A S) (some b) 9 K = K (some (b + 23)) := ggr_as f_c rfl rfl K
theorem f_10 (K : Option Nat → Option β) : ggr (put b A S) (some b) 10 K = K (some (b + 24)) := ggr_as f_c rfl rfl K
theorem f_15 (K : Option Nat → Option β) : ggr (put b A S) (some b) 15 K = K (some (b + 25)) := ggr_as f_c rfl rfl K
theorem f_16 (K : Option Nat → Option β) : ggr (put b A S) (some b) 16 K = K (some (b + 26)) := ggr_as f_c rfl rfl K
theorem f_22 (K : Option Nat → Option β) : ggr (put b A S) (some b) 22 K = K (some (b + 27)) := ggr_as f_c rfl rfl K
theorem f_23 (K : Option Nat → Option β) : ggr (put b A S) (some b) 23 K = K (some (b + 28)) := ggr_as f_c rfl rfl K
theorem f_c0 : (put b A S).1 (b + 1) = some (.inl (0, 940, .inl (aV A 0))) := put_m (k := 1) (by unfold isM; omega)
theorem f_g0 {i : Nat} (hi : i < 940) (K : Int32 → Option β) : gai 0 (put b A S) (some (b + 1)) (Int32.ofNat i) K = K (aV A 0 i) := gai_at f_c0 hi (by omega) K
theorem f_l0 (K : Int32 → Option β) : gal (put b A S) (some (b + 1)) K = K (Int32.ofNat 940) := gal_at f_c0 (by omega) K
theorem f_u0 (f : Nat → Int32) : gup (put b A S) (b + 1) (.inl (0, 940, .inl f)) = put b (sV A 0 f) S := by
  refine gup_put (by unfold isM; omega) (fun k' hk' => ?_)
  unfold core
  cases hl : tloc k' with
  | none =>
    simp only []
    by_cases h : k' = 1
    · subst h; rfl
    · rw [if_neg h]
      unfold fcell
      split <;> first | exact absurd rfl h | rfl
  | some p =>
    rw [if_neg (by intro e; subst e; cases hl)]
    rfl
theorem f_w0 (hE : E.1 ≤ b) {i : Nat} (hi : i < 940) (v : Int32) (K : GS → Option β) : gaw 0 E (put b A S) (some (b + 1)) (Int32.ofNat i) v K = K (put b (sV A 0 (upd (aV A 0) i v)) S) := by
  rw [gaw_at f_c0 hi (by omega) (by omega), f_u0]
theorem f_c9 : (put b A S).1 (b + 23) = some (.inl (1, 5, .inl (aV A 9))) := put_m (k := 23) (by unfold isM; omega)
theorem f_g9 {i : Nat} (hi : i < 5) (K : Int32 → Option β) : gai 1 (put b A S) (some (b + 23)) (Int32.ofNat i) K = K (aV A 9 i) := gai_at f_c9 hi (by omega) K
theorem f_l9 (K : Int32 → Option β) : gal (put b A S) (some (b + 23)) K = K (Int32.ofNat 5) := gal_at f_c9 (by omega) K
theorem f_u9 (f : Nat → Int32) : gup (put b A S) (b + 23) (.inl (1, 5, .inl f)) = put b (sV A 9 f) S := by
  refine gup_put (by unfold isM; omega) (fun k' hk' => ?_)
  unfold core
  cases hl : tloc k' with
  | none =>
    simp only []
    by_cases h : k' = 23
    · subst h; rfl
    · rw [if_neg h]
      unfold fcell
      split <;> first | exact absurd rfl h | rfl
  | some p =>
    rw [if_neg (by intro e; subst e; cases hl)]
    rfl
theorem f_w9 (hE : E.1 ≤ b) {i : Nat} (hi : i < 5) (v : Int32) (K : GS → Option β) : gaw 1 E (put b A S) (some (b + 23)) (Int32.ofNat i) v K = K (put b (sV A 9 (upd (aV A 9) i v)) S) := by
  rw [gaw_at f_c9 hi (by omega) (by omega), f_u9]
theorem f_c10 : (put b A S).1 (b + 24) = some (.inl (1, 5, .inl (aV A 10))) := put_m (k := 24) (by unfold isM; omega)
theorem f_g10 {i : Nat} (hi : i < 5) (K : Int32 → Option β) : gai 1 (put b A S) (some (b + 24)) (Int32.ofNat i) K = K (aV A 10 i) := gai_at f_c10 hi (by omega) K
theorem f_l10 (K : Int32 → Option β) : gal (put b A S) (some (b + 24)) K = K (Int32.ofNat 5) := gal_at f_c10 (by omega) K
theorem f_u10 (f : Nat → Int32) : gup (put b A S) (b + 24) (.inl (1, 5, .inl f)) = put b (sV A 10 f) S := by
  refine gup_put (by unfold isM; omega) (fun k' hk' => ?_)
  unfold core
  cases hl : tloc k' with
  | none =>
    simp only []
    by_cases h : k' = 24
    · subst h; rfl
    · rw [if_neg h]
      unfold fcell
      split <;> first | exact absurd rfl h | rfl
  | some p =>
    rw [if_neg (by intro e; subst e; cases hl)]
    rfl
theorem f_w10 (hE : E.1 ≤ b) {i : Nat} (hi : i < 5) (v : Int32) (K : GS → Option β) : gaw 1 E (put b A S) (some (b + 24)) (Int32.ofNat i) v K = K (put b (sV A 10 (upd (aV A 10) i v)) S) := by
  rw [gaw_at f_c10 hi (by omega) (by omega), f_u10]
theorem f_c15 : (put b A S).1 (b + 25) = some (.inl (1, 6, .inl (aV A 15))) := put_m (k := 25) (by unfold isM; omega)
theorem f_g15 {i : Nat} (hi : i < 6) (K : Int32 → Option β) : gai 1 (put b A S) (some (b + 25)) (Int32.ofNat i) K = K (aV A 15 i) := gai_at f_c15 hi (by omega) K
theorem f_l15 (K : Int32 → Option β) : gal (put b A S) (some (b + 25)) K = K (Int32.ofNat 6) := gal_at f_c15 (by omega) K
theorem f_u15 (f : Nat → Int32) : gup (put b A S) (b + 25) (.inl (1, 6, .inl f)) = put b (sV A 15 f) S := by
  refine gup_put (by unfold isM; omega) (fun k' hk' => ?_)
  unfold core
  cases hl : tloc k' with
  | none =>
    simp only []
    by_cases h : k' = 25
    · subst h; rfl
    · rw [if_neg h]
      unfold fcell
      split <;> first | exact absurd rfl h | rfl
  | some p =>
    rw [if_neg (by intro e; subst e; cases hl)]
    rfl
theorem f_w15 (hE : E.1 ≤ b) {i : Nat} (hi : i < 6) (v : Int32) (K : GS → Option β) : gaw 1 E (put b A S) (some (b + 25)) (Int32.ofNat i) v K = K (put b (sV A 15 (upd (aV A 15) i v)) S) := by
  rw [gaw_at f_c15 hi (by omega) (by omega), f_u15]
theorem f_c16 : (put b A S).1 (b + 26) = some (.inl (1, 6, .inl (aV A 16))) := put_m (k := 26) (by unfold isM; omega)
theorem f_g16 {i : Nat} (hi : i < 6) (K : Int32 → Option β) : gai 1 (put b A S) (some (b + 26)) (Int32.ofNat i) K = K (aV A 16 i) := gai_at f_c16 hi (by omega) K
theorem f_l16 (K : Int32 → Option β) : gal (put b A S) (some (b + 26)) K = K (Int32.ofNat 6) := gal_at f_c16 (by omega) K
theorem f_u16 (f : Nat → Int32) : gup (put b A S) (b + 26) (.inl (1, 6, .inl f)) = put b (sV A 16 f) S := by
  refine gup_put (by unfold isM; omega) (fun k' hk' => ?_)
  unfold core
  cases hl : tloc k' with
  | none =>
    simp only []
    by_cases h : k' = 26
    · subst h; rfl
    · rw [if_neg h]
      unfold fcell
      split <;> first | exact absurd rfl h | rfl
  | some p =>
    rw [if_neg (by intro e; subst e; cases hl)]
    rfl
theorem f_w16 (hE : E.1 ≤ b) {i : Nat} (hi : i < 6) (v : Int32) (K : GS → Option β) : gaw 1 E (put b A S) (some (b + 26)) (Int32.ofNat i) v K = K (put b (sV A 16 (upd (aV A 16) i v)) S) := by
  rw [gaw_at f_c16 hi (by omega) (by omega), f_u16]
theorem f_c22 : (put b A S).1 (b + 27) = some (.inl (1, 4, .inl (aV A 22))) := put_m (k := 27) (by unfold isM; omega)
theorem f_g22 {i : Nat} (hi : i < 4) (K : Int32 → Option β) : gai 1 (put b A S) (some (b + 27)) (Int32.ofNat i) K = K (aV A 22 i) := gai_at f_c22 hi (by omega) K
theorem f_l22 (K : Int32 → Option β) : gal (put b A S) (some (b + 27)) K = K (Int32.ofNat 4) := gal_at f_c22 (by omega) K
theorem f_u22 (f : Nat → Int32) : gup (put b A S) (b + 27) (.inl (1, 4, .inl f)) = put b (sV A 22 f) S := by
  refine gup_put (by unfold isM; omega) (fun k' hk' => ?_)
  unfold core
  cases hl : tloc k' with
  | none =>
    simp only []
    by_cases h : k' = 27
    · subst h; rfl
    · rw [if_neg h]
      unfold fcell
      split <;> first | exact absurd rfl h | rfl
  | some p =>
    rw [if_neg (by intro e; subst e; cases hl)]
    rfl
theorem f_w22 (hE : E.1 ≤ b) {i : Nat} (hi : i < 4) (v : Int32) (K : GS → Option β) : gaw 1 E (put b A S) (some (b + 27)) (Int32.ofNat i) v K = K (put b (sV A 22 (upd (aV A 22) i v)) S) := by
  rw [gaw_at f_c22 hi (by omega) (by omega), f_u22]
end PT
