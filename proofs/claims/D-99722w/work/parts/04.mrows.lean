/-! The model's world: one object, 25 arrays, none made after the constructor; its state S, and rows of the machine over it. -/
abbrev MS : Type := (Nat → Int32) × Int64 × (Nat → Nat → Int32) × (Nat → Nat → Int64)
abbrev MG : Type := va_G × List vw_C × Nat × Nat × (Nat → Nat) × (Nat → ClassId)
abbrev mh (Γ : MG) : Nat := Γ.2.2.2.1
abbrev ma (Γ : MG) (k : Nat) : Nat := Γ.2.2.2.2.1 k
/-- kind of a field: 0 int, 1 long, 2 byte[], 3 int[], 4 long[], 5 boolean[], 6 boolean -/
def mki : Nat → Nat := fun k => match k with
  | 1 => 2 | 6 => 3 | 7 => 3 | 8 => 3 | 9 => 4 | 10 => 4 | 17 => 1 | 21 => 3 | 22 => 3 | 24 => 3 | 25 => 3 | 26 => 3 | 27 => 3 | 31 => 3 | 32 => 3 | 33 => 3
  | 38 => 6 | 39 => 3 | 40 => 3 | 43 => 6 | 44 => 2 | 48 => 3 | 49 => 6 | 50 => 3 | 55 => 6 | 56 => 5 | 57 => 3 | 58 => 4 | 59 => 5
  | _ => 0
def mlen : Nat → Nat := fun k => match k with
  | 1 => 940 | 6 => 319 | 7 => 91 | 8 => 160 | 9 => 26 | 10 => 24 | 21 => 376 | 22 => 47 | 24 => 6 | 25 => 6 | 26 => 6 | 27 => 6 | 31 => 5 | 32 => 4 | 33 => 7
  | 39 => 6 | 40 => 6 | 44 => 40 | 48 => 4 | 50 => 45 | 56 => 45 | 57 => 638 | 58 => 26 | 59 => 2
  | _ => 0
abbrev mrefs : List Nat := [1, 6, 7, 8, 9, 10, 21, 22, 24, 25, 26, 27, 31, 32, 33, 39, 40, 44, 48, 50, 56, 57, 58, 59]
def mpos : Nat → Nat := fun k => match k with
  | 1 => 0 | 6 => 1 | 7 => 2 | 8 => 3 | 9 => 4 | 10 => 5 | 21 => 6 | 22 => 7 | 24 => 8 | 25 => 9 | 26 => 10 | 27 => 11 | 31 => 12 | 32 => 13 | 33 => 14
  | 39 => 15 | 40 => 16 | 44 => 17 | 48 => 18 | 50 => 19 | 56 => 20 | 57 => 21 | 58 => 22 | 59 => 23
  | _ => 99
def mval (ad : Nat → Nat) (S : MS) (k : Nat) : Value := if mki k = 0 ∨ mki k = 6 then .int (S.1 k) else if mki k = 1 then .long S.2.1 else .ref (ad k)
def mfl (ad : Nat → Nat) (S : MS) : List Value := (List.range 60).map (mval ad S)
def marr (ad : Nat → Nat) (dA : Nat → ClassId) (S : MS) (k : Nat) : Nat × va_E := (ad k, .inl (dA (mki k), mlen k, if mki k = 4 then .inr (.inl (S.2.2.2 k)) else .inl (S.2.2.1 k)))
def mcells (Γ : MG) (S : MS) : va_W := (mh Γ, .inr (Γ.2.2.1, mfl Γ.2.2.2.2.1 S)) :: mrefs.map (marr Γ.2.2.2.2.1 Γ.2.2.2.2.2 S)
def mF (S : MS) (k : Nat) (v : Int32) : MS := (va_up S.1 k v, S.2)
def mW (S : MS) (v : Int64) : MS := (S.1, v, S.2.2)
def mA (S : MS) (k i : Nat) (v : Int32) : MS := (S.1, S.2.1, va_up S.2.2.1 k (upd (S.2.2.1 k) i v), S.2.2.2)
def mL (S : MS) (k i : Nat) (v : Int64) : MS := (S.1, S.2.1, S.2.2.1, va_up S.2.2.2 k (vp_updL (S.2.2.2 k) i v))
def mAd (Γ : MG) : Nat → Prop := fun q => q ∈ mh Γ :: mrefs.map (ma Γ)
def mN (Γ : MG) : Prop := (mh Γ :: mrefs.map (ma Γ)).Nodup
def mtys (Γ : MG) : List (ClassId × FieldType) := [(Γ.2.2.2.2.2 2, .byte), (Γ.2.2.2.2.2 3, .int), (Γ.2.2.2.2.2 4, .long), (Γ.2.2.2.2.2 5, .boolean)]
def MK (Γ : MG) (U : State) : Prop := va_K Γ.1 Γ.2.1 (mtys Γ) U ∧ Γ.2.1[Γ.2.2.1]? = some (RX5, TX5, 60)
def MP (Γ : MG) (S : MS) (H : Heap) : Prop := va_P Γ.1 Γ.2.1 (mcells Γ S) H
def MH (Γ : MG) (H0 : Heap) (S : MS) (H : Heap) (locs : List Loc) : Prop := MP Γ S H ∧ va_S (mAd Γ) H0 H locs
theorem MK.moved {Γ : MG} {u U : State} (hvm : u.vm.Alike U.vm) (h : MK Γ u) : MK Γ U := ⟨va_K.moved hvm h.1, h.2⟩
theorem mcells_fst (Γ : MG) (S : MS) : (mcells Γ S).map (·.1) = mh Γ :: mrefs.map (ma Γ) := by
  simp [mcells, marr, mrefs]
theorem md_of {A : Nat → Prop} {ws : va_W} (h : (ws.map (·.1)).Nodup) (hA : ∀ q ∈ ws.map (·.1), A q) : va_D A ws := by
  refine ⟨fun i j p q hi hj he => ?_, fun k q hk => hA _ (List.mem_map.mpr ⟨q, List.mem_of_getElem? hk, rfl⟩)⟩
  have h1 : (ws.map (·.1))[i]? = some p.1 := by rw [List.getElem?_map, hi]; rfl
  have h2 : (ws.map (·.1))[j]? = some q.1 := by rw [List.getElem?_map, hj]; rfl
  obtain ⟨hi', e1⟩ := List.getElem?_eq_some_iff.mp h1
  obtain ⟨hj', e2⟩ := List.getElem?_eq_some_iff.mp h2
  exact (List.getElem_inj h).mp (e1.trans (he.trans e2.symm))
theorem mN.D {Γ : MG} (h : mN Γ) (S : MS) : va_D (mAd Γ) (mcells Γ S) := md_of (by rw [mcells_fst]; exact h) (fun q hq => by rw [mcells_fst] at hq; exact hq)
theorem mmap_set {α : Type} {f g : Nat → α} {L : List Nat} {p k : Nat} {x : α} (hp : L[p]? = some k) (hnd : L.Nodup) (hx : x = g k) (hne : ∀ j ∈ L, j ≠ k → f j = g j) : (L.map f).set p x = L.map g := by
  apply List.ext_getElem?
  intro i
  rw [List.getElem?_set, List.getElem?_map, List.getElem?_map]
  obtain ⟨hp1, hp2⟩ := List.getElem?_eq_some_iff.mp hp
  by_cases hi : p = i
  · subst hi
    rw [if_pos rfl, if_pos (by rw [List.length_map]; exact hp1), hp, hx]
    rfl
  · rw [if_neg hi]
    cases hL : L[i]? with
    | none => rfl
    | some j =>
      obtain ⟨hi1, hi2⟩ := List.getElem?_eq_some_iff.mp hL
      have hjk : j ≠ k := by
        intro e
        exact hi ((List.getElem_inj hnd).mp (by rw [hp2, hi2, e]))
      simp only [Option.map_some]
      rw [hne j (List.mem_of_getElem? hL) hjk]
theorem mrefs_nd : mrefs.Nodup := by decide
theorem mset_F (Γ : MG) (S : MS) {k : Nat} (v : Int32) (hk : k < 60) (hi : mki k = 0 ∨ mki k = 6) : (mcells Γ S).set 0 (mh Γ, .inr (Γ.2.2.1, (mfl Γ.2.2.2.2.1 S).set k (.int v))) = mcells Γ (mF S k v) := by
  have h : (mfl Γ.2.2.2.2.1 S).set k (.int v) = mfl Γ.2.2.2.2.1 (mF S k v) := by
    refine mmap_set (k := k) (by rw [List.getElem?_range hk]) List.nodup_range ?_ ?_
    · simp [mval, mF, va_up, hi]
    · intro j _ hj
      simp [mval, mF, va_up, hj]
  rw [h]
  rfl
theorem mset_W (Γ : MG) (S : MS) (v : Int64) : (mcells Γ S).set 0 (mh Γ, .inr (Γ.2.2.1, (mfl Γ.2.2.2.2.1 S).set 17 (.long v))) = mcells Γ (mW S v) := by
  have h : (mfl Γ.2.2.2.2.1 S).set 17 (.long v) = mfl Γ.2.2.2.2.1 (mW S v) := by
    refine mmap_set (k := 17) (by rw [List.getElem?_range (by decide)]) List.nodup_range ?_ ?_
    · simp [mval, mW, mki]
    · intro j hj0 hj
      have : j < 60 := List.mem_range.mp hj0
      have h17 : ∀ j, j < 60 → j ≠ 17 → mki j ≠ 1 := by decide
      simp [mval, mW, h17 j this hj]
  rw [h]
  rfl
theorem mset_A (Γ : MG) (S : MS) {k : Nat} (i : Nat) (v : Int32) (hp : mrefs[mpos k]? = some k) (hi : mki k ≠ 4) : (mcells Γ S).set (mpos k + 1) (ma Γ k, .inl (Γ.2.2.2.2.2 (mki k), mlen k, .inl (upd (S.2.2.1 k) i v))) = mcells Γ (mA S k i v) := by
  show _ :: _ = _ :: _
  congr 1
  refine mmap_set (k := k) hp mrefs_nd ?_ ?_
  · simp [marr, mA, va_up, hi]
  · intro j _ hj
    simp [marr, mA, va_up, hj]
theorem mset_L (Γ : MG) (S : MS) {k : Nat} (i : Nat) (v : Int64) (hp : mrefs[mpos k]? = some k) (hi : mki k = 4) : (mcells Γ S).set (mpos k + 1) (ma Γ k, .inl (Γ.2.2.2.2.2 (mki k), mlen k, .inr (.inl (vp_updL (S.2.2.2 k) i v)))) = mcells Γ (mL S k i v) := by
  show _ :: _ = _ :: _
  congr 1
  refine mmap_set (k := k) hp mrefs_nd ?_ ?_
  · simp [marr, mL, va_up, hi]
  · intro j _ hj
    simp [marr, mL, va_up, hj]
theorem mat_A (Γ : MG) (S : MS) {k : Nat} (hp : mrefs[mpos k]? = some k) (hi : mki k ≠ 4) : (mcells Γ S)[mpos k + 1]? = some (ma Γ k, .inl (Γ.2.2.2.2.2 (mki k), mlen k, .inl (S.2.2.1 k))) := by
  show (mrefs.map _)[mpos k]? = _
  rw [List.getElem?_map, hp]
  simp [marr, hi]
theorem mat_L (Γ : MG) (S : MS) {k : Nat} (hp : mrefs[mpos k]? = some k) (hi : mki k = 4) : (mcells Γ S)[mpos k + 1]? = some (ma Γ k, .inl (Γ.2.2.2.2.2 (mki k), mlen k, .inr (.inl (S.2.2.2 k)))) := by
  show (mrefs.map _)[mpos k]? = _
  rw [List.getElem?_map, hp]
  simp [marr, hi]
theorem mfl_at (ad : Nat → Nat) (S : MS) {k : Nat} (hk : k < 60) {v : Value} (hv : mval ad S k = v) : (mfl ad S)[k]? = some v := by
  subst hv
  show ((List.range 60).map _)[k]? = _
  rw [List.getElem?_map, List.getElem?_range hk]
  rfl
/-! the words of what a method computes -/
def mrd {β : Type} (a : Nat → Int32) (n : Nat) (i : Int32) (K : Int32 → Option β) : Option β := if i < 0 ∨ n ≤ i.toNatClampNeg then none else K (a i.toNatClampNeg)
def mrdL {β : Type} (a : Nat → Int64) (n : Nat) (i : Int32) (K : Int64 → Option β) : Option β := if i < 0 ∨ n ≤ i.toNatClampNeg then none else K (a i.toNatClampNeg)
def mwr {β : Type} (S : MS) (k n : Nat) (i v : Int32) (K : MS → Option β) : Option β := if i < 0 ∨ n ≤ i.toNatClampNeg then none else K (mA S k i.toNatClampNeg v)
def mwrL {β : Type} (S : MS) (k n : Nat) (i : Int32) (v : Int64) (K : MS → Option β) : Option β := if i < 0 ∨ n ≤ i.toNatClampNeg then none else K (mL S k i.toNatClampNeg v)
def mpt {β : Type} (S : MS) (k : Nat) (v : Int32) (K : MS → Option β) : Option β := K (mF S k v)
def mptW {β : Type} (S : MS) (v : Int64) (K : MS → Option β) : Option β := K (mW S v)
def mzt {β : Type} (v : Int32) (K : Option β) : Option β := if v = 0 ∨ v = 1 then K else none
def mnz {β : Type} (v : Int32) (K : Option β) : Option β := if v = 0 then none else K
def mbd {α β : Type} (o : Option (α × MS)) (K : α → MS → Option β) : Option β := match o with
  | none => none
  | some (r, S) => K r S
theorem mrd_i {β : Type} {a : Nat → Int32} {n : Nat} {i : Int32} {K : Int32 → Option β} {y : β} (h : mrd a n i K = some y) : ∃ v, v = a i.toNatClampNeg ∧ vp_in i n ∧ K v = some y := by
  unfold mrd at h
  split at h
  · cases h
  · rename_i hc
    exact ⟨_, rfl, hc, h⟩
theorem mrdL_i {β : Type} {a : Nat → Int64} {n : Nat} {i : Int32} {K : Int64 → Option β} {y : β} (h : mrdL a n i K = some y) : ∃ v, v = a i.toNatClampNeg ∧ vp_in i n ∧ K v = some y := by
  unfold mrdL at h
  split at h
  · cases h
  · rename_i hc
    exact ⟨_, rfl, hc, h⟩
theorem mwr_i {β : Type} {S : MS} {k n : Nat} {i v : Int32} {K : MS → Option β} {y : β} (h : mwr S k n i v K = some y) : ∃ S', S' = mA S k i.toNatClampNeg v ∧ vp_in i n ∧ K S' = some y := by
  unfold mwr at h
  split at h
  · cases h
  · rename_i hc
    exact ⟨_, rfl, hc, h⟩
theorem mwrL_i {β : Type} {S : MS} {k n : Nat} {i : Int32} {v : Int64} {K : MS → Option β} {y : β} (h : mwrL S k n i v K = some y) : ∃ S', S' = mL S k i.toNatClampNeg v ∧ vp_in i n ∧ K S' = some y := by
  unfold mwrL at h
  split at h
  · cases h
  · rename_i hc
    exact ⟨_, rfl, hc, h⟩
theorem mpt_i {β : Type} {S : MS} {k : Nat} {v : Int32} {K : MS → Option β} {y : β} (h : mpt S k v K = some y) : ∃ S', S' = mF S k v ∧ K S' = some y := ⟨_, rfl, h⟩
theorem mptW_i {β : Type} {S : MS} {v : Int64} {K : MS → Option β} {y : β} (h : mptW S v K = some y) : ∃ S', S' = mW S v ∧ K S' = some y := ⟨_, rfl, h⟩
theorem mzt_i {β : Type} {v : Int32} {K : Option β} {y : β} (h : mzt v K = some y) : (v = 0 ∨ v = 1) ∧ K = some y := by
  unfold mzt at h
  split at h
  · rename_i hc
    exact ⟨hc, h⟩
  · cases h
theorem mnz_i {β : Type} {v : Int32} {K : Option β} {y : β} (h : mnz v K = some y) : ¬ v = 0 ∧ K = some y := by
  unfold mnz at h
  split at h
  · cases h
  · rename_i hc
    exact ⟨hc, h⟩
theorem mbd_i {α β : Type} {o : Option (α × MS)} {K : α → MS → Option β} {y : β} (h : mbd o K = some y) : ∃ r S', o = some (r, S') ∧ K r S' = some y := by
  unfold mbd at h
  split at h
  · cases h
  · exact ⟨_, _, rfl, h⟩
theorem mif_t {β : Type} {c : Prop} [Decidable c] {a b : Option β} {y : β} (h : (if c then a else b) = some y) (hc : c) : a = some y := by rw [if_pos hc] at h; exact h
theorem mif_f {β : Type} {c : Prop} [Decidable c] {a b : Option β} {y : β} (h : (if c then a else b) = some y) (hc : ¬ c) : b = some y := by rw [if_neg hc] at h; exact h
theorem mnar_z {v : Int32} (h : v = 0 ∨ v = 1) : narrow .boolean (.int v) = .int v := by
  rcases h with rfl | rfl <;> rfl
