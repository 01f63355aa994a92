/-! The component's world: a heap of cells by address; words of what its methods compute -/
abbrev GE : Type := (Nat × vp_A) ⊕ (Nat × List Value)
/-- cells by address; the heap's size; cells made, slots made -/
abbrev GS : Type := (Nat → Option GE) × Nat × Nat × Nat
/-- addresses below E.1 are only read; the constants' addresses; statics that are references -/
abbrev gE : Type := Nat × (Nat → Nat) × (Nat → Option Nat)
def gfx (ci κ : Nat) : Option Nat := (gcf ci).findIdx? (fun x => x == κ)
def gobj (S : GS) (r : Option Nat) : Option (Nat × Nat × List Value) := match r with
  | none => none
  | some a => match S.1 a with
    | some (.inr o) => some (a, o.1, o.2)
    | _ => none
def garr (S : GS) (r : Option Nat) : Option (Nat × Nat × vp_A) := match r with
  | none => none
  | some a => match S.1 a with
    | some (.inl o) => some (a, o.1, o.2)
    | _ => none
def gup (S : GS) (a : Nat) (e : GE) : GS := (va_up S.1 a (some e), S.2)
def gfld (S : GS) (r : Option Nat) (κ : Nat) : Option Value := match gobj S r with
  | some (_, ci, fs) => match gfx ci κ with
    | some k => fs[k]?
    | none => none
  | none => none
def ggi {β : Type} (S : GS) (r : Option Nat) (κ : Nat) (K : Int32 → Option β) : Option β := match gfld S r κ with
  | some (.int v) => K v
  | _ => none
def ggr {β : Type} (S : GS) (r : Option Nat) (κ : Nat) (K : Option Nat → Option β) : Option β := match gfld S r κ with
  | some (.ref a) => K (some a)
  | some .null => K none
  | _ => none
def gpv {β : Type} (E : gE) (S : GS) (r : Option Nat) (κ : Nat) (v : Value) (K : GS → Option β) : Option β := match gobj S r with
  | some (a, ci, fs) => match gfx ci κ with
    | some k => if E.1 ≤ a ∧ k < fs.length then K (gup S a (.inr (ci, fs.set k v))) else none
    | none => none
  | none => none
def gai {β : Type} (κ : Nat) (S : GS) (r : Option Nat) (i : Int32) (K : Int32 → Option β) : Option β := match garr S r with
  | some (_, κ', n, .inl f) => if κ' = κ then (if i < 0 ∨ n ≤ i.toNatClampNeg then none else K (f i.toNatClampNeg)) else none
  | _ => none
def gaw {β : Type} (κ : Nat) (E : gE) (S : GS) (r : Option Nat) (i v : Int32) (K : GS → Option β) : Option β := match garr S r with
  | some (a, κ', n, .inl f) => if κ' = κ ∧ E.1 ≤ a then (if i < 0 ∨ n ≤ i.toNatClampNeg then none else K (gup S a (.inl (κ, n, .inl (upd f i.toNatClampNeg v))))) else none
  | _ => none
def gar {β : Type} (S : GS) (r : Option Nat) (i : Int32) (K : Option Nat → Option β) : Option β := match garr S r with
  | some (_, κ', n, .inr (.inr (.inr (.inr f)))) => if 2 ≤ κ' ∧ κ' < 5 then (if i < 0 ∨ n ≤ i.toNatClampNeg then none else K (f i.toNatClampNeg)) else none
  | _ => none
/-- the class that an array of references may hold: anything for Object[] -/
def gmay (κ ci : Nat) : Bool := κ == 2 || (κ == 3 && ci == 2) || (κ == 4 && ci == 3)
def gaq {β : Type} (E : gE) (S : GS) (r : Option Nat) (i : Int32) (v : Option Nat) (K : GS → Option β) : Option β := match garr S r, gobj S v with
  | some (a, κ', n, .inr (.inr (.inr (.inr f)))), some (_, ci, _) => if gmay κ' ci = true ∧ E.1 ≤ a then (if i < 0 ∨ n ≤ i.toNatClampNeg then none else K (gup S a (.inl (κ', n, .inr (.inr (.inr (.inr (va_up f i.toNatClampNeg v)))))))) else none
  | _, _ => none
def gal {β : Type} (S : GS) (r : Option Nat) (K : Int32 → Option β) : Option β := match garr S r with
  | some (_, κ', n, _) => if κ' < 5 then K (Int32.ofNat n) else none
  | none => none
def gpush (S : GS) (e : GE) (n : Nat) : GS := (va_up S.1 S.2.1 (some e), S.2.1 + 1, S.2.2.1 + 1, S.2.2.2 + n)
def gnw {β : Type} (S : GS) (ci : Nat) (K : Nat → GS → Option β) : Option β := K S.2.1 (gpush S (.inr (ci, gdf ci)) (gdf ci).length)
def gdfa (κ : Nat) : (Nat → Int32) ⊕ (Nat → Int64) ⊕ (Nat → UInt32) ⊕ (Nat → UInt64) ⊕ (Nat → Option Nat) := if κ < 2 then .inl (fun _ => 0) else .inr (.inr (.inr (.inr (fun _ => none))))
def gna {β : Type} (S : GS) (κ : Nat) (n : Int32) (K : Nat → GS → Option β) : Option β := if n < 0 ∨ 65536 < n.toNatClampNeg then none else K S.2.1 (gpush S (.inl (κ, n.toNatClampNeg, gdfa κ)) n.toNatClampNeg)
def gbd {α β : Type} (o : Option (α × GS)) (K : α → GS → Option β) : Option β := match o with
  | none => none
  | some (r, S) => K r S
def gcls (S : GS) (r : Option Nat) : Nat := match gobj S r with
  | some (_, ci, _) => ci
  | none => 999
def gnn {β : Type} (r : Option Nat) (K : Option β) : Option β := match r with
  | some _ => K
  | none => none
/-! what is known where they answer -/
def gIs (S : GS) (r : Option Nat) (κ : Nat) (v : Value) : Prop := ∃ a ci fs k, r = some a ∧ S.1 a = some (.inr (ci, fs)) ∧ gfx ci κ = some k ∧ fs[k]? = some v
def gPut (E : gE) (S : GS) (r : Option Nat) (κ : Nat) (v : Value) (S' : GS) : Prop := ∃ a ci fs k, r = some a ∧ S.1 a = some (.inr (ci, fs)) ∧ gfx ci κ = some k ∧ k < fs.length ∧ E.1 ≤ a ∧ S' = gup S a (.inr (ci, fs.set k v))
theorem gobj_i {S : GS} {r : Option Nat} {a ci : Nat} {fs : List Value} (h : gobj S r = some (a, ci, fs)) : r = some a ∧ S.1 a = some (.inr (ci, fs)) := by
  unfold gobj at h
  split at h
  · cases h
  · split at h
    · rename_i h1
      cases h
      exact ⟨rfl, h1⟩
    · cases h
theorem garr_i {S : GS} {r : Option Nat} {a κ : Nat} {x : vp_A} (h : garr S r = some (a, κ, x)) : r = some a ∧ S.1 a = some (.inl (κ, x)) := by
  unfold garr at h
  split at h
  · cases h
  · split at h
    · rename_i h1
      cases h
      exact ⟨rfl, h1⟩
    · cases h
theorem gfld_i {S : GS} {r : Option Nat} {κ : Nat} {v : Value} (h : gfld S r κ = some v) : gIs S r κ v := by
  unfold gfld at h
  split at h
  · rename_i a ci fs ho
    split at h
    · rename_i k hk
      obtain ⟨h1, h2⟩ := gobj_i ho
      exact ⟨a, ci, fs, k, h1, h2, hk, h⟩
    · cases h
  · cases h
theorem ggi_i {β : Type} {S : GS} {r : Option Nat} {κ : Nat} {K : Int32 → Option β} {y : β} (h : ggi S r κ K = some y) : ∃ v, gIs S r κ (.int v) ∧ K v = some y := by
  unfold ggi at h
  split at h
  · rename_i v hv
    exact ⟨v, gfld_i hv, h⟩
  · cases h
theorem ggr_i {β : Type} {S : GS} {r : Option Nat} {κ : Nat} {K : Option Nat → Option β} {y : β} (h : ggr S r κ K = some y) : ∃ v, gIs S r κ (va_rf v) ∧ K v = some y := by
  unfold ggr at h
  split at h
  · rename_i v hv
    exact ⟨some v, gfld_i hv, h⟩
  · rename_i hv
    exact ⟨none, gfld_i hv, h⟩
  · cases h
theorem gpv_i {β : Type} {E : gE} {S : GS} {r : Option Nat} {κ : Nat} {v : Value} {K : GS → Option β} {y : β} (h : gpv E S r κ v K = some y) : ∃ S', gPut E S r κ v S' ∧ K S' = some y := by
  unfold gpv at h
  split at h
  · rename_i a ci fs ho
    split at h
    · rename_i k hk
      split at h
      · rename_i hc
        obtain ⟨h1, h2⟩ := gobj_i ho
        exact ⟨_, ⟨a, ci, fs, k, h1, h2, hk, hc.2, hc.1, rfl⟩, h⟩
      · cases h
    · cases h
  · cases h
theorem gai_i {β : Type} {κ : Nat} {S : GS} {r : Option Nat} {i : Int32} {K : Int32 → Option β} {y : β} (h : gai κ S r i K = some y) : ∃ v, (∃ a n f, r = some a ∧ S.1 a = some (.inl (κ, n, .inl f)) ∧ vp_in i n ∧ v = f i.toNatClampNeg) ∧ K v = some y := by
  unfold gai at h
  split at h
  · rename_i a κ' n f ho
    split at h
    · rename_i hκ
      split at h
      · cases h
      · rename_i hc
        obtain ⟨h1, h2⟩ := garr_i ho
        subst hκ
        exact ⟨_, ⟨a, n, f, h1, h2, hc, rfl⟩, h⟩
    · cases h
  · cases h
theorem gaw_i {β : Type} {κ : Nat} {E : gE} {S : GS} {r : Option Nat} {i v : Int32} {K : GS → Option β} {y : β} (h : gaw κ E S r i v K = some y) : ∃ S', (∃ a n f, r = some a ∧ S.1 a = some (.inl (κ, n, .inl f)) ∧ vp_in i n ∧ E.1 ≤ a ∧ S' = gup S a (.inl (κ, n, .inl (upd f i.toNatClampNeg v)))) ∧ K S' = some y := by
  unfold gaw at h
  split at h
  · rename_i a κ' n f ho
    split at h
    · rename_i hκ
      split at h
      · cases h
      · rename_i hc
        obtain ⟨h1, h2⟩ := garr_i ho
        obtain ⟨rfl, he⟩ := hκ
        exact ⟨_, ⟨a, n, f, h1, h2, hc, he, rfl⟩, h⟩
    · cases h
  · cases h
theorem gar_i {β : Type} {S : GS} {r : Option Nat} {i : Int32} {K : Option Nat → Option β} {y : β} (h : gar S r i K = some y) : ∃ v, (∃ a κ n f, r = some a ∧ S.1 a = some (.inl (κ, n, .inr (.inr (.inr (.inr f))))) ∧ 2 ≤ κ ∧ κ < 5 ∧ vp_in i n ∧ v = f i.toNatClampNeg) ∧ K v = some y := by
  unfold gar at h
  split at h
  · rename_i a κ' n f ho
    split at h
    · rename_i hκ
      split at h
      · cases h
      · rename_i hc
        obtain ⟨h1, h2⟩ := garr_i ho
        exact ⟨_, ⟨a, κ', n, f, h1, h2, hκ.1, hκ.2, hc, rfl⟩, h⟩
    · cases h
  · cases h
theorem gaq_i {β : Type} {E : gE} {S : GS} {r : Option Nat} {i : Int32} {v : Option Nat} {K : GS → Option β} {y : β} (h : gaq E S r i v K = some y) : ∃ S', (∃ a κ n f v' ci fs, r = some a ∧ S.1 a = some (.inl (κ, n, .inr (.inr (.inr (.inr f))))) ∧ v = some v' ∧ S.1 v' = some (.inr (ci, fs)) ∧ gmay κ ci = true ∧ vp_in i n ∧ E.1 ≤ a ∧ S' = gup S a (.inl (κ, n, .inr (.inr (.inr (.inr (va_up f i.toNatClampNeg v))))))) ∧ K S' = some y := by
  unfold gaq at h
  split at h
  · rename_i a κ' n f v' ci fs ho hv
    split at h
    · rename_i hκ
      split at h
      · cases h
      · rename_i hc
        obtain ⟨h1, h2⟩ := garr_i ho
        obtain ⟨h3, h4⟩ := gobj_i hv
        exact ⟨_, ⟨a, κ', n, f, v', ci, fs, h1, h2, h3, h4, hκ.1, hc, hκ.2, rfl⟩, h⟩
    · cases h
  · cases h
theorem gal_i {β : Type} {S : GS} {r : Option Nat} {K : Int32 → Option β} {y : β} (h : gal S r K = some y) : ∃ v, (∃ a κ x, r = some a ∧ S.1 a = some (.inl (κ, x)) ∧ κ < 5 ∧ v = Int32.ofNat x.1) ∧ K v = some y := by
  unfold gal at h
  split at h
  · rename_i a κ' n x ho
    split at h
    · rename_i hκ
      obtain ⟨h1, h2⟩ := garr_i ho
      exact ⟨_, ⟨a, κ', (n, x), h1, h2, hκ, rfl⟩, h⟩
    · cases h
  · cases h
theorem gnw_i {β : Type} {S : GS} {ci : Nat} {K : Nat → GS → Option β} {y : β} (h : gnw S ci K = some y) : ∃ a S', a = S.2.1 ∧ S' = gpush S (.inr (ci, gdf ci)) (gdf ci).length ∧ K a S' = some y := ⟨_, _, rfl, rfl, h⟩
theorem gna_i {β : Type} {S : GS} {κ : Nat} {n : Int32} {K : Nat → GS → Option β} {y : β} (h : gna S κ n K = some y) : ∃ a S', a = S.2.1 ∧ S' = gpush S (.inl (κ, n.toNatClampNeg, gdfa κ)) n.toNatClampNeg ∧ ¬ n < 0 ∧ n.toNatClampNeg ≤ 65536 ∧ K a S' = some y := by
  unfold gna at h
  split at h
  · cases h
  · rename_i hc
    exact ⟨_, _, rfl, rfl, fun q => hc (Or.inl q), Nat.le_of_not_lt (fun q => hc (Or.inr q)), h⟩
theorem gbd_i {α β : Type} {o : Option (α × GS)} {K : α → GS → Option β} {y : β} (h : gbd o K = some y) : ∃ r S', o = some (r, S') ∧ K r S' = some y := by
  unfold gbd at h
  split at h
  · cases h
  · exact ⟨_, _, rfl, h⟩
theorem gnn_i {β : Type} {r : Option Nat} {K : Option β} {y : β} (h : gnn r K = some y) : (∃ a, r = some a) ∧ K = some y := by
  unfold gnn at h
  split at h
  · exact ⟨⟨_, rfl⟩, h⟩
  · cases h
theorem gcls_i {S : GS} {r : Option Nat} {ci : Nat} (h : gcls S r = ci) (hc : ci < 28) : ∃ a fs, r = some a ∧ S.1 a = some (.inr (ci, fs)) := by
  unfold gcls at h
  split at h
  · rename_i a ci' fs ho
    obtain ⟨h1, h2⟩ := gobj_i ho
    subst h
    exact ⟨a, fs, h1, h2⟩
  · omega
/-- no cells are made -/
def gEq (S S' : GS) : Prop := S'.2 = S.2
def gLe (S S' : GS) : Prop := S.2.2.1 ≤ S'.2.2.1 ∧ S.2.2.2 ≤ S'.2.2.2
theorem gEq.rf {S : GS} : gEq S S := rfl
theorem gEq.tr {S S' S'' : GS} (h : gEq S S') (h' : gEq S' S'') : gEq S S'' := Eq.trans h' h
theorem gEq.le {S S' : GS} (h : gEq S S') : gLe S S' := by unfold gEq at h; unfold gLe; rw [h]; exact ⟨Nat.le_refl _, Nat.le_refl _⟩
theorem gLe.rf {S : GS} : gLe S S := ⟨Nat.le_refl _, Nat.le_refl _⟩
theorem gLe.tr {S S' S'' : GS} (h : gLe S S') (h' : gLe S' S'') : gLe S S'' := ⟨Nat.le_trans h.1 h'.1, Nat.le_trans h.2 h'.2⟩
theorem gLe.push {S S' : GS} {e : GE} {n : Nat} (h : S' = gpush S e n) : gLe S S' := by subst h; exact ⟨Nat.le_add_right _ _, Nat.le_add_right _ _⟩
theorem gPut.eq {E : gE} {S S' : GS} {r : Option Nat} {κ : Nat} {v : Value} (h : gPut E S r κ v S') : gEq S S' := by
  obtain ⟨a, ci, fs, k, -, -, -, -, -, rfl⟩ := h
  rfl
theorem gfx_i {ci κ k : Nat} (h : gfx ci κ = some k) : (gcf ci)[k]? = some κ := by
  unfold gfx at h
  obtain ⟨h1, h2, -⟩ := List.findIdx?_eq_some_iff_getElem.mp h
  rw [List.getElem?_eq_getElem h1]
  simpa using h2
