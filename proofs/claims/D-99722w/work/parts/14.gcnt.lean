/-! Counts of cells made; dispatch; copies of arrays -/
def gCnt (S0 S : GS) (cells slots : Nat) : Prop := cells + S0.2.2.1 = S.2.2.1 ∧ slots + S0.2.2.2 = S.2.2.2
theorem gCnt.rf {S : GS} : gCnt S S 0 0 := ⟨Nat.zero_add _, Nat.zero_add _⟩
theorem gCnt.eq {S0 S S' : GS} {cells slots : Nat} (h : gCnt S0 S cells slots) (he : gEq S S') : gCnt S0 S' cells slots := by
  unfold gEq at he
  unfold gCnt
  rw [he]
  exact h
theorem gCnt.push {S0 S S' : GS} {cells slots n : Nat} {x : GE} (h : gCnt S0 S cells slots) (e : S' = gpush S x n) : gCnt S0 S' (cells + 1) (slots + n) := by
  subst e
  obtain ⟨h1, h2⟩ := h
  refine ⟨?_, ?_⟩
  · show cells + 1 + _ = S.2.2.1 + 1
    omega
  · show slots + n + _ = S.2.2.2 + n
    omega
theorem gCnt.app {S0 S S' : GS} {cells slots : Nat} (h : gCnt S0 S cells slots) (he : gLe S S') : gCnt S0 S' (cells + (S'.2.2.1 - S.2.2.1)) (slots + (S'.2.2.2 - S.2.2.2)) := by
  obtain ⟨h1, h2⟩ := h
  obtain ⟨h3, h4⟩ := he
  exact ⟨by omega, by omega⟩
theorem gCnt.fin {α : Type} {S0 S Sf : GS} {cells slots : Nat} {v r0 : α} (h : gCnt S0 S cells slots) (hf : some (v, S) = some (r0, Sf)) : cells = Sf.2.2.1 - S0.2.2.1 ∧ slots = Sf.2.2.2 - S0.2.2.2 := by
  cases hf
  obtain ⟨h1, h2⟩ := h
  exact ⟨by omega, by omega⟩
theorem gcap1 {S0 S S' Sf : GS} {cells slots n : Nat} {x : GE} (h : gCnt S0 S cells slots) (e : S' = gpush S x n) (hl : gLe S' Sf) : cells + 1 ≤ Sf.2.2.1 - S0.2.2.1 := by
  obtain ⟨h1, -⟩ := h.push e
  obtain ⟨h3, -⟩ := hl
  omega
theorem gcap2 {S0 S S' Sf : GS} {cells slots n : Nat} {x : GE} (h : gCnt S0 S cells slots) (e : S' = gpush S x n) (hl : gLe S' Sf) : slots + n ≤ Sf.2.2.2 - S0.2.2.2 := by
  obtain ⟨-, h1⟩ := h.push e
  obtain ⟨-, h3⟩ := hl
  omega
theorem gcapA {S0 S S' Sf : GS} {cells slots : Nat} (h : gCnt S0 S cells slots) (he : gLe S S') (hl : gLe S' Sf) : cells + (S'.2.2.1 - S.2.2.1) ≤ Sf.2.2.1 - S0.2.2.1 ∧ slots + (S'.2.2.2 - S.2.2.2) ≤ Sf.2.2.2 - S0.2.2.2 := by
  obtain ⟨h1, h2⟩ := h
  obtain ⟨h3, h4⟩ := he
  obtain ⟨h5, h6⟩ := hl
  exact ⟨by omega, by omega⟩
theorem gcapF {S0 S S' Sf : GS} {cells slots : Nat} (h : gCnt S0 S cells slots) (he : gEq S S') (hl : gLe S' Sf) : cells + 0 ≤ Sf.2.2.1 - S0.2.2.1 ∧ slots + 0 ≤ Sf.2.2.2 - S0.2.2.2 := by
  obtain ⟨h1, h2⟩ := h.eq he
  obtain ⟨h5, h6⟩ := hl
  exact ⟨by omega, by omega⟩
theorem gaw_eq {κ : Nat} {E : gE} {S S' : GS} {r : Option Nat} {i v : Int32} (h : ∃ a n f, r = some a ∧ S.1 a = some (.inl (κ, n, .inl f)) ∧ vp_in i n ∧ E.1 ≤ a ∧ S' = gup S a (.inl (κ, n, .inl (upd f i.toNatClampNeg v)))) : gEq S S' := by
  obtain ⟨a, n, f, -, -, -, -, rfl⟩ := h
  rfl
theorem gaq_eq {E : gE} {S S' : GS} {r : Option Nat} {i : Int32} {v : Option Nat} (h : ∃ a κ n f v' ci fs, r = some a ∧ S.1 a = some (.inl (κ, n, .inr (.inr (.inr (.inr f))))) ∧ v = some v' ∧ S.1 v' = some (.inr (ci, fs)) ∧ gmay κ ci = true ∧ vp_in i n ∧ E.1 ≤ a ∧ S' = gup S a (.inl (κ, n, .inr (.inr (.inr (.inr (va_up f i.toNatClampNeg v))))))) : gEq S S' := by
  obtain ⟨a, κ, n, f, v', ci, fs, -, -, -, -, -, -, -, rfl⟩ := h
  rfl
def grf {β : Type} (r : Option Nat) (K : Nat → Option β) : Option β := match r with
  | some a => K a
  | none => none
theorem grf_i {β : Type} {r : Option Nat} {K : Nat → Option β} {y : β} (h : grf r K = some y) : ∃ a, r = some a ∧ K a = some y := by
  unfold grf at h
  split at h
  · exact ⟨_, rfl, h⟩
  · cases h
def gvd {β : Type} (S : GS) (r : Option Nat) (K : Nat → Nat → Option β) : Option β := match gobj S r with
  | some (b, ci, _) => K b ci
  | none => none
theorem gvd_i {β : Type} {S : GS} {r : Option Nat} {K : Nat → Nat → Option β} {y : β} (h : gvd S r K = some y) : ∃ b ci fs, r = some b ∧ S.1 b = some (.inr (ci, fs)) ∧ K b ci = some y := by
  unfold gvd at h
  split at h
  · rename_i b ci fs ho
    obtain ⟨h1, h2⟩ := gobj_i ho
    exact ⟨b, ci, fs, h1, h2, h⟩
  · cases h
theorem gnar_B {v : Int32} (h : vp_nar .byte v = v) : narrow .byte (.int v) = .int v := by
  have h1 : narrow .byte (.int v) = .int (vp_nar .byte v) := rfl
  rw [h1, h]
theorem gnar_C {v : Int32} (h : vp_nar .char v = v) : narrow .char (.int v) = .int v := by
  have h1 : narrow .char (.int v) = .int (vp_nar .char v) := rfl
  rw [h1, h]
theorem gfit_B {v : Int32} (h : vp_nar .byte v = v) : fits .byte (.int v) = true := by
  rw [← h, vp_nar_byte]
  exact pk_fb v
theorem g_hS {Γ : GG} {E : gE} {S0 S : GS} {H0 H : Heap} {locs : List Loc} (hM : GH Γ E S0 H0 S H locs) : va_S (gold E) H0 H locs :=
  ⟨hM.2.2.1.1, fun q h1 h2 => hM.2.2.1.2.1 q h1 (fun h3 => h2 h3.1), fun q hq => (hM.2.2.1.2.2 q hq).1⟩
theorem lw_U {own : String} {idx : Nat} {C owner : String} {x y : MethodName} {b : ByteArray} {L : Nat} {r : Option FieldType} (h1 : Cond.methodLink own idx x ∈ lw_all) (h2 : Cond.sameMethod x.cls owner x.name x.desc ∈ lw_all) (h3 : Cond.selects C x y ∈ lw_all) (h4 : Cond.instanceMethod y ∈ lw_all) (h5 : Cond.initialized y.cls ∈ lw_all) (h6 : Cond.code y b L r ∈ lw_all) : GoodIn lw_all (va_wsU own idx C owner x y (ws_ y b L r)) := by
  refine lw_app ?_ (lw_meth h6)
  intro w hw
  simp only [List.mem_cons, List.not_mem_nil, or_false] at hw
  rcases hw with e | e | e | e | e
  · rw [e]; exact h1
  · rw [e]; exact h2
  · rw [e]; exact h3
  · rw [e]; exact h4
  · rw [e]; exact h5
/-! a copy between two arrays of a kind -/
def gok (κ : Nat) (S : GS) (x y : (Nat → Int32) ⊕ (Nat → Int64) ⊕ (Nat → UInt32) ⊕ (Nat → UInt64) ⊕ (Nat → Option Nat)) (sp dp n : Nat) (z : (Nat → Int32) ⊕ (Nat → Int64) ⊕ (Nat → UInt32) ⊕ (Nat → UInt64) ⊕ (Nat → Option Nat)) : Prop := match x, y with
  | .inl f, .inl g => (κ = 1 ∨ (κ = 0 ∧ ∀ i, i < n → vp_nar .byte (f (sp + i)) = f (sp + i))) ∧ z = .inl (va_cpy f g sp dp n)
  | .inr (.inr (.inr (.inr f))), .inr (.inr (.inr (.inr g))) => κ = 2 ∧ (∀ i, i < n → ∀ q, f (sp + i) = some q → ∃ o, S.1 q = some (.inr o)) ∧ z = .inr (.inr (.inr (.inr (va_cpy f g sp dp n))))
  | _, _ => False
def gCp (E : gE) (S : GS) (src : Option Nat) (sp : Int32) (dst : Option Nat) (dp n : Int32) (S' : GS) : Prop := ∃ a0 a κ n0 n1 x y z, src = some a0 ∧ dst = some a ∧ S.1 a0 = some (.inl (κ, n0, x)) ∧ S.1 a = some (.inl (κ, n1, y)) ∧ E.1 ≤ a ∧ ¬ sp < 0 ∧ ¬ dp < 0 ∧ ¬ n < 0 ∧ sp.toNatClampNeg + n.toNatClampNeg ≤ n0 ∧ dp.toNatClampNeg + n.toNatClampNeg ≤ n1 ∧ gok κ S x y sp.toNatClampNeg dp.toNatClampNeg n.toNatClampNeg z ∧ S' = gup S a (.inl (κ, n1, z))
theorem gCp.eq {E : gE} {S S' : GS} {src dst : Option Nat} {sp dp n : Int32} (h : gCp E S src sp dst dp n S') : gEq S S' := by
  obtain ⟨a0, a, κ, n0, n1, x, y, z, -, -, -, -, -, -, -, -, -, -, -, rfl⟩ := h
  rfl
noncomputable def gcp {β : Type} (E : gE) (S : GS) (src : Option Nat) (sp : Int32) (dst : Option Nat) (dp n : Int32) (K : GS → Option β) : Option β :=
  haveI := Classical.propDecidable (∃ S', gCp E S src sp dst dp n S')
  if h : ∃ S', gCp E S src sp dst dp n S' then K (Classical.choose h) else none
theorem gcp_i {β : Type} {E : gE} {S : GS} {src dst : Option Nat} {sp dp n : Int32} {K : GS → Option β} {y : β} (h : gcp E S src sp dst dp n K = some y) : ∃ S', gCp E S src sp dst dp n S' ∧ K S' = some y := by
  unfold gcp at h
  split at h
  · rename_i hc
    exact ⟨_, Classical.choose_spec hc, h⟩
  · cases h
theorem gCp.uniq {E : gE} {S S1 S2 : GS} {src dst : Option Nat} {sp dp n : Int32} (h1 : gCp E S src sp dst dp n S1) (h2 : gCp E S src sp dst dp n S2) : S1 = S2 := by
  obtain ⟨a0, a, κ, n0, n1, x, y, z, e1, e2, e3, e4, -, -, -, -, -, -, e5, rfl⟩ := h1
  obtain ⟨a0', a', κ', n0', n1', x', y', z', f1, f2, f3, f4, -, -, -, -, -, -, f5, rfl⟩ := h2
  cases e1.symm.trans f1
  cases e2.symm.trans f2
  cases e3.symm.trans f3
  cases e4.symm.trans f4
  have : z = z' := by
    unfold gok at e5 f5
    split at e5
    · exact e5.2.trans f5.2.symm
    · exact e5.2.2.trans f5.2.2.symm
    · exact e5.elim
  rw [this]
/-- the way in: a copy that is allowed -/
theorem gcp_eq {β : Type} {E : gE} {S S' : GS} {src dst : Option Nat} {sp dp n : Int32} (h : gCp E S src sp dst dp n S') (K : GS → Option β) : gcp E S src sp dst dp n K = K S' := by
  unfold gcp
  rw [dif_pos ⟨S', h⟩]
  rw [gCp.uniq (Classical.choose_spec (⟨S', h⟩ : ∃ S', gCp E S src sp dst dp n S')) h]
theorem g_rfs (a : Nat) : va_rf (some a) = .ref a := rfl
theorem g_cati (x : Int32) : (Value.int x).category = 1 := rfl
theorem g_catr (a : Nat) : (Value.ref a).category = 1 := rfl
