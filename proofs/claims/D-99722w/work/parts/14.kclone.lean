/-! byte[].clone, and the cast of what it answers -/
def gFitB (n : Nat) (f : Nat → Int32) : Bool := (List.range n).all (fun i => fits .byte (.int (f i)))
theorem gFitB_i {n : Nat} {f : Nat → Int32} (h : gFitB n f = true) (i : Nat) (hi : i < n) : fits .byte (.int (f i)) = true := by
  unfold gFitB at h
  exact List.all_eq_true.mp h i (List.mem_range.mpr hi)
def gcln {β : Type} (S : GS) (r : Option Nat) (K : Nat → GS → Option β) : Option β := match garr S r with
  | some (_, κ', n, .inl f) => if κ' = 0 ∧ gFitB n f = true then K S.2.1 (gpush S (.inl (0, n, .inl f)) n) else none
  | _ => none
theorem gcln_i {β : Type} {S : GS} {r : Option Nat} {K : Nat → GS → Option β} {y : β} (h : gcln S r K = some y) : ∃ a S' n f, a = S.2.1 ∧ S' = gpush S (.inl (0, n, .inl f)) n ∧ (∃ b, r = some b ∧ S.1 b = some (.inl (0, n, .inl f)) ∧ gFitB n f = true) ∧ K a S' = some y := by
  unfold gcln at h
  split at h
  · rename_i b κ' n f ho
    split at h
    · rename_i hc
      obtain ⟨h1, h2⟩ := garr_i ho
      obtain ⟨rfl, h3⟩ := hc
      exact ⟨_, _, n, f, rfl, rfl, ⟨b, h1, h2, h3⟩, h⟩
    · cases h
  · cases h
def gcb {β : Type} (S : GS) (r : Option Nat) (K : Option β) : Option β := match garr S r with
  | some (_, κ', _) => if κ' = 0 then K else none
  | none => none
theorem gcb_i {β : Type} {S : GS} {r : Option Nat} {K : Option β} {y : β} (h : gcb S r K = some y) : (∃ b x, r = some b ∧ S.1 b = some (.inl (0, x))) ∧ K = some y := by
  unfold gcb at h
  split at h
  · rename_i b κ' x ho
    split at h
    · rename_i hc
      obtain ⟨h1, h2⟩ := garr_i ho
      subst hc
      exact ⟨⟨b, x, h1, h2⟩, h⟩
    · cases h
  · cases h
section KCLN
variable {Γ : GG} {E : gE} {own : String} {p : Program} {l : Launch} {e : Env} {R : Room} {s : State} {m : MethodId} {args : Array Value} {below : List Frame} {meth : Method} {c : Code} {H : Heap} {locs : List Loc} {cells slots : Nat} {Q : State → Prop}
variable {cc : ByteArray} {nL pc : Nat} {ls : Array Slot} {rest : List Value} {ret : Option FieldType} {S0 S : GS}
theorem g_clone (F : gFx Γ E own p m c cc nL s args meth ret) (hM : GH Γ E S0 s.heap S H locs) {r : Option Nat} {a n : Nat} {f : Nat → Int32} {S' : GS} (ha : a = S.2.1) (hS' : S' = gpush S (.inl (0, n, .inl f)) n) (hg : ∃ b, r = some b ∧ S.1 b = some (.inl (0, n, .inl f)) ∧ gFitB n f = true) (hls : ls.size = nL) {index : Nat} (hlink : Cond.methodLink own index ⟨"[B", "clone", "()Ljava/lang/Object;"⟩ ∈ lw_all) (hframes : 1 ≤ R.frames) (hlocals : (rest.map fun v => v.category).sum + 14 ≤ R.locals) (hcells : cells + 1 ≤ R.cells) (hslots : slots + n ≤ R.slots) (hdg : decode cc pc = .ok (.invokevirtual index, 3)) (kk : ∀ H1 : Heap, GH Γ E S0 s.heap S' H1 locs → W p l e R s m args below meth c H1 locs (cells + 1) (slots + n) Q (F0 m (pc + 3) ls (va_rf (some a) :: rest))) : W p l e R s m args below meth c H locs cells slots Q (F0 m pc ls (va_rf r :: rest)) := by
  obtain ⟨⟨hx, hb, hml, hown, hts⟩, -, -, ⟨hK, hN⟩, -⟩ := F
  subst ha; subst hS'
  obtain ⟨b, rfl, hbS, hfit⟩ := hg
  have hcellH : H[b]? = some (vp_cell (Γ.2 0) (n, .inl f)) := hM.1.1 b _ hbS
  have hnm : s.vm.findClass "[B" = some (Γ.2 0) := va_nm_byte (hK.2 0 _ (gtys_at Γ (by decide))).2
  obtain ⟨c0, t0', f1, f2, f3⟩ := Cond.castable_spec (va_Nw.use (A := args) rfl (hN _ q601 rfl))
  cases hnm.symm.trans f1
  have hsz : (vp_cell (Γ.2 0) (n, .inl f)).slots.size = n := arrV_size _ _ _
  intro T hT X
  have hcellT : T.heap[b]? = some (vp_cell (Γ.2 0) (n, .inl f)) := by rw [hT]; exact hcellH
  obtain ⟨-, kA, hkA, comp, hkind⟩ := State.isArrayOf_alike X.warmed.alike ((hK.2 0 _ (gtys_at Γ (by decide))).1 0 (fun _ => .null))
  obtain ⟨-, kS, hkS, compS, hkindS⟩ := (hK.2 0 _ (gtys_at Γ (by decide))).1 0 (fun _ => .null)
  obtain ⟨vm', X', st⟩ := X.cloneArray hx hown (hts _ hlink) (hts _ q597) (hts _ q598) (hts _ q599) (hts _ q600) (a := b) (cell := vp_cell (Γ.2 0) (n, .inl f)) hcellT (fun k h => by cases h) (fun h => by cases h) hnm f2 f3
    (fun i v hv => by
      have hk' : T.vm.classes[Γ.2 0]? = some kA := hkA
      have hq : fits (gty 0) v = true := va_fit (cA := Γ.2 0) (n := n) (F := fun j => .int (f j)) (gFitB_i hfit) i v hv
      have hcl0 : (vp_cell (Γ.2 0) (n, .inl f)).cls = Γ.2 0 := rfl
      rw [hcl0]
      simpa [State.fitsSlot, State.slotType?, hk', hkind] using hq)
    (g := F0 m pc ls (.ref b :: rest)) rfl (by rw [hml]; exact hls) rfl (by rw [hb]; exact hdg) hframes (by show 2 * 0 + _ + 14 ≤ _; omega) hcells (by rw [hsz]; exact hslots) (hloader := Vm.clonesLoader_of_array hkS hkindS)
  rw [hsz] at X'
  have hsz1 : S.2.1 = H.size := hM.1.2.1.symm
  rw [hsz1] at kk
  obtain ⟨t, b1, b2⟩ := kk (H.push (vp_cell (Γ.2 0) (n, .inl f))) (hM.push (by show (H.push _)[H.size]? = _; rw [Array.getElem?_push_size]) (by rw [Array.size_push]) (fun q hq => by rw [Array.getElem?_push, if_neg (Nat.ne_of_lt hq)])) ((T.setVm vm').pushCell (vp_cell (Γ.2 0) (n, .inl f))) (by rw [← hT]; rfl) X'
  refine ⟨t, st t ?_, b2⟩
  rw [hT]
  exact b1
theorem g_castB (F : gFx Γ E own p m c cc nL s args meth ret) (hM : GH Γ E S0 s.heap S H locs) {r : Option Nat} (hg : ∃ b x, r = some b ∧ S.1 b = some (.inl (0, x))) {index : Nat} (hlink : Cond.classLink own index "[B" ∈ lw_all) (hdg : decode cc pc = .ok (.checkcast index, 3)) (k : W p l e R s m args below meth c H locs cells slots Q (F0 m (pc + 3) ls (va_rf r :: rest))) : W p l e R s m args below meth c H locs cells slots Q (F0 m pc ls (va_rf r :: rest)) := by
  obtain ⟨⟨hx, hb, hml, hown, hts⟩, -, -, ⟨hK, hN⟩, -⟩ := F
  obtain ⟨b, x, rfl, hbS⟩ := hg
  have hnm : s.vm.findClass "[B" = some (Γ.2 0) := va_nm_byte (hK.2 0 _ (gtys_at Γ (by decide))).2
  exact va_castA hx hb hown (hts _ hlink) (hM.1.one hbS) 0 rfl hnm hdg k
end KCLN
