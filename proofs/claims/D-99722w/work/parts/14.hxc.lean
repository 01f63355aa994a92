/-! Methods that may throw a Fault: the answer, or the address of what is thrown -/
def gbx {α β : Type} (o : Option ((α ⊕ Nat) × GS)) (K : α → GS → Option ((β ⊕ Nat) × GS)) : Option ((β ⊕ Nat) × GS) := match o with
  | none => none
  | some (.inl r, S) => K r S
  | some (.inr q, S) => some (.inr q, S)
theorem gbx_i {α β : Type} {o : Option ((α ⊕ Nat) × GS)} {K : α → GS → Option ((β ⊕ Nat) × GS)} {y : (β ⊕ Nat) × GS} (h : gbx o K = some y) : (∃ r S', o = some (.inl r, S') ∧ K r S' = some y) ∨ ∃ q S', o = some (.inr q, S') ∧ some (.inr q, S') = some y := by
  unfold gbx at h
  split at h
  · cases h
  · exact Or.inl ⟨_, _, rfl, h⟩
  · exact Or.inr ⟨_, _, rfl, h⟩
def gth {β : Type} (S : GS) (r : Option Nat) : Option ((β ⊕ Nat) × GS) := match gobj S r with
  | some (q, ci, _) => if ci = 5 then some (.inr q, S) else none
  | none => none
theorem gth_i {β : Type} {S : GS} {r : Option Nat} {y : (β ⊕ Nat) × GS} (h : gth S r = some y) : ∃ q fs, r = some q ∧ S.1 q = some (.inr (5, fs)) ∧ some (Sum.inr q, S) = some y := by
  unfold gth at h
  split at h
  · rename_i q ci fs ho
    split at h
    · rename_i h5
      obtain ⟨h1, h2⟩ := gobj_i ho
      subst h5
      exact ⟨q, fs, h1, h2, h⟩
    · cases h
  · cases h
def gXQi (Γ : GG) (E : gE) (S : GS) (o : Int32 ⊕ Nat) (Sf : GS) : Array Value → State → Outcome → State → Prop := va_Qi (fun r (_ : Unit) => o = .inl r) (gB Γ E S Sf) (gA E S)
def gXQv (Γ : GG) (E : gE) (S : GS) (o : Int32 ⊕ Nat) (Sf : GS) : Array Value → State → Outcome → State → Prop := va_Qv (fun (_ : Unit) => ∃ r, o = .inl r) (gB Γ E S Sf) (gA E S)
def gXQq (Γ : GG) (E : gE) (S : GS) (o : Option Nat ⊕ Nat) (Sf : GS) : Array Value → State → Outcome → State → Prop := va_Qq (fun r (_ : Unit) => o = .inl r) (gB Γ E S Sf) (gA E S)
def gXX {α : Type} (Γ : GG) (E : gE) (S : GS) (o : α ⊕ Nat) (Sf : GS) : String → Nat → State → State → Prop := vx_X (fun _ : Unit => True) (fun E' q _ t => o = .inr q ∧ E' = RX8 ∧ gB Γ E S Sf () t) (gA E S)
section GXC
variable {Γ : GG} {E : gE} {own : String} {p : Program} {l : Launch} {e : Env} {R : Room} {s : State} {m : MethodId} {args : Array Value} {below : List Frame} {meth : Method} {c : Code} {H : Heap} {locs : List Loc} {cells slots : Nat} {Q : State → Prop}
variable {cc : ByteArray} {nL pc : Nat} {ls : Array Slot} {rest : List Value} {ret : Option FieldType} {S0 S S1 Sf : GS} {mc ms : Nat} {st0 : List Value} {a : Array Value}
/-- what is thrown leaves the method -/
theorem gx_out {β : Type} {o0 : β ⊕ Nat} {Qc : Array Value → State → Outcome → State → Prop} (F : gFx Γ E own p m c cc nL s args meth ret) (hT : ∀ x ∈ c.exceptionTable.toList, False) (hM : GH Γ E S0 s.heap S H locs) {q : Nat} {ce : Cell} (hcell : H[q]? = some ce) (hv : ce.vm = .none) (hcl : s.vm.findClass RX8 = some ce.cls) (hf : some (Sum.inr q, S) = some (o0, Sf)) (hc : cells = mc ∧ slots = ms) : vx_W p l e R s m args below meth c H locs cells slots (vx_MQ below Qc (gXX Γ E S0 o0 Sf) args s mc ms (gA E S0)) (F0 m pc ls rest) q := by
  obtain ⟨-, -, hlocks, -⟩ := F
  obtain ⟨rfl, rfl⟩ := hc
  cases hf
  exact vx_out (fun x hx => (hT x hx).elim) hlocks hcell hv hcl (fun t ht hW => ⟨(), trivial, ⟨rfl, rfl, by rw [ht]; exact hM.1, hM.2.1⟩, hM.2.2.1.F ht⟩) hM.2.2.1.2.2 (Nat.le_refl _) (Nat.le_refl _)
theorem gx_athrow {β : Type} {o0 : β ⊕ Nat} {Qc : Array Value → State → Outcome → State → Prop} (F : gFx Γ E own p m c cc nL s args meth ret) (hT : ∀ x ∈ c.exceptionTable.toList, False) (hM : GH Γ E S0 s.heap S H locs) {r : Option Nat} (hf : gth S r = some (o0, Sf)) (hc : ∀ q, some (Sum.inr q, S) = some (o0, Sf) → cells = mc ∧ slots = ms) (hdg : decode cc pc = .ok (.athrow, 1)) : W p l e R s m args below meth c H locs cells slots (vx_MQ below Qc (gXX Γ E S0 o0 Sf) args s mc ms (gA E S0)) (F0 m pc ls (va_rf r :: rest)) := by
  obtain ⟨q, fs, rfl, hq, hf⟩ := gth_i hf
  obtain ⟨rr, hcx, cell, q1, q2, q3, -⟩ := hM.1.1 q _ hq
  have hcls := (F.2.2.2.1.1.1 5 rr hcx).2.1
  cases hcx
  exact vx_athrow F.1.1 F.1.2.1 hdg (gx_out F hT hM q1 q3 (by rw [q2]; exact hcls) hf (hc q hf))
theorem gx_ci (hM : GH Γ E S0 s.heap S H locs) {o : Int32 ⊕ Nat} (hr : vx_Run p l e R s m args below meth c H locs cells slots mc ms (F0 m pc ls st0) rest (gXQi Γ E S o S1 a) (gXX Γ E S o S1) (gA E S)) (kx : ∀ (q : Nat), o = .inr q → ∀ (H1 : Heap) (locs1 : List Loc) (ce : Cell), GH Γ E S0 s.heap S1 H1 locs1 → H1[q]? = some ce → ce.vm = .none → s.vm.findClass RX8 = some ce.cls → vx_W p l e R s m args below meth c H1 locs1 (cells + mc) (slots + ms) Q (F0 m pc ls rest) q) (kk : ∀ (r1 : Int32), o = .inl r1 → ∀ (H1 : Heap) (locs1 : List Loc), GH Γ E S0 s.heap S1 H1 locs1 → W p l e R s m args below meth c H1 locs1 (cells + mc) (slots + ms) Q (F0 m (pc + 3) ls (.int r1 :: rest))) : W p l e R s m args below meth c H locs cells slots Q (F0 m pc ls st0) := by
  refine vx_calli hr hM.2.2.1 (fun q _ h => hM.sub q h) (fun q h => hM.sub q h) (fun q _ h => hM.sub q h) (fun E' ce q9 u t H1 locs1 ht hvm _ hB hz hk hS hce hcv hcc => ?_) (fun r u t H1 locs1 ht hvm hw hB hz hk hS => ?_)
  · obtain ⟨h1, rfl, h3⟩ := hB
    exact kx q9 h1 H1 locs1 ce (g_back hM ht h3 hS) hce hcv hcc
  · exact kk r hw H1 locs1 (g_back hM ht hB hS)
theorem gx_cv (hM : GH Γ E S0 s.heap S H locs) {o : Int32 ⊕ Nat} (hr : vx_Run p l e R s m args below meth c H locs cells slots mc ms (F0 m pc ls st0) rest (gXQv Γ E S o S1 a) (gXX Γ E S o S1) (gA E S)) (kx : ∀ (q : Nat), o = .inr q → ∀ (H1 : Heap) (locs1 : List Loc) (ce : Cell), GH Γ E S0 s.heap S1 H1 locs1 → H1[q]? = some ce → ce.vm = .none → s.vm.findClass RX8 = some ce.cls → vx_W p l e R s m args below meth c H1 locs1 (cells + mc) (slots + ms) Q (F0 m pc ls rest) q) (kk : ∀ (r1 : Int32), o = .inl r1 → ∀ (H1 : Heap) (locs1 : List Loc), GH Γ E S0 s.heap S1 H1 locs1 → W p l e R s m args below meth c H1 locs1 (cells + mc) (slots + ms) Q (F0 m (pc + 3) ls rest)) : W p l e R s m args below meth c H locs cells slots Q (F0 m pc ls st0) := by
  refine vx_callv hr hM.2.2.1 (fun q _ h => hM.sub q h) (fun q h => hM.sub q h) (fun q _ h => hM.sub q h) (fun E' ce q9 u t H1 locs1 ht hvm _ hB hz hk hS hce hcv hcc => ?_) (fun u t H1 locs1 ht hvm hw hB hz hk hS => ?_)
  · obtain ⟨h1, rfl, h3⟩ := hB
    exact kx q9 h1 H1 locs1 ce (g_back hM ht h3 hS) hce hcv hcc
  · obtain ⟨r, hr1⟩ := hw
    exact kk r hr1 H1 locs1 (g_back hM ht hB hS)
theorem gx_cq (hM : GH Γ E S0 s.heap S H locs) {o : Option Nat ⊕ Nat} (hr : vx_Run p l e R s m args below meth c H locs cells slots mc ms (F0 m pc ls st0) rest (gXQq Γ E S o S1 a) (gXX Γ E S o S1) (gA E S)) (kx : ∀ (q : Nat), o = .inr q → ∀ (H1 : Heap) (locs1 : List Loc) (ce : Cell), GH Γ E S0 s.heap S1 H1 locs1 → H1[q]? = some ce → ce.vm = .none → s.vm.findClass RX8 = some ce.cls → vx_W p l e R s m args below meth c H1 locs1 (cells + mc) (slots + ms) Q (F0 m pc ls rest) q) (kk : ∀ (r1 : Option Nat), o = .inl r1 → ∀ (H1 : Heap) (locs1 : List Loc), GH Γ E S0 s.heap S1 H1 locs1 → W p l e R s m args below meth c H1 locs1 (cells + mc) (slots + ms) Q (F0 m (pc + 3) ls (va_rf r1 :: rest))) : W p l e R s m args below meth c H locs cells slots Q (F0 m pc ls st0) := by
  refine vx_callq hr hM.2.2.1 (fun q _ h => hM.sub q h) (fun q h => hM.sub q h) (fun q _ h => hM.sub q h) (fun E' ce q9 u t H1 locs1 ht hvm _ hB hz hk hS hce hcv hcc => ?_) (fun r u t H1 locs1 ht hvm hw hB hz hk hS => ?_)
  · obtain ⟨h1, rfl, h3⟩ := hB
    exact kx q9 h1 H1 locs1 ce (g_back hM ht h3 hS) hce hcv hcc
  · exact kk r hw H1 locs1 (g_back hM ht hB hS)
/-- returns of such a method -/
theorem gx_iret {o0 : Int32 ⊕ Nat} (F : gFx Γ E own p m c cc nL s args meth (some .int)) (hM : GH Γ E S0 s.heap S H locs) {v : Int32} (hf : some (Sum.inl v, S) = some (o0, Sf)) (hc : cells = mc ∧ slots = ms) (hdg : decode cc pc = .ok (.ireturn, 1)) : W p l e R s m args below meth c H locs cells slots (vx_MQ below (gXQi Γ E S0 o0 Sf) (gXX Γ E S0 o0 Sf) args s mc ms (gA E S0)) (F0 m pc ls [.int v]) := by
  obtain ⟨⟨hx, hb, -, -, -⟩, hr, hlocks, -⟩ := F
  obtain ⟨rfl, rfl⟩ := hc
  cases hf
  exact vx_ret (W.iret (v := v) hx hb hr (fun t ht hW => ⟨⟨v, (), rfl, rfl, by rw [ht]; exact hM.1, hM.2.1⟩, hM.2.2.1.F ht⟩) hM.2.2.1.2.2 hdg)
theorem gx_zret {ty : FieldType} {o0 : Int32 ⊕ Nat} (F : gFx Γ E own p m c cc nL s args meth (some ty)) (hM : GH Γ E S0 s.heap S H locs) {v : Int32} (hf : some (Sum.inl v, S) = some (o0, Sf)) (hn : narrow ty (.int v) = .int v) (hc : cells = mc ∧ slots = ms) (hdg : decode cc pc = .ok (.ireturn, 1)) : W p l e R s m args below meth c H locs cells slots (vx_MQ below (gXQi Γ E S0 o0 Sf) (gXX Γ E S0 o0 Sf) args s mc ms (gA E S0)) (F0 m pc ls [.int v]) := by
  obtain ⟨⟨hx, hb, -, -, -⟩, hr, hlocks, -⟩ := F
  obtain ⟨rfl, rfl⟩ := hc
  cases hf
  exact vx_ret (W.zret (v := v) hx hb hr hn (fun t ht hW => ⟨⟨v, (), rfl, rfl, by rw [ht]; exact hM.1, hM.2.1⟩, hM.2.2.1.F ht⟩) hM.2.2.1.2.2 hdg)
theorem gx_vret {o0 : Int32 ⊕ Nat} (F : gFx Γ E own p m c cc nL s args meth none) (hM : GH Γ E S0 s.heap S H locs) {v : Int32} (hf : some (Sum.inl v, S) = some (o0, Sf)) (hc : cells = mc ∧ slots = ms) (hdg : decode cc pc = .ok (.return_, 1)) : W p l e R s m args below meth c H locs cells slots (vx_MQ below (gXQv Γ E S0 o0 Sf) (gXX Γ E S0 o0 Sf) args s mc ms (gA E S0)) (F0 m pc ls []) := by
  obtain ⟨⟨hx, hb, -, -, -⟩, hr, hlocks, -⟩ := F
  obtain ⟨rfl, rfl⟩ := hc
  cases hf
  exact vx_ret (W.vret hx hb hr (fun t ht hW => ⟨⟨(), rfl, ⟨_, rfl⟩, by rw [ht]; exact hM.1, hM.2.1⟩, hM.2.2.1.F ht⟩) hM.2.2.1.2.2 hdg)
theorem gx_aret {ty : FieldType} {o0 : Option Nat ⊕ Nat} (F : gFx Γ E own p m c cc nL s args meth (some ty)) (hty : (∃ n, ty = .object n) ∨ ∃ t, ty = .array t) (hM : GH Γ E S0 s.heap S H locs) {v : Option Nat} (hf : some (Sum.inl v, S) = some (o0, Sf)) (hc : cells = mc ∧ slots = ms) (hdg : decode cc pc = .ok (.areturn, 1)) : W p l e R s m args below meth c H locs cells slots (vx_MQ below (gXQq Γ E S0 o0 Sf) (gXX Γ E S0 o0 Sf) args s mc ms (gA E S0)) (F0 m pc ls [va_rf v]) := by
  obtain ⟨⟨hx, hb, -, -, -⟩, hr, hlocks, -⟩ := F
  obtain ⟨rfl, rfl⟩ := hc
  cases hf
  exact vx_ret (W.aret (v := va_rf v) hx hb hr hty (by cases v with
    | none => exact Or.inl rfl
    | some a => exact Or.inr ⟨a, rfl⟩) (fun t ht hW => ⟨⟨v, (), rfl, rfl, by rw [ht]; exact hM.1, hM.2.1⟩, hM.2.2.1.F ht⟩) hM.2.2.1.2.2 hdg)
/-- a contract that may throw, out of a walk from its entry -/
theorem gx_met {y : MethodName} {ws : List Cond} {rm : Room} {bytes : ByteArray} {maxL : Nat} {retY : Option FieldType} {av : List Value} {Qc : Array Value → State → Outcome → State → Prop} {XC : String → Nat → State → State → Prop} (hy : plainName y.cls = true) (hw : ws = Cond.code y bytes maxL retY :: lw_all) (hlen : (lg_sl av).length ≤ maxL)
    (body : ∀ p e s m below meth c ls, gFx Γ E y.cls p m c bytes maxL s av.toArray meth retY → (∀ x ∈ c.exceptionTable.toList, False) → GH Γ E S s.heap S s.heap [] → lv_has ls maxL (lv_args 0 av) →
      W p l e (headSpec ws rm).room s m av.toArray below meth c s.heap [] 0 0 (vx_MQ below Qc XC av.toArray s mc ms (gA E S)) (F0 m 0 ls [])) : vx_Met l y ws rm (gPre Γ E av S) Qc XC mc ms (gA E S) := by
  refine vx_ofW (cc := bytes) (maxL := maxL) (ret := retY) hy hw ?_
  intro p e s m args below meth c s₁ B hml hT hv
  obtain ⟨rfl, hP, hK, hZ, hR⟩ := hv
  have hts := atoms_spec (ws := ws) B.pre
  have hts : ∀ w ∈ lw_all, w.before _ s = true := fun w h => hts w (by rw [hw]; exact List.mem_cons_of_mem _ h)
  have hown : s.vm.findClass y.cls = some m.cls := findClass_of_methodNamed B.named
  rw [lg_entry_eq]
  exact body p e s m below meth c _ ⟨⟨B.exec, B.bytes, hml, hown, hts⟩, B.returns, B.notSynchronized, hK, hZ, hR⟩ hT (GH.init hP) (lv_entry av (n := maxL) hlen)
end GXC
