/-! Methods that catch a Fault -/
def gbc {α β : Type} (o : Option ((α ⊕ Nat) × GS)) (KX : Nat → GS → Option β) (K : α → GS → Option β) : Option β := match o with
  | none => none
  | some (.inl r, S) => K r S
  | some (.inr q, S) => KX q S
theorem gbc_i {α β : Type} {o : Option ((α ⊕ Nat) × GS)} {KX : Nat → GS → Option β} {K : α → GS → Option β} {y : β} (h : gbc o KX K = some y) : (∃ q S', o = some (.inr q, S') ∧ KX q S' = some y) ∨ ∃ r S', o = some (.inl r, S') ∧ K r S' = some y := by
  unfold gbc at h
  split at h
  · cases h
  · exact Or.inr ⟨_, _, rfl, h⟩
  · exact Or.inl ⟨_, _, rfl, h⟩
section GHND
variable {Γ : GG} {E : gE} {own : String} {p : Program} {l : Launch} {e : Env} {R : Room} {s : State} {m : MethodId} {args : Array Value} {below : List Frame} {meth : Method} {c : Code} {H : Heap} {locs : List Loc} {cells slots : Nat} {Q : State → Prop}
variable {cc : ByteArray} {nL pc : Nat} {ls : Array Slot} {rest : List Value} {ret : Option FieldType} {S0 S S1 Sf : GS} {mc ms : Nat}
theorem gx_catch (F : gFx Γ E own p m c cc nL s args meth ret) {x : ExceptionTableEntry} (hT : c.exceptionTable.toList = [x]) (hx : covers x pc = true) (h0 : x.catchType ≠ 0) (hlink : Cond.classLink own x.catchType RX8 ∈ lw_all) {q : Nat} {ce : Cell} (hcell : H[q]? = some ce) (hv : ce.vm = .none) (hcl : s.vm.findClass RX8 = some ce.cls) (kk : W p l e R s m args below meth c H locs cells slots Q (F0 m x.handlerPc ls [va_rf (some q)])) : vx_W p l e R s m args below meth c H locs cells slots Q (F0 m pc ls rest) q :=
  vx_catch (name := RX8) F.1.2.2.2.1 [] x [] hT (fun z hz => by cases hz) hx h0 (F.1.2.2.2.2 _ hlink) (va_Nw.use rfl (F.2.2.2.1.2 _ q757 rfl)) hcell hv hcl kk
theorem gx_metH {y : MethodName} {ws : List Cond} {rm : Room} {bytes : ByteArray} {maxL : Nat} {retY : Option FieldType} {hh : List (Nat × Nat × Nat × Nat)} {av : List Value} {Qc : Array Value → State → Outcome → State → Prop} {XC : String → Nat → State → State → Prop} (hy : plainName y.cls = true) (hw : ws = Cond.codeWith y bytes maxL retY hh :: lw_all) (hlen : (lg_sl av).length ≤ maxL)
    (body : ∀ p e s m below meth c ls, gFx Γ E y.cls p m c bytes maxL s av.toArray meth retY → c.exceptionTable.toList = tableOf hh → GH Γ E S s.heap S s.heap [] → lv_has ls maxL (lv_args 0 av) →
      W p l e (headSpec ws rm).room s m av.toArray below meth c s.heap [] 0 0 (vx_MQ below Qc XC av.toArray s mc ms (gA E S)) (F0 m 0 ls [])) : vx_Met l y ws rm (gPre Γ E av S) Qc XC mc ms (gA E S) := by
  refine vx_ofWH (cc := bytes) (maxL := maxL) (ret := retY) (hh := hh) hy hw ?_
  intro p e s m args below meth c s₁ B hml hv
  obtain ⟨rfl, hP, hK, hZ, hR⟩ := hv
  have hts0 := atoms_spec (ws := ws) B.pre
  have hts : ∀ w ∈ lw_all, w.before _ s = true := fun w h => hts0 w (by rw [hw]; exact List.mem_cons_of_mem _ h)
  have hT := vx_table (x := y) B (hts0 _ (by rw [hw]; exact List.mem_cons_self))
  have hown : s.vm.findClass y.cls = some m.cls := findClass_of_methodNamed B.named
  rw [lg_entry_eq]
  exact body p e s m below meth c _ ⟨⟨B.exec, B.bytes, hml, hown, hts⟩, B.returns, B.notSynchronized, hK, hZ, hR⟩ hT (GH.init hP) (lv_entry av (n := maxL) hlen)
end GHND
