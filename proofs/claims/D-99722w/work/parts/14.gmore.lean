/-! instanceof, wide text constants, words of further calls -/
def gio {β : Type} (S : GS) (r : Option Nat) (cis : List Nat) (K : Int32 → Option β) : Option β := match r with
  | none => K 0
  | some a => match S.1 a with
    | some (.inr o) => if o.1 ∈ cis then K 1 else none
    | _ => none
theorem gio_i {β : Type} {S : GS} {r : Option Nat} {cis : List Nat} {K : Int32 → Option β} {y : β} (h : gio S r cis K = some y) : ∃ v, ((r = none ∧ v = 0) ∨ ((∃ a ci fs, r = some a ∧ S.1 a = some (.inr (ci, fs)) ∧ ci ∈ cis) ∧ v = 1)) ∧ K v = some y := by
  unfold gio at h
  split at h
  · exact ⟨0, Or.inl ⟨rfl, rfl⟩, h⟩
  · split at h
    · rename_i o ho
      split at h
      · rename_i hc
        exact ⟨1, Or.inr ⟨⟨_, o.1, o.2, rfl, ho, hc⟩, rfl⟩, h⟩
      · cases h
    · cases h
section GMORE
variable {Γ : GG} {E : gE} {own : String} {p : Program} {l : Launch} {e : Env} {R : Room} {s : State} {m : MethodId} {args : Array Value} {below : List Frame} {meth : Method} {c : Code} {H : Heap} {locs : List Loc} {cells slots : Nat} {Q : State → Prop}
variable {cc : ByteArray} {nL pc : Nat} {ls : Array Slot} {rest : List Value} {ret : Option FieldType} {S0 S : GS}
theorem g_inst (F : gFx Γ E own p m c cc nL s args meth ret) (hM : GH Γ E S0 s.heap S H locs) {r : Option Nat} {cis : List Nat} {nm : String} {index : Nat} {v : Int32} (hg : (r = none ∧ v = 0) ∨ ((∃ a ci fs, r = some a ∧ S.1 a = some (.inr (ci, fs)) ∧ ci ∈ cis) ∧ v = 1)) (hall : ∀ ci ∈ cis, ∀ rr : vw_C, gcl[ci]? = some rr → rr.1 = nm ∨ Cond.castable rr.1 nm ∈ lw_tbl) (hlink : Cond.classLink own index nm ∈ lw_all) (hdg : decode cc pc = .ok (.instanceof index, 3)) (k : W p l e R s m args below meth c H locs cells slots Q (F0 m (pc + 3) ls (.int v :: rest))) : W p l e R s m args below meth c H locs cells slots Q (F0 m pc ls (va_rf r :: rest)) := by
  obtain ⟨⟨hx, hb, -, hown, hts⟩, -, -, ⟨hK, hN⟩, -⟩ := F
  rcases hg with ⟨rfl, rfl⟩ | ⟨⟨a, ci, fs, rfl, ha, hci⟩, rfl⟩
  · exact lv_instN hx hb hdg k
  · obtain ⟨rr, hc⟩ := g_cl (hM.1.1 _ _ ha)
    have hrec := va_recv hK (hM.1.one ha) hc (q0 := 0) rfl
    rcases hall ci hci rr hc with h | h
    · subst h
      exact va_instS hx hb hown (hts _ hlink) (hK.1 ci _ hc).2 hrec hdg k
    · exact va_instY hx hb hown (hts _ hlink) (hN _ h rfl) hrec hdg k
theorem g_ldcwS (hexec : p.tables.exec = Jvm.exec) (hb : c.code = cc) {tx : String} {index q : Nat} (hown : s.vm.findClass own = some m.cls) (hZ : vk_R own index tx q s) (hdg : decode cc pc = .ok (.ldc_w index, 3)) (kk : W p l e R s m args below meth c H locs cells slots Q (F0 m (pc + 3) ls (.ref q :: rest))) : W p l e R s m args below meth c H locs cells slots Q (F0 m pc ls rest) := by
  intro T hT X
  obtain ⟨t, a1, b1⟩ := kk T hT X
  obtain ⟨k, cf, i, a', hk, hcf, hcp, -, hr, hev'⟩ := Cond.stringRef_spec hown hZ.1
  cases hZ.2.symm.trans hev'
  obtain ⟨k', hk', he⟩ := X.warmed.alike.2.2 _ _ hk
  have hr' : k'.resolved[index]? = some (some (.string q)) := by
    rcases X.warmed.entry hk hk' index with h | ⟨h, -⟩
    · rw [h]; exact hr
    · rw [hr] at h; cases h
  refine ⟨t, ?_, b1⟩
  subst hb
  jvm_step X.here [hexec, hdg, ldc_w.wp_string (e := e) (s := T) (f := F0 m pc ls rest) X.here.top hk' (by rw [he]; exact hcf) hcp hr']
  exact a1
end GMORE
theorem lw_SU {own : String} {idx : Nat} {y : MethodName} {b : ByteArray} {L : Nat} {r : Option FieldType} (h1 : Cond.methodLink own idx y ∈ lw_all) (h2 : Cond.sameMethod y.cls y.cls y.name y.desc ∈ lw_all) (h3 : Cond.superclass own y.cls ∈ lw_all) (h4 : Cond.instanceMethod y ∈ lw_all) (h5 : Cond.initialized y.cls ∈ lw_all) (h6 : Cond.code y b L r ∈ lw_all) : GoodIn lw_all (va_wsSU own idx y (ws_ y b L r)) := by
  refine lw_app ?_ (lw_meth h6)
  intro w hw
  simp only [List.mem_cons, List.not_mem_nil, or_false] at hw
  rcases hw with e | e | e | e | e
  · rw [e]; exact h1
  · rw [e]; exact h2
  · rw [e]; exact h3
  · rw [e]; exact h4
  · rw [e]; exact h5
theorem lw_O {own : String} {idx : Nat} {C owner : String} {x y : MethodName} {b : ByteArray} {L : Nat} {r : Option FieldType} (h1 : Cond.methodLink own idx x ∈ lw_all) (h2 : Cond.sameMethod x.cls owner x.name x.desc ∈ lw_all) (h0 : Cond.instanceMethod ⟨owner, x.name, x.desc⟩ ∈ lw_all) (h3 : Cond.selects C x y ∈ lw_all) (h4 : Cond.instanceMethod y ∈ lw_all) (h5 : Cond.initialized y.cls ∈ lw_all) (h6 : Cond.code y b L r ∈ lw_all) : GoodIn lw_all (va_wsO own idx C owner x y (ws_ y b L r)) := by
  refine lw_app ?_ (lw_meth h6)
  intro w hw
  simp only [List.mem_cons, List.not_mem_nil, or_false] at hw
  rcases hw with e | e | e | e | e | e
  · rw [e]; exact h1
  · rw [e]; exact h2
  · rw [e]; exact h0
  · rw [e]; exact h3
  · rw [e]; exact h4
  · rw [e]; exact h5
