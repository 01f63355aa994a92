/-! Rows of the machine over the component's heap: calls, returns, casts -/
def gnt {β : Type} (ty : FieldType) (v : Int32) (K : Option β) : Option β := if vp_nar ty v = v then K else none
theorem gnt_i {β : Type} {ty : FieldType} {v : Int32} {K : Option β} {y : β} (h : gnt ty v K = some y) : vp_nar ty v = v ∧ K = some y := by
  unfold gnt at h
  split at h
  · rename_i hc
    exact ⟨hc, h⟩
  · cases h
/-- a cast: null, or a cell of one of these classes -/
def gcc {β : Type} (S : GS) (r : Option Nat) (cis : List Nat) (K : Option β) : Option β := match r with
  | none => K
  | some a => match S.1 a with
    | some (.inr o) => if o.1 ∈ cis then K else none
    | _ => none
theorem gcc_i {β : Type} {S : GS} {r : Option Nat} {cis : List Nat} {K : Option β} {y : β} (h : gcc S r cis K = some y) : (r = none ∨ ∃ a ci fs, r = some a ∧ S.1 a = some (.inr (ci, fs)) ∧ ci ∈ cis) ∧ K = some y := by
  unfold gcc at h
  split at h
  · exact ⟨Or.inl rfl, h⟩
  · split at h
    · rename_i o ho
      split at h
      · rename_i hc
        exact ⟨Or.inr ⟨_, o.1, o.2, rfl, ho, hc⟩, h⟩
      · cases h
    · cases h
section GCALL
variable {Γ : GG} {E : gE} {own : String} {p : Program} {l : Launch} {e : Env} {R : Room} {s : State} {m : MethodId} {args : Array Value} {below : List Frame} {meth : Method} {c : Code} {H : Heap} {locs : List Loc} {cells slots : Nat} {Q : State → Prop}
variable {cc : ByteArray} {nL pc : Nat} {ls : Array Slot} {rest : List Value} {ret : Option FieldType} {S0 S Sf : GS} {mc ms : Nat}
theorem GH.sub (hM : GH Γ E S0 s.heap S H locs) : ∀ q, gA E S q → gA E S0 q := by
  intro q h
  rcases h with ⟨h1, h2 | h2⟩
  · exact hM.2.1 q h2 h1
  · refine ⟨h1, Or.inr ?_⟩
    rw [← hM.2.2.2.1]
    exact Nat.le_trans hM.2.2.1.1 (by rw [hM.1.2.1]; exact h2)
theorem GH.init {E : gE} {S : GS} {H : Heap} (h : GP Γ E S H) : GH Γ E S H S H [] := ⟨h, fun q h1 h2 => ⟨h2, Or.inl h1⟩, va_S.rf, h.2.1, by rw [h.2.1]; exact h.2.2⟩
theorem g_zNow (F : gFx Γ E own p m c cc nL s args meth ret) (hM : GH Γ E S0 s.heap S H locs) {U : State} (hU : U.heap = H) (hv : s.vm.Alike U.vm) : GZ E U U.heap := by
  refine GZ.moved hv ?_
  rw [hU]
  exact F.2.2.2.2.1.kept (fun a h1 h2 => hM.2.2.1.2.1 a h1 (fun h3 => h2 h3.1))
theorem g_pre (F : gFx Γ E own p m c cc nL s args meth ret) (hM : GH Γ E S0 s.heap S H locs) (av : List Value) (U : State) (hU : U.heap = H) (hW : s.WarmedH U.vm) : gPre Γ E av S av.toArray U :=
  ⟨rfl, by rw [hU]; exact hM.1, GK.warm hW F.2.2.2.1, g_zNow F hM hU hW.alike, GR.warm hW F.2.2.2.2.2⟩
theorem g_preS (F : gFx Γ E own p m c cc nL s args meth ret) (hM : GH Γ E S0 s.heap S H locs) (As : List Value) : PreS s H (gPre Γ E As S) As := ⟨gPre_blind Γ E As S, fun U hU hW => g_pre F hM As U hU hW⟩
theorem g_preV (F : gFx Γ E own p m c cc nL s args meth ret) (hM : GH Γ E S0 s.heap S H locs) (As : List Value) {b ci : Nat} {fs : List Value} {rr : vw_C} (hc : gcl[ci]? = some rr) (hb : S.1 b = some (.inr (ci, fs))) : PreV s H rr.1 b (gPre Γ E (.ref b :: As) S) As :=
  ⟨gPre_blind Γ E _ S, va_recv F.2.2.2.1.1 (hM.1.one hb) hc (q0 := 0) rfl, fun U hU hW => g_pre F hM _ U hU hW⟩
theorem g_back (hM : GH Γ E S0 s.heap S H locs) {t : State} {H1 : Heap} {locs1 : List Loc} {S1 : GS} (ht : t.heap = H1) (hB : gB Γ E S S1 () t) (hS : va_S (gA E S0) s.heap H1 locs1) : GH Γ E S0 s.heap S1 H1 locs1 :=
  ⟨by rw [← ht]; exact hB.1, fun q h1 h2 => hM.sub q (hB.2 q h1 h2), hS, hM.2.2.2⟩
variable {st0 : List Value} {a : Array Value} {S1 : GS}
theorem g_ci (hM : GH Γ E S0 s.heap S H locs) {r1 : Int32} (hr : va_Run p l e R s m args below meth c H locs cells slots mc ms (F0 m pc ls st0) rest (gQi Γ E S r1 S1 a) (gA E S)) (kk : ∀ (H1 : Heap) (locs1 : List Loc), GH Γ E S0 s.heap S1 H1 locs1 → W p l e R s m args below meth c H1 locs1 (cells + mc) (slots + ms) Q (F0 m (pc + 3) ls (.int r1 :: rest))) : W p l e R s m args below meth c H locs cells slots Q (F0 m pc ls st0) := by
  refine va_calli hr hM.2.2.1 (fun q _ h => hM.sub q h) (fun q h => hM.sub q h) (fun r u t H1 locs1 ht hvm hw hB hz hk hS => ?_)
  cases hw
  exact kk H1 locs1 (g_back hM ht hB hS)
theorem g_cv (hM : GH Γ E S0 s.heap S H locs) (hr : va_Run p l e R s m args below meth c H locs cells slots mc ms (F0 m pc ls st0) rest (gQv Γ E S S1 a) (gA E S)) (kk : ∀ (H1 : Heap) (locs1 : List Loc), GH Γ E S0 s.heap S1 H1 locs1 → W p l e R s m args below meth c H1 locs1 (cells + mc) (slots + ms) Q (F0 m (pc + 3) ls rest)) : W p l e R s m args below meth c H locs cells slots Q (F0 m pc ls st0) := by
  refine va_callv hr hM.2.2.1 (fun q _ h => hM.sub q h) (fun q h => hM.sub q h) (fun u t H1 locs1 ht hvm hw hB hz hk hS => ?_)
  exact kk H1 locs1 (g_back hM ht hB hS)
theorem g_cq (hM : GH Γ E S0 s.heap S H locs) {r1 : Option Nat} (hr : va_Run p l e R s m args below meth c H locs cells slots mc ms (F0 m pc ls st0) rest (gQq Γ E S r1 S1 a) (gA E S)) (kk : ∀ (H1 : Heap) (locs1 : List Loc), GH Γ E S0 s.heap S1 H1 locs1 → W p l e R s m args below meth c H1 locs1 (cells + mc) (slots + ms) Q (F0 m (pc + 3) ls (va_rf r1 :: rest))) : W p l e R s m args below meth c H locs cells slots Q (F0 m pc ls st0) := by
  refine va_callq hr hM.2.2.1 (fun q _ h => hM.sub q h) (fun q h => hM.sub q h) (fun r u t H1 locs1 ht hvm hw hB hz hk hS => ?_)
  cases hw
  exact kk H1 locs1 (g_back hM ht hB hS)
theorem g_iret (F : gFx Γ E own p m c cc nL s args meth (some .int)) (hM : GH Γ E S0 s.heap S H locs) {v r0 : Int32} (hf : some (v, S) = some (r0, Sf)) (hc : cells = mc ∧ slots = ms) (hdg : decode cc pc = .ok (.ireturn, 1)) : W p l e R s m args below meth c H locs cells slots (MQ below (gQi Γ E S0 r0 Sf) args s mc ms (gA E S0)) (F0 m pc ls [.int v]) := by
  obtain ⟨⟨hx, hb, -, -, -⟩, hr, hlocks, -⟩ := F
  obtain ⟨rfl, rfl⟩ := hc
  cases hf
  exact W.iret (v := v) hx hb hr (fun t ht hW => ⟨⟨v, (), rfl, rfl, by rw [ht]; exact hM.1, hM.2.1⟩, hM.2.2.1.F ht⟩) hM.2.2.1.2.2 hdg
theorem g_zret {ty : FieldType} (F : gFx Γ E own p m c cc nL s args meth (some ty)) (hM : GH Γ E S0 s.heap S H locs) {v r0 : Int32} (hf : some (v, S) = some (r0, Sf)) (hn : narrow ty (.int v) = .int v) (hc : cells = mc ∧ slots = ms) (hdg : decode cc pc = .ok (.ireturn, 1)) : W p l e R s m args below meth c H locs cells slots (MQ below (gQi Γ E S0 r0 Sf) args s mc ms (gA E S0)) (F0 m pc ls [.int v]) := by
  obtain ⟨⟨hx, hb, -, -, -⟩, hr, hlocks, -⟩ := F
  obtain ⟨rfl, rfl⟩ := hc
  cases hf
  exact W.zret (v := v) hx hb hr hn (fun t ht hW => ⟨⟨v, (), rfl, rfl, by rw [ht]; exact hM.1, hM.2.1⟩, hM.2.2.1.F ht⟩) hM.2.2.1.2.2 hdg
theorem g_vret (F : gFx Γ E own p m c cc nL s args meth none) (hM : GH Γ E S0 s.heap S H locs) {v r0 : Int32} (hf : some (v, S) = some (r0, Sf)) (hc : cells = mc ∧ slots = ms) (hdg : decode cc pc = .ok (.return_, 1)) : W p l e R s m args below meth c H locs cells slots (MQ below (gQv Γ E S0 Sf) args s mc ms (gA E S0)) (F0 m pc ls []) := by
  obtain ⟨⟨hx, hb, -, -, -⟩, hr, hlocks, -⟩ := F
  obtain ⟨rfl, rfl⟩ := hc
  cases hf
  exact W.vret hx hb hr (fun t ht hW => ⟨⟨(), rfl, trivial, by rw [ht]; exact hM.1, hM.2.1⟩, hM.2.2.1.F ht⟩) hM.2.2.1.2.2 hdg
theorem g_aret {ty : FieldType} (F : gFx Γ E own p m c cc nL s args meth (some ty)) (hty : (∃ n, ty = .object n) ∨ ∃ t, ty = .array t) (hM : GH Γ E S0 s.heap S H locs) {v r0 : Option Nat} (hf : some (v, S) = some (r0, Sf)) (hc : cells = mc ∧ slots = ms) (hdg : decode cc pc = .ok (.areturn, 1)) : W p l e R s m args below meth c H locs cells slots (MQ below (gQq Γ E S0 r0 Sf) args s mc ms (gA E S0)) (F0 m pc ls [va_rf v]) := by
  obtain ⟨⟨hx, hb, -, -, -⟩, hr, hlocks, -⟩ := F
  obtain ⟨rfl, rfl⟩ := hc
  cases hf
  exact W.aret (v := va_rf v) hx hb hr hty (by cases v with
    | none => exact Or.inl rfl
    | some a => exact Or.inr ⟨a, rfl⟩) (fun t ht hW => ⟨⟨v, (), rfl, rfl, by rw [ht]; exact hM.1, hM.2.1⟩, hM.2.2.1.F ht⟩) hM.2.2.1.2.2 hdg
theorem g_cast (F : gFx Γ E own p m c cc nL s args meth ret) (hM : GH Γ E S0 s.heap S H locs) {r : Option Nat} {cis : List Nat} {nm : String} {index : Nat} (hg : r = none ∨ ∃ a ci fs, r = some a ∧ S.1 a = some (.inr (ci, fs)) ∧ ci ∈ cis) (hall : ∀ ci ∈ cis, ∀ rr : vw_C, gcl[ci]? = some rr → rr.1 = nm ∨ Cond.castable rr.1 nm ∈ lw_tbl) (hlink : Cond.classLink own index nm ∈ lw_all) (hdg : decode cc pc = .ok (.checkcast index, 3)) (k : W p l e R s m args below meth c H locs cells slots Q (F0 m (pc + 3) ls (va_rf r :: rest))) : W p l e R s m args below meth c H locs cells slots Q (F0 m pc ls (va_rf r :: rest)) := by
  obtain ⟨⟨hx, hb, -, hown, hts⟩, -, -, ⟨hK, hN⟩, -⟩ := F
  rcases hg with rfl | ⟨a, ci, fs, rfl, ha, hci⟩
  · exact lv_castN hx hb hdg k
  · obtain ⟨rr, hc⟩ := g_cl (hM.1.1 _ _ ha)
    have hrec := va_recv hK (hM.1.one ha) hc (q0 := 0) rfl
    rcases hall ci hci rr hc with h | h
    · subst h
      exact va_castS hx hb hown (hts _ hlink) (hK.1 ci _ hc).2 hrec hdg k
    · exact va_castY hx hb hown (hts _ hlink) (hN _ h rfl) hrec hdg k
/-- a contract of the component's out of a walk from its entry -/
theorem g_met {y : MethodName} {ws : List Cond} {rm : Room} {bytes : ByteArray} {maxL : Nat} {retY : Option FieldType} {av : List Value} {Qc : Array Value → State → Outcome → State → Prop} (hy : plainName y.cls = true) (hw : ws = Cond.code y bytes maxL retY :: lw_all) (hlen : (lg_sl av).length ≤ maxL)
    (body : ∀ p e s m below meth c ls, gFx Γ E y.cls p m c bytes maxL s av.toArray meth retY → meth.name = y.name → GH Γ E S s.heap S s.heap [] → lv_has ls maxL (lv_args 0 av) →
      W p l e (headSpec ws rm).room s m av.toArray below meth c s.heap [] 0 0 (MQ below Qc av.toArray s mc ms (gA E S)) (F0 m 0 ls [])) : Met l y ws rm (gPre Γ E av S) Qc mc ms (gA E S) := by
  refine Met.ofW (cc := bytes) (maxL := maxL) (ret := retY) hy hw ?_
  intro p e s m args below meth c s₁ B hml hv
  obtain ⟨rfl, hP, hK, hZ, hR⟩ := hv
  have hts := atoms_spec (ws := ws) B.pre
  have hts : ∀ w ∈ lw_all, w.before _ s = true := fun w h => hts w (by rw [hw]; exact List.mem_cons_of_mem _ h)
  have hown : s.vm.findClass y.cls = some m.cls := findClass_of_methodNamed B.named
  rw [lg_entry_eq]
  exact body p e s m below meth c _ ⟨⟨B.exec, B.bytes, hml, hown, hts⟩, B.returns, B.notSynchronized, hK, hZ, hR⟩ ((name_of_methodNamed B.named B.method).1) (GH.init hP) (lv_entry av (n := maxL) hlen)
end GCALL
