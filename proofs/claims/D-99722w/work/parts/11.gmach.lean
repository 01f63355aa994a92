/-! Rows of the machine over the component's heap -/
/-- the machine's class numbers: of objects and their slots, of array kinds -/
abbrev GG : Type := va_G × (Nat → ClassId)
def gge (Γ : GG) (e : GE) : va_E := match e with
  | .inl o => .inl (Γ.2 o.1, o.2)
  | .inr o => .inr o
def gty : Nat → FieldType := fun κ => match κ with
  | 0 => .byte
  | 1 => .int
  | 2 => .object "java/lang/Object"
  | 3 => .object "InchBorders$Times"
  | _ => .object "InchBorders$Kept"
def gtys (Γ : GG) : List (ClassId × FieldType) := (List.range 5).map (fun κ => (Γ.2 κ, gty κ))
theorem gtys_at (Γ : GG) {κ : Nat} (h : κ < 5) : (gtys Γ)[κ]? = some (Γ.2 κ, gty κ) := by
  unfold gtys
  rw [List.getElem?_map, List.getElem?_range h]
  rfl
def gkind (w : Cond) : Bool := match w with
  | .fieldLinkNest .. => true
  | .methodLinkNest .. => true
  | .castable .. => true
  | .declares _ => true
  | .arrayOver (.object _) => true
  | _ => false
def GNw (U : State) : Prop := ∀ w ∈ lw_tbl, gkind w = true → va_Nw w U
theorem gkind_same {w : Cond} (h : gkind w = true) {s U : State} (hv : s.vm = U.vm) (hZ : va_Nw w s) : va_Nw w U := by
  unfold gkind at h
  split at h
  · exact va_Nw.same rfl hv hZ
  · exact va_Nw.same rfl hv hZ
  · exact va_Nw.same rfl hv hZ
  · exact va_Nw.same rfl hv hZ
  · exact va_AO.moved (by rw [hv]; exact Vm.Alike.refl _) hZ
  · cases h
theorem gkind_warm {w : Cond} (h : gkind w = true) {s U : State} (hW : s.WarmedH U.vm) (hZ : va_Nw w s) : va_Nw w U := by
  unfold gkind at h
  split at h
  · exact va_Nw.warmF hW hZ
  · exact va_Nw.warmM hW hZ
  · exact va_Nw.warmC hW hZ
  · exact va_Nw.warmD hW hZ
  · exact va_AO.moved hW.alike hZ
  · cases h
theorem GNw.warm {s U : State} (hW : s.WarmedH U.vm) (h : GNw s) : GNw U := fun w hw hk => gkind_warm hk hW (h w hw hk)
theorem GNw.same {s U : State} (hv : s.vm = U.vm) (h : GNw s) : GNw U := fun w hw hk => gkind_same hk hv (h w hw hk)
def GK (Γ : GG) (U : State) : Prop := va_K Γ.1 gcl (gtys Γ) U ∧ GNw U
theorem GK.warm {Γ : GG} {s U : State} (hW : s.WarmedH U.vm) (h : GK Γ s) : GK Γ U := ⟨va_K.moved hW.alike h.1, h.2.warm hW⟩
theorem GK.same {Γ : GG} {s U : State} (hv : s.vm = U.vm) (h : GK Γ s) : GK Γ U := ⟨va_K.moved (by rw [hv]; exact Vm.Alike.refl _) h.1, h.2.same hv⟩
def gold (E : gE) : Nat → Prop := fun q => E.1 ≤ q
def GZ (E : gE) (U : State) (H : Heap) : Prop :=
  va_Z "java/util/ArrayList" "DEFAULTCAPACITY_EMPTY_ELEMENTDATA" "[Ljava/lang/Object;" (va_rf (E.2.2 0)) (gold E) U H ∧
  va_Z "java/lang/String" "COMPACT_STRINGS" "Z" (.int 1) (gold E) U H ∧
  va_Z "java/lang/Throwable" "UNASSIGNED_STACK" "[Ljava/lang/StackTraceElement;" (va_rf (E.2.2 1)) (gold E) U H ∧
  va_Z "java/lang/Throwable" "SUPPRESSED_SENTINEL" "Ljava/util/List;" (va_rf (E.2.2 2)) (gold E) U H ∧
  va_Z "jdk/internal/util/Preconditions" "SIOOBE_FORMATTER" "Ljava/util/function/BiFunction;" (va_rf (E.2.2 3)) (gold E) U H ∧
  va_Z "java/lang/Integer" "DigitOnes" "[B" (va_rf (E.2.2 4)) (gold E) U H ∧
  va_Z "java/lang/Integer" "DigitTens" "[B" (va_rf (E.2.2 5)) (gold E) U H
theorem GZ.moved {E : gE} {u U : State} {H : Heap} (hv : u.vm.Alike U.vm) (h : GZ E u H) : GZ E U H :=
  ⟨h.1.moved hv, h.2.1.moved hv, h.2.2.1.moved hv, h.2.2.2.1.moved hv, h.2.2.2.2.1.moved hv, h.2.2.2.2.2.1.moved hv, h.2.2.2.2.2.2.moved hv⟩
theorem GZ.kept {E : gE} {U : State} {H H1 : Heap} (h : GZ E U H) (hq : ∀ a : Nat, a < H.size → ¬ gold E a → H1[a]? = H[a]?) : GZ E U H1 :=
  ⟨h.1.kept hq, h.2.1.kept hq, h.2.2.1.kept hq, h.2.2.2.1.kept hq, h.2.2.2.2.1.kept hq, h.2.2.2.2.2.1.kept hq, h.2.2.2.2.2.2.kept hq⟩
/-- the String constants that the code loads -/
def gstr : List (String × Nat × String) := [("InchBorders", 70, ""), ("InchBorders", 398, " of "), ("InchBorders", 401, " in "), ("InchBorders", 403, " "), ("InchBorders$BookReader", 42, "pact"), ("InchBorders$BookReader", 48, "break"), ("InchBorders$BookReader", 50, "close"), ("InchBorders$BookReader", 52, "lend"), ("InchBorders$BookReader", 54, "day"), ("InchBorders$BookReader", 56, "open"), ("InchBorders$BookReader", 103, "crosses"), ("InchBorders$SentenceReader", 65, "not"), ("InchBorders$SentenceReader", 67, "home"), ("InchBorders$SentenceReader", 69, "stuck"), ("InchBorders$SentenceReader", 48, "in"), ("InchBorders$SentenceReader", 50, "of"), ("InchBorders$SentenceReader", 52, "free"), ("InchBorders$SentenceReader", 54, "length"), ("InchBorders$SentenceReader", 56, "taken"), ("InchBorders$SentenceReader", 58, "crossed"), ("InchBorders$SentenceReader", 60, "number"), ("InchBorders$SentenceReader", 47, "and"), ("InchBorders$SentenceReader", 34, "or"), ("InchBorders$Reader", 9, ""), ("InchBorders$Reader", 76, " land store road treaty person crosses pact break close open lend day or and not home stuck in of free length taken crossed number "), ("InchBorders$Reader", 78, " "), ("InchBorders$MapReader", 36, "land"), ("InchBorders$MapReader", 44, "store"), ("InchBorders$MapReader", 48, "road"), ("InchBorders$MapReader", 52, "treaty"), ("InchBorders$MapReader", 142, "person")]
/-- private methods of abstract classes, on objects of the classes below them -/
def gpriv : List (String × MethodName) := [("InchBorders$MapReader", ⟨"InchBorders$Reader", "byteAt", "(I)I"⟩), ("InchBorders$BookReader", ⟨"InchBorders$Reader", "byteAt", "(I)I"⟩), ("InchBorders$SentenceReader", ⟨"InchBorders$Reader", "byteAt", "(I)I"⟩), ("java/lang/StringBuilder", ⟨"java/lang/AbstractStringBuilder", "ensureCapacityInternal", "(I)V"⟩), ("java/lang/StringBuilder", ⟨"java/lang/AbstractStringBuilder", "newCapacity", "(I)I"⟩), ("java/lang/StringBuilder", ⟨"java/lang/AbstractStringBuilder", "appendNull", "()Ljava/lang/AbstractStringBuilder;"⟩), ("java/lang/StringBuilder", ⟨"java/lang/AbstractStringBuilder", "inflateIfNeededFor", "(Ljava/lang/String;)V"⟩), ("java/lang/StringBuilder", ⟨"java/lang/AbstractStringBuilder", "inflate", "()V"⟩), ("java/lang/StringBuilder", ⟨"java/lang/AbstractStringBuilder", "putStringAt", "(ILjava/lang/String;)V"⟩)]
def gsels : List Cond := gpriv.map (fun q => Cond.selects q.1 q.2 q.2)
theorem gsels_ok : ∀ w ∈ gsels, (w.onTables && w.keeps) = true := by
  intro w hw
  obtain ⟨q, -, rfl⟩ := List.mem_map.mp hw
  rfl
def GR (E : gE) (U : State) : Prop := (∀ (k : Nat) (q : String × Nat × String), gstr[k]? = some q → vk_R q.1 q.2.1 q.2.2 (E.2.1 k) U) ∧ (∀ w ∈ gsels, va_Nw w U) ∧ (∃ mi : Nat, E.2.2 6 = some mi ∧ va_Mi "[Ljava/lang/Object;" mi U) ∧ va_Dc U
theorem GR.warm {E : gE} {s U : State} (hW : s.WarmedH U.vm) (h : GR E s) : GR E U := ⟨fun k q hk => vk_R.warm hW (h.1 k q hk), fun w hw => word_at hW (Or.inl (gsels_ok w hw)) (h.2.1 w hw), Exists.elim h.2.2.1 (fun mi q => ⟨mi, q.1, va_Mi.moved hW.alike q.2⟩), va_Dc.moved hW.alike h.2.2.2⟩
theorem GR.same {E : gE} {s U : State} (hv : U.vm = s.vm) (h : GR E s) : GR E U := ⟨fun k q hk => vk_R.same hv (h.1 k q hk), fun w hw => va_Nw.same (by have := gsels_ok w hw; simp only [Bool.and_eq_true] at this; exact this.1) hv.symm (h.2.1 w hw), Exists.elim h.2.2.1 (fun mi q => ⟨mi, q.1, va_Mi.moved (by rw [hv]; exact Vm.Alike.refl _) q.2⟩), va_Dc.moved (by rw [hv]; exact Vm.Alike.refl _) h.2.2.2⟩
/-- a private method is what a call of it selects, on any class -/
theorem g_selp {C : String} {y : MethodName} {s : State} {args : Array Value} (hC : ∃ c, s.vm.findClass C = some c) (hy : y.cls ≠ "java/lang/invoke/MethodHandle" ∧ y.cls ≠ "java/lang/invoke/VarHandle") (hpriv : (Cond.privateMethod y).before args s = true) (hinst : (Cond.instanceMethod y).before args s = true) (hsame : (Cond.sameMethod y.cls y.cls y.name y.desc).before args s = true) : (Cond.selects C y y).before args s = true := by
  obtain ⟨c, hc⟩ := hC
  obtain ⟨cn, ck, r1, hcn, hck, hni, hf, hn1⟩ := Cond.sameMethod_found hsame
  obtain ⟨mk, methM, hnamed, hmethM, -, -⟩ := Cond.instanceMethod_spec hinst
  have hfound : s.methodFound? y.cls y.name y.desc = some mk := State.methodFound?_of_named hnamed hy
  have hcls : mk.cls = cn := Option.some.inj ((findClass_of_methodNamed hnamed).symm.trans hcn)
  have hsel : selectMethod {} s.vm c mk = .method mk := selectMethod_private hmethM (Cond.privateMethod_at hpriv mk methM hnamed hmethM)
  simp only [Cond.before, Cond.holds, Cond.value, hc, hfound, hnamed, hsel, hcls, hck]
  simp; exact hni
def GP (Γ : GG) (E : gE) (S : GS) (H : Heap) : Prop := (∀ a e, S.1 a = some e → va_at Γ.1 gcl (a, gge Γ e) H) ∧ H.size = S.2.1 ∧ E.1 ≤ S.2.1
def gA (E : gE) (S0 : GS) : Nat → Prop := fun q => E.1 ≤ q ∧ (S0.1 q ≠ none ∨ S0.2.1 ≤ q)
def GH (Γ : GG) (E : gE) (S0 : GS) (H0 : Heap) (S : GS) (H : Heap) (locs : List Loc) : Prop := GP Γ E S H ∧ (∀ q, S.1 q ≠ none → E.1 ≤ q → gA E S0 q) ∧ va_S (gA E S0) H0 H locs ∧ H0.size = S0.2.1 ∧ E.1 ≤ H0.size
def gFx (Γ : GG) (E : gE) (own : String) (p : Program) (m : MethodId) (c : Code) (cc : ByteArray) (nL : Nat) (s : State) (args : Array Value) (meth : Method) (ret : Option FieldType) : Prop :=
  CallFix p m c cc nL s args lw_all own ∧ meth.sig.returnType = ret ∧ meth.locks = false ∧ GK Γ s ∧ GZ E s s.heap ∧ GR E s
def gPre (Γ : GG) (E : gE) (av : List Value) (S : GS) : Array Value → State → Prop := va_Pc av (fun U => GP Γ E S U.heap ∧ GK Γ U ∧ GZ E U U.heap ∧ GR E U)
theorem gPre_blind (Γ : GG) (E : gE) (av : List Value) (S : GS) : FrameBlind (gPre Γ E av S) := by
  intro a U g mk q
  obtain ⟨q0, qP, qK, qZ, qR⟩ := q
  exact ⟨q0, qP, GK.same (s := U) (U := U.calling g mk a) rfl qK, GZ.moved (u := U) (U := U.calling g mk a) (Vm.Alike.refl U.vm) qZ, GR.same (s := U) (U := U.calling g mk a) rfl qR⟩
def gB (Γ : GG) (E : gE) (S0 S : GS) : Unit → State → Prop := fun _ t => GP Γ E S t.heap ∧ ∀ q, S.1 q ≠ none → E.1 ≤ q → gA E S0 q
def gQi (Γ : GG) (E : gE) (S0 : GS) (r : Int32) (S : GS) : Array Value → State → Outcome → State → Prop := va_Qi (fun r' (_ : Unit) => r' = r) (gB Γ E S0 S) (gA E S0)
def gQv (Γ : GG) (E : gE) (S0 : GS) (S : GS) : Array Value → State → Outcome → State → Prop := va_Qv (fun (_ : Unit) => True) (gB Γ E S0 S) (gA E S0)
def gQq (Γ : GG) (E : gE) (S0 : GS) (r : Option Nat) (S : GS) : Array Value → State → Outcome → State → Prop := va_Qq (fun r' (_ : Unit) => r' = r) (gB Γ E S0 S) (gA E S0)
theorem GP.put {Γ : GG} {E : gE} {S : GS} {H H1 : Heap} (h : GP Γ E S H) {a : Nat} {e : GE} (he : va_at Γ.1 gcl (a, gge Γ e) H1) (z : H1.size = H.size) (oq : ∀ q : Nat, q ≠ a → H1[q]? = H[q]?) : GP Γ E (gup S a e) H1 := by
  refine ⟨fun b e' hb => ?_, z.trans h.2.1, h.2.2⟩
  by_cases hab : b = a
  · subst hab
    have h1 : some e = some e' := by
      have : (gup S b e).1 b = some e := by simp [gup, va_up]
      exact this.symm.trans hb
    cases h1
    exact he
  · have h1 : S.1 b = some e' := by
      have : (gup S a e).1 b = S.1 b := by simp [gup, va_up, hab]
      exact this.symm.trans hb
    exact (h.1 b e' h1).kept (oq b hab)
theorem GH.put {Γ : GG} {E : gE} {S0 S : GS} {H0 H H1 : Heap} {locs : List Loc} (h : GH Γ E S0 H0 S H locs) {a k : Nat} {e : GE} (ha : S.1 a ≠ none) (hE : E.1 ≤ a) (he : va_at Γ.1 gcl (a, gge Γ e) H1) (z : H1.size = H.size) (oq : ∀ q : Nat, q ≠ a → H1[q]? = H[q]?) : GH Γ E S0 H0 (gup S a e) H1 (locs ++ [⟨a, k⟩]) := by
  obtain ⟨hP, hd, hS, hz⟩ := h
  refine ⟨hP.put he z oq, fun q hq hEq => ?_, hS.put z oq (hd a ha hE), hz⟩
  by_cases hqa : q = a
  · subst hqa; exact hd q ha hE
  · exact hd q (by simpa [gup, va_up, hqa] using hq) hEq
theorem GP.push {Γ : GG} {E : gE} {S : GS} {H H1 : Heap} (h : GP Γ E S H) {e : GE} {n : Nat} (he : va_at Γ.1 gcl (H.size, gge Γ e) H1) (z : H1.size = H.size + 1) (oq : ∀ q : Nat, q < H.size → H1[q]? = H[q]?) : GP Γ E (gpush S e n) H1 := by
  refine ⟨fun b e' hb => ?_, by rw [z, h.2.1]; rfl, Nat.le_succ_of_le h.2.2⟩
  by_cases hab : b = S.2.1
  · subst hab
    have h1 : some e = some e' := by
      have : (gpush S e n).1 S.2.1 = some e := by simp [gpush, va_up]
      exact this.symm.trans hb
    cases h1
    rw [← h.2.1]
    exact he
  · have h1 : S.1 b = some e' := by
      have : (gpush S e n).1 b = S.1 b := by simp [gpush, va_up, hab]
      exact this.symm.trans hb
    have h2 := h.1 b e' h1
    exact h2.kept (oq b h2.lt)
theorem GH.push {Γ : GG} {E : gE} {S0 S : GS} {H0 H H1 : Heap} {locs : List Loc} (h : GH Γ E S0 H0 S H locs) {e : GE} {n : Nat} (he : va_at Γ.1 gcl (H.size, gge Γ e) H1) (z : H1.size = H.size + 1) (oq : ∀ q : Nat, q < H.size → H1[q]? = H[q]?) : GH Γ E S0 H0 (gpush S e n) H1 locs := by
  obtain ⟨hP, hd, hS, hz⟩ := h
  refine ⟨hP.push he z oq, fun q hq hEq => ?_, ⟨Nat.le_trans hS.1 (by omega), fun x h1 h2 => (oq x (Nat.lt_of_lt_of_le h1 hS.1)).trans (hS.2.1 x h1 h2), hS.2.2⟩, hz⟩
  by_cases hqa : q = S.2.1
  · subst hqa
    exact ⟨hEq, Or.inr (by rw [← hz.1, ← hP.2.1]; exact hS.1)⟩
  · exact hd q (by simpa [gpush, va_up, hqa] using hq) hEq
theorem GP.one {Γ : GG} {E : gE} {S : GS} {H : Heap} (h : GP Γ E S H) {a : Nat} {e : GE} (ha : S.1 a = some e) : va_P Γ.1 gcl [(a, gge Γ e)] H := by
  intro k q hk
  match k, hk with
  | 0, hk => cases hk; exact h.1 a e ha
theorem g_tk {ci k κ : Nat} {r : vw_C} (hc : gcl[ci]? = some r) (hk : gfx ci κ = some k) : k < r.2.2 ∧ r.2.1 k = gfo κ := by
  obtain ⟨-, -, -, h4, -, h6⟩ := gcl_ok hc
  have h1 := gfx_i hk
  obtain ⟨h2, h3⟩ := List.getElem?_eq_some_iff.mp h1
  have h5 : k < r.2.2 := by rw [← h4]; exact h2
  refine ⟨h5, ?_⟩
  rw [h6 k h5, List.getD_eq_getElem?_getD, h1]
  rfl
theorem g_cl {Γ : GG} {a ci : Nat} {fs : List Value} {H : Heap} (h : va_at Γ.1 gcl (a, gge Γ (.inr (ci, fs))) H) : ∃ r, gcl[ci]? = some r := by
  obtain ⟨r, h1, -⟩ := h
  exact ⟨r, h1⟩
section GROW
variable {Γ : GG} {E : gE} {own : String} {p : Program} {l : Launch} {e : Env} {R : Room} {s : State} {m : MethodId} {args : Array Value} {below : List Frame} {meth : Method} {c : Code} {H : Heap} {locs : List Loc} {cells slots : Nat} {Q : State → Prop}
variable {cc : ByteArray} {nL pc : Nat} {ls : Array Slot} {rest : List Value} {ret : Option FieldType} {S0 S : GS}
theorem g_get (F : gFx Γ E own p m c cc nL s args meth ret) (hM : GH Γ E S0 s.heap S H locs) {ref : String} {index κ : Nat} {r : Option Nat} {v : Value} (hg : gIs S r κ v) (hlink : Cond.fieldLink own index ref (gfo κ).2.1 (gfo κ).2.2.1 ∈ lw_all) (hsame : ∀ x, s.fieldFound? (gfo κ).1 (gfo κ).2.1 (gfo κ).2.2.1 = some x → s.fieldFound? ref (gfo κ).2.1 (gfo κ).2.2.1 = some x) (hdg : decode cc pc = .ok (.getfield index, 3)) (kk : W p l e R s m args below meth c H locs cells slots Q (F0 m (pc + 3) ls (v :: rest))) : W p l e R s m args below meth c H locs cells slots Q (F0 m pc ls (va_rf r :: rest)) := by
  obtain ⟨⟨hx, hb, -, hown, hts⟩, -, -, ⟨hK, hN⟩, -⟩ := F
  obtain ⟨a, ci, fs, k, rfl, ha, hk, hv⟩ := hg
  have hP := hM.1.one ha
  obtain ⟨⟨C, T, N⟩, hc⟩ := g_cl (hM.1.1 _ _ ha)
  obtain ⟨h1, h2⟩ := g_tk hc hk
  have h1 : k < N := h1
  have h2 : T k = gfo κ := h2
  exact va_get (C := C) (T := T) (N := N) (ref := ref) hx hb hts (gcl_ok hc).1 hown hK hP 0 rfl hc k h1 (by rw [h2]; exact hts _ hlink) (by rw [h2]; exact hsame) hv hdg kk
theorem g_getN (F : gFx Γ E own p m c cc nL s args meth ret) (hM : GH Γ E S0 s.heap S H locs) {ref host : String} {index κ : Nat} {r : Option Nat} {v : Value} (hg : gIs S r κ v) (hlink : Cond.fieldLinkNest own index ref (gfo κ).2.1 (gfo κ).2.2.1 host ∈ lw_tbl) (hsame : ∀ x, s.fieldFound? (gfo κ).1 (gfo κ).2.1 (gfo κ).2.2.1 = some x → s.fieldFound? ref (gfo κ).2.1 (gfo κ).2.2.1 = some x) (hdg : decode cc pc = .ok (.getfield index, 3)) (kk : W p l e R s m args below meth c H locs cells slots Q (F0 m (pc + 3) ls (v :: rest))) : W p l e R s m args below meth c H locs cells slots Q (F0 m pc ls (va_rf r :: rest)) := by
  obtain ⟨⟨hx, hb, -, hown, hts⟩, -, -, ⟨hK, hN⟩, -⟩ := F
  obtain ⟨a, ci, fs, k, rfl, ha, hk, hv⟩ := hg
  have hP := hM.1.one ha
  obtain ⟨⟨C, T, N⟩, hc⟩ := g_cl (hM.1.1 _ _ ha)
  obtain ⟨h1, h2⟩ := g_tk hc hk
  have h1 : k < N := h1
  have h2 : T k = gfo κ := h2
  exact va_getN (C := C) (T := T) (N := N) (ref := ref) (host := host) hx hb hts (gcl_ok hc).1 hown hK hP 0 rfl hc k h1 (by rw [h2]; exact va_Nw.use rfl (hN _ hlink rfl)) (by rw [h2]; exact hsame) hv hdg kk
theorem g_put (F : gFx Γ E own p m c cc nL s args meth ret) (hM : GH Γ E S0 s.heap S H locs) {ref : String} {index κ : Nat} {r : Option Nat} {v : Value} {S' : GS} (hg : gPut E S r κ v S') (hlink : Cond.fieldLink own index ref (gfo κ).2.1 (gfo κ).2.2.1 ∈ lw_all) (hsame : ∀ x, s.fieldFound? (gfo κ).1 (gfo κ).2.1 (gfo κ).2.2.1 = some x → s.fieldFound? ref (gfo κ).2.1 (gfo κ).2.2.1 = some x) (hfin : (gfo κ).2.2.2 = false) {ty : FieldType} (hd : parseFieldDescriptor (gfo κ).2.2.1 = some ty) (hn : narrow ty v = v) (hfit : fits ty v = true) (hdg : decode cc pc = .ok (.putfield index, 3)) (kk : ∀ (H1 : Heap) (locs1 : List Loc), GH Γ E S0 s.heap S' H1 locs1 → W p l e R s m args below meth c H1 locs1 cells slots Q (F0 m (pc + 3) ls rest)) : W p l e R s m args below meth c H locs cells slots Q (F0 m pc ls (v :: va_rf r :: rest)) := by
  obtain ⟨⟨hx, hb, -, hown, hts⟩, -, -, ⟨hK, hN⟩, -⟩ := F
  obtain ⟨a, ci, fs, k, rfl, ha, hk, hkl, hE, rfl⟩ := hg
  obtain ⟨⟨C, T, N⟩, hc, cell, q1, q2, q3, q4⟩ := hM.1.1 _ _ ha
  obtain ⟨hkN, h2⟩ := g_tk hc hk
  have hkN : k < N := hkN
  have h2 : T k = gfo κ := h2
  obtain ⟨hin, ⟨ty0, hty, -⟩, hnm, -⟩ := gcl_ok hc
  have hap := va_apart (own := own) hts hin ty0 hty hnm hK hc
  obtain ⟨hS, hfc, kC, hkC, hkind⟩ := hK.1 ci _ hc
  obtain ⟨cf, kf, fi, f, hi, hsl⟩ := hS k hkN
  have hlay := hts _ (hin _ (u_in_lay hkN))
  unfold u_lay at hlay
  dsimp only at hlay hi
  rw [if_neg (by rw [h2, hfin]; decide)] at hlay
  rw [h2] at hlay hi
  have hst := (u_facts hfc hkC (Or.inl hlay) hi).1
  have h6 := u_store hfc hkC hkind hlay hi hd hn hfit
  refine W.putK hx hb (f := f) ⟨hown, hts _ hlink, ⟨_, _, _, hsame _ hi⟩, hst⟩ (by rw [q2]; exact h6) q1 q3 (by rw [hsl]; exact k2_hasslot (q4 k hkN)) rfl rfl hdg fun H' e1 e2 e3 => ?_
  rw [hsl] at e1 ⊢
  exact kk H' _ (hM.put (by rw [ha]; simp) hE ⟨_, hc, t_OB.to (V := updV (vp_V fs) k v) ⟨_, e1, q2, q3, t_set q4 hap hkN v⟩ (fun j _ => vp_updV_set hkl v j)⟩ e2 e3)
theorem g_putN (F : gFx Γ E own p m c cc nL s args meth ret) (hM : GH Γ E S0 s.heap S H locs) {ref host : String} {index κ : Nat} {r : Option Nat} {v : Value} {S' : GS} (hg : gPut E S r κ v S') (hlink : Cond.fieldLinkNest own index ref (gfo κ).2.1 (gfo κ).2.2.1 host ∈ lw_tbl) (hsame : ∀ x, s.fieldFound? (gfo κ).1 (gfo κ).2.1 (gfo κ).2.2.1 = some x → s.fieldFound? ref (gfo κ).2.1 (gfo κ).2.2.1 = some x) (hfin : (gfo κ).2.2.2 = false) {ty : FieldType} (hd : parseFieldDescriptor (gfo κ).2.2.1 = some ty) (hn : narrow ty v = v) (hfit : fits ty v = true) (hdg : decode cc pc = .ok (.putfield index, 3)) (kk : ∀ (H1 : Heap) (locs1 : List Loc), GH Γ E S0 s.heap S' H1 locs1 → W p l e R s m args below meth c H1 locs1 cells slots Q (F0 m (pc + 3) ls rest)) : W p l e R s m args below meth c H locs cells slots Q (F0 m pc ls (v :: va_rf r :: rest)) := by
  obtain ⟨⟨hx, hb, -, hown, hts⟩, -, -, ⟨hK, hN⟩, -⟩ := F
  obtain ⟨a, ci, fs, k, rfl, ha, hk, hkl, hE, rfl⟩ := hg
  obtain ⟨⟨C, T, N⟩, hc, cell, q1, q2, q3, q4⟩ := hM.1.1 _ _ ha
  obtain ⟨hkN, h2⟩ := g_tk hc hk
  have hkN : k < N := hkN
  have h2 : T k = gfo κ := h2
  obtain ⟨hin, ⟨ty0, hty, -⟩, hnm, -⟩ := gcl_ok hc
  have hap := va_apart (own := own) hts hin ty0 hty hnm hK hc
  obtain ⟨hS, hfc, kC, hkC, hkind⟩ := hK.1 ci _ hc
  obtain ⟨cf, kf, fi, f, hi, hsl⟩ := hS k hkN
  have hlay := hts _ (hin _ (u_in_lay hkN))
  unfold u_lay at hlay
  dsimp only at hlay hi
  rw [if_neg (by rw [h2, hfin]; decide)] at hlay
  rw [h2] at hlay hi
  have hst := (u_facts hfc hkC (Or.inl hlay) hi).1
  have h6 := u_store hfc hkC hkind hlay hi hd hn hfit
  refine va_WputK hx hb (f := f) hown (va_Nw.use rfl (hN _ hlink rfl)) (hsame _ hi) hst (by rw [q2]; exact h6) q1 q3 (by rw [hsl]; exact k2_hasslot (q4 k hkN)) rfl rfl hdg fun H' e1 e2 e3 => ?_
  rw [hsl] at e1 ⊢
  exact kk H' _ (hM.put (by rw [ha]; simp) hE ⟨_, hc, t_OB.to (V := updV (vp_V fs) k v) ⟨_, e1, q2, q3, t_set q4 hap hkN v⟩ (fun j _ => vp_updV_set hkl v j)⟩ e2 e3)
theorem g_putF (F : gFx Γ E own p m c cc nL s args meth ret) (hin2 : meth.name = "<init>") (hM : GH Γ E S0 s.heap S H locs) {ref : String} {index κ : Nat} {r : Option Nat} {v : Value} {S' : GS} (hg : gPut E S r κ v S') (hlink : Cond.fieldLink own index ref (gfo κ).2.1 (gfo κ).2.2.1 ∈ lw_all) (hsame : ∀ x, s.fieldFound? (gfo κ).1 (gfo κ).2.1 (gfo κ).2.2.1 = some x → s.fieldFound? ref (gfo κ).2.1 (gfo κ).2.2.1 = some x) (hfin : (gfo κ).2.2.2 = true) (hdecl : (gfo κ).1 = own) {ty : FieldType} (hd : parseFieldDescriptor (gfo κ).2.2.1 = some ty) (hn : narrow ty v = v) (hfit : fits ty v = true) (hdg : decode cc pc = .ok (.putfield index, 3)) (kk : ∀ (H1 : Heap) (locs1 : List Loc), GH Γ E S0 s.heap S' H1 locs1 → W p l e R s m args below meth c H1 locs1 cells slots Q (F0 m (pc + 3) ls rest)) : W p l e R s m args below meth c H locs cells slots Q (F0 m pc ls (v :: va_rf r :: rest)) := by
  obtain ⟨⟨hx, hb, -, hown, hts⟩, -, -, ⟨hK, hN⟩, -⟩ := F
  obtain ⟨a, ci, fs, k, rfl, ha, hk, hkl, hE, rfl⟩ := hg
  obtain ⟨⟨C, T, N⟩, hc, cell, q1, q2, q3, q4⟩ := hM.1.1 _ _ ha
  obtain ⟨hkN, h2⟩ := g_tk hc hk
  have hkN : k < N := hkN
  have h2 : T k = gfo κ := h2
  obtain ⟨hin, ⟨ty0, hty, -⟩, hnm, -⟩ := gcl_ok hc
  have hap := va_apart (own := own) hts hin ty0 hty hnm hK hc
  obtain ⟨hS, hfc, kC, hkC, hkind⟩ := hK.1 ci _ hc
  obtain ⟨cf, kf, fi, f, hi, hsl⟩ := hS k hkN
  have hlay := hts _ (hin _ (u_in_lay hkN))
  unfold u_lay at hlay
  dsimp only at hlay hi
  rw [if_pos (by rw [h2]; exact hfin)] at hlay
  rw [h2] at hlay hi
  have hst := (u_facts hfc hkC (Or.inr hlay) hi).1
  have hcf : m.cls = cf := by
    obtain ⟨_, _, c', _, _, _, -, -, hf', -, -, -, hown2, -⟩ := Cond.laysFinal_spec hlay
    have e1 : c' = cf := by have := hi.symm.trans hf'; simp at this; exact this.1.symm
    rw [hdecl] at hown2
    rw [← e1]; exact Option.some.inj (hown.symm.trans hown2)
  have h6 := u_fits hfc hkC hkind (Or.inr hlay) hi hd hn hfit
  refine W.putFinK hx hb hown (hts _ hlink) (hsame _ hi) hst hcf hin2 (by rw [q2]; exact h6) q1 q3 (by rw [hsl]; exact k2_hasslot (q4 k hkN)) rfl rfl hdg fun H' e1 e2 e3 => ?_
  rw [hsl] at e1 ⊢
  exact kk H' _ (hM.put (by rw [ha]; simp) hE ⟨_, hc, t_OB.to (V := updV (vp_V fs) k v) ⟨_, e1, q2, q3, t_set q4 hap hkN v⟩ (fun j _ => vp_updV_set hkl v j)⟩ e2 e3)
end GROW
