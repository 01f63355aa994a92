/-! the class object of Object[] -/
def ggc {β : Type} (E : gE) (S : GS) (r : Option Nat) (K : Option Nat → Option β) : Option β := match garr S r with
  | some (_, κ', _) => if κ' = 2 then K (E.2.2 6) else none
  | none => none
theorem ggc_i {β : Type} {E : gE} {S : GS} {r : Option Nat} {K : Option Nat → Option β} {y : β} (h : ggc E S r K = some y) : (∃ b x, r = some b ∧ S.1 b = some (.inl (2, x))) ∧ K (E.2.2 6) = some y := by
  unfold ggc at h
  split at h
  · rename_i b κ' x ho
    split at h
    · rename_i hc
      obtain ⟨h1, h2⟩ := garr_i ho
      subst hc
      exact ⟨⟨b, x, h1, h2⟩, h⟩
    · cases h
  · cases h
section LMIR
variable {Γ : GG} {E : gE} {own : String} {p : Program} {l : Launch} {e : Env} {R : Room} {s : State} {m : MethodId} {args : Array Value} {below : List Frame} {meth : Method} {c : Code} {H : Heap} {locs : List Loc} {cells slots : Nat} {Q : State → Prop}
variable {cc : ByteArray} {nL pc : Nat} {ls : Array Slot} {rest : List Value} {ret : Option FieldType} {S0 S : GS}
theorem g_ldcM (F : gFx Γ E own p m c cc nL s args meth ret) {index : Nat} (hlink : Cond.classLink own index "[Ljava/lang/Object;" ∈ lw_all) (hdg : decode cc pc = .ok (.ldc index, 2)) (k : W p l e R s m args below meth c H locs cells slots Q (F0 m (pc + 2) ls (va_rf (E.2.2 6) :: rest))) : W p l e R s m args below meth c H locs cells slots Q (F0 m pc ls rest) := by
  obtain ⟨⟨hx, hb, hml, hown, hts⟩, -, -, -, -, -, -, ⟨mi, h6, hMi⟩, -⟩ := F
  rw [h6] at k
  exact va_ldcM hx hb hown (hts _ hlink) hMi hdg k
theorem g_getC (F : gFx Γ E own p m c cc nL s args meth ret) (hM : GH Γ E S0 s.heap S H locs) {r : Option Nat} (hg : ∃ b x, r = some b ∧ S.1 b = some (.inl (2, x))) (hls : ls.size = nL) {index : Nat} (hlink : Cond.methodLink own index ⟨"java/lang/Object", "getClass", "()Ljava/lang/Class;"⟩ ∈ lw_all) (hframes : 1 ≤ R.frames) (hlocals : (rest.map fun v => v.category).sum + 14 ≤ R.locals) (hdg : decode cc pc = .ok (.invokevirtual index, 3)) (k : W p l e R s m args below meth c H locs cells slots Q (F0 m (pc + 3) ls (va_rf (E.2.2 6) :: rest))) : W p l e R s m args below meth c H locs cells slots Q (F0 m pc ls (va_rf r :: rest)) := by
  obtain ⟨⟨hx, hb, hml, hown, hts⟩, -, -, ⟨hK, hN⟩, -, -, -, ⟨mi, h6, hMi⟩, hDc⟩ := F
  obtain ⟨b, x, rfl, hbS⟩ := hg
  rw [h6] at k
  have hvm0 : (vp_cell (Γ.2 2) x).vm = .none := by
    obtain ⟨n, f | f | f | f | f⟩ := x <;> rfl
  have hcl0 : (vp_cell (Γ.2 2) x).cls = Γ.2 2 := by
    obtain ⟨n, f | f | f | f | f⟩ := x <;> rfl
  have hcH : H[b]? = some (vp_cell (Γ.2 2) x) := hM.1.1 b _ hbS
  have hnm : s.vm.findClass "[Ljava/lang/Object;" = some (Γ.2 2) := va_nmO (hK.2 2 _ (gtys_at Γ (by decide))).2 (by decide +kernel)
  exact va_getC hx hb (by rw [hml]; exact hls.symm) hown (hts _ hlink) (va_Dc.use hDc) (hts _ q2762) (hts _ q986) (hts _ q1017) hMi ⟨_, hcH, by rw [hvm0]; rfl, by rw [hcl0]; exact hnm⟩ hframes hlocals hdg k
end LMIR
