/-! System.arraycopy over the component's heap -/
section GCOPY
variable {Γ : GG} {E : gE} {own : String} {p : Program} {l : Launch} {e : Env} {R : Room} {s : State} {m : MethodId} {args : Array Value} {below : List Frame} {meth : Method} {c : Code} {H : Heap} {locs : List Loc} {cells slots : Nat} {Q : State → Prop}
variable {cc : ByteArray} {nL pc : Nat} {ls : Array Slot} {rest : List Value} {ret : Option FieldType} {S0 S : GS}
theorem g_nn (z : Int32) (hz : ¬ z < 0) : z.toInt = (z.toNatClampNeg : Int) := by
  have hz0 : (0 : Int) ≤ z.toInt := by
    have := Int32.not_lt.mp hz
    simpa using Int32.le_iff_toInt_le.mp this
  show z.toInt = ((z.toInt.toNat : Nat) : Int)
  omega
theorem g_ends (hM : GH Γ E S0 s.heap S H locs) {a : Nat} {e' : GE} {cell : Cell} {L : List Loc} (ha : S.1 a ≠ none) (hE : E.1 ≤ a) (hl : a < H.size) (he : va_at Γ.1 gcl (a, gge Γ e') (H.setIfInBounds a cell)) (hL : ∀ q ∈ L, q.base = a) : GH Γ E S0 s.heap (gup S a e') (H.setIfInBounds a cell) (locs ++ L) := by
  have oq : ∀ q : Nat, q ≠ a → (H.setIfInBounds a cell)[q]? = H[q]? := fun q hq => by simp [Array.getElem?_setIfInBounds, Ne.symm hq]
  have h := hM.put (k := 0) ha hE he (by simp) oq
  refine ⟨h.1, h.2.1, ⟨h.2.2.1.1, h.2.2.1.2.1, fun q hq => ?_⟩, h.2.2.2⟩
  rcases List.mem_append.mp hq with h1 | h1
  · exact hM.2.2.1.2.2 q h1
  · rw [hL q h1]
    exact hM.2.1 a ha hE
theorem g_copy (F : gFx Γ E own p m c cc nL s args meth ret) (hM : GH Γ E S0 s.heap S H locs) {src dst : Option Nat} {sp dp n : Int32} {S' : GS} (hg : gCp E S src sp dst dp n S') (hls : ls.size = nL) {index : Nat} (hlink : Cond.methodLink own index arraycopyName ∈ lw_all) (hframes : 1 ≤ R.frames) (hlocals : (rest.map fun v => v.category).sum + (nativeFrameWords "java/lang/System" "arraycopy" 5 + 11) ≤ R.locals) (hdg : decode cc pc = .ok (.invokestatic index, 3)) (kk : ∀ (H1 : Heap) (locs1 : List Loc), GH Γ E S0 s.heap S' H1 locs1 → W p l e R s m args below meth c H1 locs1 cells slots Q (F0 m (pc + 3) ls rest)) : W p l e R s m args below meth c H locs cells slots Q (F0 m pc ls (.int n :: .int dp :: va_rf dst :: .int sp :: va_rf src :: rest)) := by
  obtain ⟨⟨hx, hb, hml, hown, hts⟩, -, -, ⟨hK, hN⟩, -⟩ := F
  obtain ⟨a0, a, κ, n0, n1, x, y, z, rfl, rfl, ha0, ha, hE, h1, h2, h3, h4, h5, hok, rfl⟩ := hg
  have hc0 : H[a0]? = some (vp_cell (Γ.2 κ) (n0, x)) := hM.1.1 a0 _ ha0
  have hc1 : H[a]? = some (vp_cell (Γ.2 κ) (n1, y)) := hM.1.1 a _ ha
  have hl : a < H.size := (Array.getElem?_eq_some_iff.mp hc1).1
  intro T hT X
  unfold gok at hok
  split at hok
  · rename_i f g
    obtain ⟨hκ, rfl⟩ := hok
    have hκ5 : κ < 5 := by omega
    have hfit : ∀ i, i < n.toNatClampNeg → fits (gty κ) (.int (f (sp.toNatClampNeg + i))) = true := by
      intro i hi
      rcases hκ with rfl | ⟨rfl, hq⟩
      · rfl
      · exact gfit_B (hq i hi)
    have hprim : refKind (gty κ) = false := by rcases hκ with rfl | ⟨rfl, -⟩ <;> rfl
    obtain ⟨-, k0, hk0, cm0, hkk0⟩ := (hK.2 κ _ (gtys_at Γ hκ5)).1 n0 (fun j => .int (f j))
    obtain ⟨-, k1, hk1, cm1, hkk1⟩ := (hK.2 κ _ (gtys_at Γ hκ5)).1 n1 (fun j => .int (g j))
    obtain ⟨vm', X', step⟩ := X.arraycopy hx hown (hts _ hlink) (hts _ q608) (hts _ q607) (hts _ q131) (src := a0) (dst := a) (cs := vp_cell (Γ.2 κ) (n0, .inl f)) (cd := vp_cell (Γ.2 κ) (n1, .inl g)) (srcPos := sp) (destPos := dp) (n := n) (by rw [hT]; exact hc0) (by rw [hT]; exact hc1)
      (fun _ h => by cases h) (fun _ h => by cases h) (fun h => by cases h) (fun h => by cases h) hk0 hk1 hkk0 hkk1 (by simp [hprim]) h1 h2 h3
      (by rw [g_nn sp h1, g_nn n h3]; show ¬ _ > ((arrV (Γ.2 κ) n0 (fun j => .int (f j))).slots.size : Int); rw [arrV_size]; omega)
      (by rw [g_nn dp h2, g_nn n h3]; show ¬ _ > ((arrV (Γ.2 κ) n1 (fun j => .int (g j))).slots.size : Int); rw [arrV_size]; omega)
      (fun vm₁ _ i hi => by
        have e : (vp_cell (Γ.2 κ) (n0, .inl f)).slots.getD (sp.toNatClampNeg + i) .null = .int (f (sp.toNatClampNeg + i)) := by
          show (arrV (Γ.2 κ) n0 (fun j => .int (f j))).slots.getD _ _ = _
          rw [Array.getD_eq_getD_getElem?, arrV_read _ _ (by omega)]
          rfl
        refine ⟨?_, ?_⟩
        · rw [e]
          exact hfit i hi
        · rw [e]
          exact trivial)
      (g := F0 m pc ls (.int n :: .int dp :: .ref a :: .int sp :: .ref a0 :: rest)) rfl (by rw [hml]; exact hls) (rest := rest) rfl (by rw [hb]; exact hdg) hframes (by show 2 * 0 + _ + _ ≤ _; omega)
    have e1 : copied (vp_cell (Γ.2 κ) (n0, .inl f)) (vp_cell (Γ.2 κ) (n1, .inl g)) sp dp n = vp_cell (Γ.2 κ) (n1, .inl (va_cpy f g sp.toNatClampNeg dp.toNatClampNeg n.toNatClampNeg)) := va_copied (fun z => .int z) (Γ.2 κ) (Γ.2 κ) f g h4
    rw [e1] at X' step
    have hheap : ((T.setVm vm').setCell a (vp_cell (Γ.2 κ) (n1, .inl (va_cpy f g sp.toNatClampNeg dp.toNatClampNeg n.toNatClampNeg)))).heap = H.setIfInBounds a (vp_cell (Γ.2 κ) (n1, .inl (va_cpy f g sp.toNatClampNeg dp.toNatClampNeg n.toNatClampNeg))) := by rw [← hT]; rfl
    obtain ⟨t, a1, b1⟩ := kk _ _ (g_ends hM (by rw [ha]; simp) hE hl (show (H.setIfInBounds a _)[a]? = some _ by simp [Array.getElem?_setIfInBounds, hl]) (fun q hq => by
      obtain ⟨z, -, hz⟩ := List.mem_map.mp hq
      rw [← hz])) _ hheap X'
    exact ⟨t, step t a1, b1⟩
  · rename_i f g
    obtain ⟨rfl, hel, rfl⟩ := hok
    obtain ⟨-, k0, hk0, cm0, hkk0⟩ := (hK.2 2 _ (gtys_at Γ (by decide))).1 n0 (fun j => va_rf (f j))
    obtain ⟨-, k1, hk1, cm1, hkk1⟩ := (hK.2 2 _ (gtys_at Γ (by decide))).1 n1 (fun j => va_rf (g j))
    obtain ⟨vm', X', step⟩ := X.arraycopy hx hown (hts _ hlink) (hts _ q608) (hts _ q607) (hts _ q131) (src := a0) (dst := a) (cs := vp_cell (Γ.2 2) (n0, .inr (.inr (.inr (.inr f))))) (cd := vp_cell (Γ.2 2) (n1, .inr (.inr (.inr (.inr g))))) (srcPos := sp) (destPos := dp) (n := n) (by rw [hT]; exact hc0) (by rw [hT]; exact hc1)
      (fun _ h => by cases h) (fun _ h => by cases h) (fun h => by cases h) (fun h => by cases h) hk0 hk1 hkk0 hkk1 rfl h1 h2 h3
      (by rw [g_nn sp h1, g_nn n h3]; show ¬ _ > ((arrV (Γ.2 2) n0 (fun j => va_rf (f j))).slots.size : Int); rw [arrV_size]; omega)
      (by rw [g_nn dp h2, g_nn n h3]; show ¬ _ > ((arrV (Γ.2 2) n1 (fun j => va_rf (g j))).slots.size : Int); rw [arrV_size]; omega)
      (fun vm₁ hal i hi => by
        have e : (vp_cell (Γ.2 2) (n0, .inr (.inr (.inr (.inr f))))).slots.getD (sp.toNatClampNeg + i) .null = va_rf (f (sp.toNatClampNeg + i)) := by
          show (arrV (Γ.2 2) n0 (fun j => va_rf (f j))).slots.getD _ _ = _
          rw [Array.getD_eq_getD_getElem?, arrV_read _ _ (by omega)]
          rfl
        rw [e]
        cases hy : f (sp.toNatClampNeg + i) with
        | none => exact ⟨rfl, trivial⟩
        | some y =>
          obtain ⟨o, ho⟩ := hel i hi y hy
          obtain ⟨rr, hc, cellV, g1, g2, g3, -⟩ := hM.1.1 y (.inr (o.1, o.2)) ho
          have hcls := (hK.1 o.1 rr hc).2
          have hra : va_RA s (Γ.2 2) (.object "java/lang/Object") := (hK.2 2 _ (gtys_at Γ (by decide))).2
          obtain ⟨kA, comp, r1, r2, r3, -⟩ := hra
          cases hk1.symm.trans r1
          cases hkk1.symm.trans r2
          obtain ⟨kC, hkC, -⟩ := hcls.2
          obtain ⟨kE, hkE, -⟩ := Vm.findClass_spec r3
          obtain ⟨kC', hkC', -⟩ := hal.2.2 _ _ hkC
          obtain ⟨kE', hkE', -⟩ := hal.2.2 _ _ hkE
          refine ⟨rfl, cellV, (show T.heap[y]? = some cellV by rw [hT]; exact g1), (fun q h => by rw [g3] at h; cases h), ⟨kC', by rw [g2]; exact hkC'⟩, ?_, ?_⟩
          · exact ⟨kE', hkE'⟩
          · show vm₁.assignable _ _ = true
            rw [hal.assignable, g2]
            exact g_asg hK hN hc (κ := 2) rfl rfl r3)
      (g := F0 m pc ls (.int n :: .int dp :: .ref a :: .int sp :: .ref a0 :: rest)) rfl (by rw [hml]; exact hls) (rest := rest) rfl (by rw [hb]; exact hdg) hframes (by show 2 * 0 + _ + _ ≤ _; omega)
    have e1 : copied (vp_cell (Γ.2 2) (n0, .inr (.inr (.inr (.inr f))))) (vp_cell (Γ.2 2) (n1, .inr (.inr (.inr (.inr g))))) sp dp n = vp_cell (Γ.2 2) (n1, .inr (.inr (.inr (.inr (va_cpy f g sp.toNatClampNeg dp.toNatClampNeg n.toNatClampNeg))))) := by
      rw [vp_cell_q, vp_cell_q, vp_cell_q]
      exact va_copied (fun z => va_rf z) (Γ.2 2) (Γ.2 2) f g h4
    rw [e1] at X' step
    have hheap : ((T.setVm vm').setCell a (vp_cell (Γ.2 2) (n1, .inr (.inr (.inr (.inr (va_cpy f g sp.toNatClampNeg dp.toNatClampNeg n.toNatClampNeg))))))).heap = H.setIfInBounds a (vp_cell (Γ.2 2) (n1, .inr (.inr (.inr (.inr (va_cpy f g sp.toNatClampNeg dp.toNatClampNeg n.toNatClampNeg)))))) := by rw [← hT]; rfl
    obtain ⟨t, a1, b1⟩ := kk _ _ (g_ends hM (by rw [ha]; simp) hE hl (show (H.setIfInBounds a _)[a]? = some _ by simp [Array.getElem?_setIfInBounds, hl]) (fun q hq => by
      obtain ⟨z, -, hz⟩ := List.mem_map.mp hq
      rw [← hz])) _ hheap X'
    exact ⟨t, step t a1, b1⟩
  · exact hok.elim
end GCOPY
