/-! Rows of the machine over the component's heap: arrays, new cells, references -/
section GARR
variable {Γ : GG} {E : gE} {own : String} {p : Program} {l : Launch} {e : Env} {R : Room} {s : State} {m : MethodId} {args : Array Value} {below : List Frame} {meth : Method} {c : Code} {H : Heap} {locs : List Loc} {cells slots : Nat} {Q : State → Prop}
variable {cc : ByteArray} {nL pc : Nat} {ls : Array Slot} {rest : List Value} {ret : Option FieldType} {S0 S : GS}
theorem g_iald (F : gFx Γ E own p m c cc nL s args meth ret) (hM : GH Γ E S0 s.heap S H locs) {r : Option Nat} {i v : Int32} (hg : ∃ a n f, r = some a ∧ S.1 a = some (.inl (1, n, .inl f)) ∧ vp_in i n ∧ v = f i.toNatClampNeg) (hdg : decode cc pc = .ok (.iaload, 1)) (kk : W p l e R s m args below meth c H locs cells slots Q (F0 m (pc + 1) ls (.int v :: rest))) : W p l e R s m args below meth c H locs cells slots Q (F0 m pc ls (.int i :: va_rf r :: rest)) := by
  obtain ⟨⟨hx, hb, -, hown, hts⟩, -, -, ⟨hK, hN⟩, -⟩ := F
  obtain ⟨a, n, f, rfl, ha, hin, rfl⟩ := hg
  exact va_iald hx hb hK (hM.1.one ha) 0 1 rfl (gtys_at Γ (by decide)) hin hdg kk
theorem g_bald (F : gFx Γ E own p m c cc nL s args meth ret) (hM : GH Γ E S0 s.heap S H locs) {r : Option Nat} {i v : Int32} (hg : ∃ a n f, r = some a ∧ S.1 a = some (.inl (0, n, .inl f)) ∧ vp_in i n ∧ v = f i.toNatClampNeg) (hdg : decode cc pc = .ok (.baload, 1)) (kk : W p l e R s m args below meth c H locs cells slots Q (F0 m (pc + 1) ls (.int v :: rest))) : W p l e R s m args below meth c H locs cells slots Q (F0 m pc ls (.int i :: va_rf r :: rest)) := by
  obtain ⟨⟨hx, hb, -, hown, hts⟩, -, -, ⟨hK, hN⟩, -⟩ := F
  obtain ⟨a, n, f, rfl, ha, hin, rfl⟩ := hg
  exact va_bald hx hb hK (hM.1.one ha) 0 0 rfl (gtys_at Γ (by decide)) hin hdg kk
theorem g_aald (F : gFx Γ E own p m c cc nL s args meth ret) (hM : GH Γ E S0 s.heap S H locs) {r v : Option Nat} {i : Int32} (hg : ∃ a κ n f, r = some a ∧ S.1 a = some (.inl (κ, n, .inr (.inr (.inr (.inr f))))) ∧ 2 ≤ κ ∧ κ < 5 ∧ vp_in i n ∧ v = f i.toNatClampNeg) (hdg : decode cc pc = .ok (.aaload, 1)) (kk : W p l e R s m args below meth c H locs cells slots Q (F0 m (pc + 1) ls (va_rf v :: rest))) : W p l e R s m args below meth c H locs cells slots Q (F0 m pc ls (.int i :: va_rf r :: rest)) := by
  obtain ⟨⟨hx, hb, -, hown, hts⟩, -, -, ⟨hK, hN⟩, -⟩ := F
  obtain ⟨a, κ, n, f, rfl, ha, h2, h5, hin, rfl⟩ := hg
  have ho : ∃ C, gty κ = .object C := by
    match κ, h2, h5 with
    | 2, _, _ => exact ⟨_, rfl⟩
    | 3, _, _ => exact ⟨_, rfl⟩
    | 4, _, _ => exact ⟨_, rfl⟩
  obtain ⟨C, hC⟩ := ho
  exact va_aldq (C := C) hx hb hK (hM.1.one ha) 0 κ rfl (by rw [gtys_at Γ h5, hC]) hin hdg kk
theorem g_alen (F : gFx Γ E own p m c cc nL s args meth ret) (hM : GH Γ E S0 s.heap S H locs) {r : Option Nat} {v : Int32} (hg : ∃ a κ x, r = some a ∧ S.1 a = some (.inl (κ, x)) ∧ κ < 5 ∧ v = Int32.ofNat x.1) (hdg : decode cc pc = .ok (.arraylength, 1)) (kk : W p l e R s m args below meth c H locs cells slots Q (F0 m (pc + 1) ls (.int v :: rest))) : W p l e R s m args below meth c H locs cells slots Q (F0 m pc ls (va_rf r :: rest)) := by
  obtain ⟨⟨hx, hb, -, hown, hts⟩, -, -, ⟨hK, hN⟩, -⟩ := F
  obtain ⟨a, κ, x, rfl, ha, h5, rfl⟩ := hg
  exact va_alen hx hb hK (hM.1.one ha) 0 κ rfl (gtys_at Γ h5) rfl hdg kk
theorem g_iast (F : gFx Γ E own p m c cc nL s args meth ret) (hM : GH Γ E S0 s.heap S H locs) {r : Option Nat} {i v : Int32} {S' : GS} (hg : ∃ a n f, r = some a ∧ S.1 a = some (.inl (1, n, .inl f)) ∧ vp_in i n ∧ E.1 ≤ a ∧ S' = gup S a (.inl (1, n, .inl (upd f i.toNatClampNeg v)))) (hdg : decode cc pc = .ok (.iastore, 1)) (kk : ∀ (H1 : Heap) (locs1 : List Loc), GH Γ E S0 s.heap S' H1 locs1 → W p l e R s m args below meth c H1 locs1 cells slots Q (F0 m (pc + 1) ls rest)) : W p l e R s m args below meth c H locs cells slots Q (F0 m pc ls (.int v :: .int i :: va_rf r :: rest)) := by
  obtain ⟨⟨hx, hb, -, hown, hts⟩, -, -, ⟨hK, hN⟩, -⟩ := F
  obtain ⟨a, n, f, rfl, ha, hin, hE, rfl⟩ := hg
  have hP : H[a]? = some (vp_cell (Γ.2 1) (n, .inl f)) := hM.1.1 a _ ha
  refine W.iast hx hb hP ((hK.2 1 _ (gtys_at Γ (by decide))).1 n (fun j => .int (f j))) (fun q => by cases q) (by show ¬ (i < 0 ∨ (arrV _ _ _).slots.size ≤ _); rw [arrV_size]; exact hin) rfl rfl hdg fun H1 e z oq => ?_
  refine kk H1 _ (hM.put (by rw [ha]; simp) hE ?_ z oq)
  show H1[a]? = some (vp_cell _ _)
  rw [e, vp_cell_i, vp_cell_i, arrV_store]
  congr 2
  funext q
  by_cases hq : q = i.toNatClampNeg
  · subst hq; simp [updV, upd]
  · simp [updV, upd, hq]
theorem g_bast (F : gFx Γ E own p m c cc nL s args meth ret) (hM : GH Γ E S0 s.heap S H locs) {r : Option Nat} {i v : Int32} {S' : GS} (hg : ∃ a n f, r = some a ∧ S.1 a = some (.inl (0, n, .inl f)) ∧ vp_in i n ∧ E.1 ≤ a ∧ S' = gup S a (.inl (0, n, .inl (upd f i.toNatClampNeg (vp_nar .byte v))))) (hdg : decode cc pc = .ok (.bastore, 1)) (kk : ∀ (H1 : Heap) (locs1 : List Loc), GH Γ E S0 s.heap S' H1 locs1 → W p l e R s m args below meth c H1 locs1 cells slots Q (F0 m (pc + 1) ls rest)) : W p l e R s m args below meth c H locs cells slots Q (F0 m pc ls (.int v :: .int i :: va_rf r :: rest)) := by
  obtain ⟨⟨hx, hb, -, hown, hts⟩, -, -, ⟨hK, hN⟩, -⟩ := F
  obtain ⟨a, n, f, rfl, ha, hin, hE, rfl⟩ := hg
  have hP : H[a]? = some (vp_cell (Γ.2 0) (n, .inl f)) := hM.1.1 a _ ha
  refine W.bast hx hb hP ((hK.2 0 _ (gtys_at Γ (by decide))).1 n (fun j => .int (f j))) (fun q => by cases q) (by show ¬ (i < 0 ∨ (arrV _ _ _).slots.size ≤ _); rw [arrV_size]; exact hin) rfl rfl hdg fun H1 e z oq => ?_
  refine kk H1 _ (hM.put (by rw [ha]; simp) hE ?_ z oq)
  show H1[a]? = some (vp_cell _ _)
  rw [e, vp_cell_i, vp_cell_i, arrV_store]
  congr 2
  funext q
  by_cases hq : q = i.toNatClampNeg
  · subst hq; simp [updV, upd, vp_nar]; try rfl
  · simp [updV, upd, hq]
/-- the class of number ci may be held by an array of kind κ -/
theorem g_asg {κ ci : Nat} {rr : vw_C} {C : String} (hK : va_K Γ.1 gcl (gtys Γ) s) (hN : GNw s) (hc : gcl[ci]? = some rr) (hm : gmay κ ci = true) (hC : gty κ = .object C) {comp : ClassId} (hcomp : s.vm.findClass C = some comp) : s.vm.assignable (Γ.1.1 ci) comp = true := by
  have hcls := (hK.1 ci rr hc).2
  unfold gmay at hm
  simp only [Bool.or_eq_true, Bool.and_eq_true, beq_iff_eq] at hm
  rcases hm with (rfl | ⟨rfl, rfl⟩) | ⟨rfl, rfl⟩
  · cases hC
    obtain ⟨c0, t1, f1, f2, f3⟩ := Cond.castable_spec (va_Nw.use (A := #[]) rfl (hN _ (gcastO hc) rfl))
    cases hcls.1.symm.trans f1
    cases hcomp.symm.trans f2
    exact f3
  · cases hC
    cases hc
    cases hcls.1.symm.trans hcomp
    exact va_assign hcls
  · cases hC
    cases hc
    cases hcls.1.symm.trans hcomp
    exact va_assign hcls
theorem g_aast (F : gFx Γ E own p m c cc nL s args meth ret) (hM : GH Γ E S0 s.heap S H locs) {r v : Option Nat} {i : Int32} {S' : GS} (hg : ∃ a κ n f v' ci fs, r = some a ∧ S.1 a = some (.inl (κ, n, .inr (.inr (.inr (.inr f))))) ∧ v = some v' ∧ S.1 v' = some (.inr (ci, fs)) ∧ gmay κ ci = true ∧ vp_in i n ∧ E.1 ≤ a ∧ S' = gup S a (.inl (κ, n, .inr (.inr (.inr (.inr (va_up f i.toNatClampNeg v))))))) (hdg : decode cc pc = .ok (.aastore, 1)) (kk : ∀ (H1 : Heap) (locs1 : List Loc), GH Γ E S0 s.heap S' H1 locs1 → W p l e R s m args below meth c H1 locs1 cells slots Q (F0 m (pc + 1) ls rest)) : W p l e R s m args below meth c H locs cells slots Q (F0 m pc ls (va_rf v :: .int i :: va_rf r :: rest)) := by
  obtain ⟨⟨hx, hb, -, hown, hts⟩, -, -, ⟨hK, hN⟩, -⟩ := F
  obtain ⟨a, κ, n, f, v', ci, fs, rfl, ha, rfl, hv, hm, hin, hE, rfl⟩ := hg
  have hlt : i.toNatClampNeg < n := Nat.not_le.mp fun q => hin (Or.inr q)
  have h0 : ¬ i < 0 := fun q => hin (Or.inl q)
  have hκ : 2 ≤ κ ∧ κ < 5 := by
    unfold gmay at hm
    simp only [Bool.or_eq_true, Bool.and_eq_true, beq_iff_eq] at hm
    omega
  have ho : ∃ C, gty κ = .object C := by
    match κ, hκ with
    | 2, _ => exact ⟨_, rfl⟩
    | 3, _ => exact ⟨_, rfl⟩
    | 4, _ => exact ⟨_, rfl⟩
  obtain ⟨C, hC⟩ := ho
  have hP : H[a]? = some (vp_cell (Γ.2 κ) (n, .inr (.inr (.inr (.inr f))))) := hM.1.1 a _ ha
  obtain ⟨rr, hc, cellV, g1, g2, g3, -⟩ := hM.1.1 v' _ hv
  have hcls := (hK.1 ci rr hc).2
  have hra := (hK.2 κ _ (gtys_at Γ hκ.2)).2
  rw [hC] at hra
  obtain ⟨kA, comp, k1, k2, k3, -⟩ := hra
  obtain ⟨kE, hkE, -⟩ := Vm.findClass_spec k3
  obtain ⟨kC, hkC, -⟩ := hcls.2
  have hasg := g_asg hK hN hc hm hC k3
  refine W.aast hx hb hP (fun q h => by cases h) (fun h => by cases h) k1 k2 rfl hkE ⟨h0, by show _ < (arrV _ _ _).slots.size; rw [arrV_size]; exact hlt⟩ g1 (fun q h => by rw [g3] at h; cases h) (by rw [g2]; exact hkC) (by rw [g2]; exact hasg) rfl rfl hdg fun H1 e z oq => ?_
  refine kk H1 _ (hM.put (by rw [ha]; simp) hE ?_ z oq)
  show H1[a]? = some (vp_cell _ _)
  rw [e, vp_cell_q, vp_cell_q, arrV_store]
  congr 2
  funext q
  by_cases hq : q = i.toNatClampNeg
  · subst hq; simp [updV, va_up, va_rf]
  · simp [updV, va_up, hq]
theorem g_new (F : gFx Γ E own p m c cc nL s args meth ret) (hM : GH Γ E S0 s.heap S H locs) {ci : Nat} {rr : vw_C} {index a : Nat} {S' : GS} (ha : a = S.2.1) (hS' : S' = gpush S (.inr (ci, gdf ci)) (gdf ci).length) (hc : gcl[ci]? = some rr) (hcl : Cond.classLink own index rr.1 ∈ lw_all) (hinst : Cond.instantiable rr.1 rr.2.2 ∈ lw_all) (hini : Cond.initialized rr.1 ∈ lw_all) (hcells : cells + 1 ≤ R.cells) (hslots : slots + (gdf ci).length ≤ R.slots) (hdg : decode cc pc = .ok (.new index, 3)) (kk : ∀ H1 : Heap, GH Γ E S0 s.heap S' H1 locs → W p l e R s m args below meth c H1 locs (cells + 1) (slots + (gdf ci).length) Q (F0 m (pc + 3) ls (va_rf (some a) :: rest))) : W p l e R s m args below meth c H locs cells slots Q (F0 m pc ls rest) := by
  obtain ⟨⟨hx, hb, -, hown, hts⟩, -, -, ⟨hK, hN⟩, -⟩ := F
  obtain ⟨hin, ⟨ty0, hty, hfs⟩, hnm, -, hlen, -⟩ := gcl_ok hc
  have hKn := hK.1 ci _ hc
  subst ha; subst hS'
  rw [hlen] at hslots
  rw [hlen] at kk
  refine W.newcK hx hb hown (hts _ hcl) (hts _ hinst) (hts _ hini) rfl hdg hcells hslots hKn.2.1 rfl fun H1 kC hkC e1 z1 o1 => ?_
  have hsz : S.2.1 = H.size := hM.1.2.1.symm
  rw [hsz] at kk
  refine kk H1 (hM.push ?_ z1 o1)
  exact ⟨_, hc, (u_born ty0 hts hin hKn hkC e1 hty).to hfs⟩
theorem g_newa (F : gFx Γ E own p m c cc nL s args meth ret) (hM : GH Γ E S0 s.heap S H locs) {κ a : Nat} {atype : ArrayType} {n : Int32} {S' : GS} (hκ : κ < 2) (hty : newarray.typeOf atype = gty κ) (harr : Cond.arrayClass (newarray.typeOf atype) ∈ lw_all) (ha : a = S.2.1) (hS' : S' = gpush S (.inl (κ, n.toNatClampNeg, gdfa κ)) n.toNatClampNeg) (hn : ¬ n < 0) (hn2 : n.toNatClampNeg ≤ 65536) (hcells : cells + 1 ≤ R.cells) (hslots : slots + n.toNatClampNeg ≤ R.slots) (hdg : decode cc pc = .ok (.newarray atype, 2)) (kk : ∀ H1 : Heap, GH Γ E S0 s.heap S' H1 locs → W p l e R s m args below meth c H1 locs (cells + 1) (slots + n.toNatClampNeg) Q (F0 m (pc + 2) ls (va_rf (some a) :: rest))) : W p l e R s m args below meth c H locs cells slots Q (F0 m pc ls (.int n :: rest)) := by
  obtain ⟨⟨hx, hb, -, hown, hts⟩, -, -, ⟨hK, hN⟩, -⟩ := F
  subst ha; subst hS'
  have hbytes : n.toNatClampNeg * componentBytes (newarray.typeOf atype) ≤ 536870912 := by
    have : componentBytes (newarray.typeOf atype) ≤ 8 := by cases atype <;> decide
    calc n.toNatClampNeg * componentBytes (newarray.typeOf atype) ≤ 65536 * 8 := Nat.mul_le_mul hn2 this
      _ ≤ 536870912 := by decide
  refine va_newaK hx hb (hts _ harr) rfl hdg rfl hn rfl hbytes hcells hslots rfl fun H1 cA e1 z1 o1 hAr hNm => ?_
  have hsz : S.2.1 = H.size := hM.1.2.1.symm
  rw [hsz] at kk
  have hcA : cA = Γ.2 κ := by
    have h1 := (hK.2 κ _ (gtys_at Γ (Nat.lt_of_lt_of_le hκ (by decide)))).2
    rw [hty] at hNm
    have h2 : s.vm.findClass ("[" ++ (gty κ).toString) = some (Γ.2 κ) := by
      match κ, hκ, h1 with
      | 0, _, h1 => exact h1
      | 1, _, h1 => exact h1
    exact Option.some.inj (hNm.symm.trans h2)
  refine kk H1 (hM.push ?_ z1 o1)
  show H1[H.size]? = some (vp_cell (Γ.2 κ) (n.toNatClampNeg, gdfa κ))
  rw [e1, hcA, hty]
  match κ, hκ with
  | 0, _ => rfl
  | 1, _ => rfl
theorem g_newq (F : gFx Γ E own p m c cc nL s args meth ret) (hM : GH Γ E S0 s.heap S H locs) {κ a index : Nat} {C : String} {n : Int32} {S' : GS} (hκ : 2 ≤ κ ∧ κ < 5) (hC : gty κ = .object C) (hclink : Cond.classLink own index C ∈ lw_all) (hover : Cond.arrayOver (.object C) ∈ lw_tbl) (ha : a = S.2.1) (hS' : S' = gpush S (.inl (κ, n.toNatClampNeg, gdfa κ)) n.toNatClampNeg) (hn : ¬ n < 0) (hn2 : n.toNatClampNeg ≤ 65536) (hcells : cells + 1 ≤ R.cells) (hslots : slots + n.toNatClampNeg ≤ R.slots) (hdg : decode cc pc = .ok (.anewarray index, 3)) (kk : ∀ H1 : Heap, GH Γ E S0 s.heap S' H1 locs → W p l e R s m args below meth c H1 locs (cells + 1) (slots + n.toNatClampNeg) Q (F0 m (pc + 3) ls (va_rf (some a) :: rest))) : W p l e R s m args below meth c H locs cells slots Q (F0 m pc ls (.int n :: rest)) := by
  obtain ⟨⟨hx, hb, -, hown, hts⟩, -, -, ⟨hK, hN⟩, -⟩ := F
  subst ha; subst hS'
  have hover' : va_AO C s := hN _ hover rfl
  refine W.anew hx hb hown (hts _ hclink) (va_AO.use hover') rfl hdg rfl hn (by omega) hcells hslots fun cA kA comp f1 f2 f3 f4 => ?_
  have hsz : S.2.1 = H.size := hM.1.2.1.symm
  rw [hsz] at kk
  have h1 := (hK.2 κ _ (gtys_at Γ hκ.2)).2
  rw [hC] at h1
  obtain ⟨kA', comp', -, -, -, h4⟩ := h1
  have hcA : cA = Γ.2 κ := Option.some.inj (f1.symm.trans h4)
  refine kk _ (hM.push ?_ (by rw [Array.size_push]) (fun q hq => by rw [Array.getElem?_push, if_neg (Nat.ne_of_lt hq)]))
  show (H.push _)[H.size]? = some (vp_cell (Γ.2 κ) (n.toNatClampNeg, gdfa κ))
  rw [Array.getElem?_push_size, hcA]
  have hd : gdfa κ = .inr (.inr (.inr (.inr (fun _ => none)))) := by unfold gdfa; rw [if_neg (by omega)]
  rw [hd, vp_cell_q]
  show _ = some (arrV (Γ.2 κ) n.toNatClampNeg (fun _ => Value.null))
  rw [arrV_new]
theorem g_aload {i : Nat} {r : Option Nat} (hx : p.tables.exec = Jvm.exec) (hb : c.code = cc) (hdg : decode cc pc = .ok (.aload i, 2)) (hl : ls[i]? = some (.val (va_rf r))) (k : W p l e R s m args below meth c H locs cells slots Q (F0 m (pc + 2) ls (va_rf r :: rest))) : W p l e R s m args below meth c H locs cells slots Q (F0 m pc ls rest) := by
  cases r with
  | none => exact lv_aloadN hx hb hdg hl k
  | some a => exact lv_aload hx hb hdg hl k
theorem g_aload_n {j : Fin 4} {i : Nat} {r : Option Nat} (hx : p.tables.exec = Jvm.exec) (hb : c.code = cc) (hdg : decode cc pc = .ok (.aload_n j, 1)) (hi : (j : Nat) = i) (hl : ls[i]? = some (.val (va_rf r))) (k : W p l e R s m args below meth c H locs cells slots Q (F0 m (pc + 1) ls (va_rf r :: rest))) : W p l e R s m args below meth c H locs cells slots Q (F0 m pc ls rest) := by
  cases r with
  | none => exact lv_aload_nN hx hb hdg hi hl k
  | some a => exact lv_aload_n hx hb hdg hi hl k
theorem g_astore {i nL : Nat} {r : Option Nat} {lv lv' : List (Nat × Value)} (hx : p.tables.exec = Jvm.exec) (hb : c.code = cc) (hdg : decode cc pc = .ok (.astore i, 2)) (h : lv_has ls nL lv) (hn : i < nL) (hl : (i, va_rf r) :: lv.filter (fun q => !(q.1 == i) && !(q.1 + 1 == i && q.2.category == 2)) = lv')
    (kk : ∀ ls' : Array Slot, lv_has ls' nL lv' → W p l e R s m args below meth c H locs cells slots Q (F0 m (pc + 2) ls' rest)) : W p l e R s m args below meth c H locs cells slots Q (F0 m pc ls (va_rf r :: rest)) := by
  cases r with
  | none => exact lv_astoreN hx hb hdg h hn hl kk
  | some a => exact lv_astore hx hb hdg h hn hl kk
theorem g_astore_n {j : Fin 4} {i nL : Nat} {r : Option Nat} {lv lv' : List (Nat × Value)} (hx : p.tables.exec = Jvm.exec) (hb : c.code = cc) (hdg : decode cc pc = .ok (.astore_n j, 1)) (hi : (j : Nat) = i) (h : lv_has ls nL lv) (hn : i < nL) (hl : (i, va_rf r) :: lv.filter (fun q => !(q.1 == i) && !(q.1 + 1 == i && q.2.category == 2)) = lv')
    (kk : ∀ ls' : Array Slot, lv_has ls' nL lv' → W p l e R s m args below meth c H locs cells slots Q (F0 m (pc + 1) ls' rest)) : W p l e R s m args below meth c H locs cells slots Q (F0 m pc ls (va_rf r :: rest)) := by
  cases r with
  | none => exact lv_astore_nN hx hb hdg hi h hn hl kk
  | some a => exact lv_astore_n hx hb hdg hi h hn hl kk
theorem g_null (hx : p.tables.exec = Jvm.exec) (hb : c.code = cc) (hdg : decode cc pc = .ok (.aconst_null, 1)) (k : W p l e R s m args below meth c H locs cells slots Q (F0 m (pc + 1) ls (va_rf none :: rest))) : W p l e R s m args below meth c H locs cells slots Q (F0 m pc ls rest) := lv_null hx hb hdg k
theorem g_ifnull {r : Option Nat} {off : Int} {tgt : Nat} (hx : p.tables.exec = Jvm.exec) (hb : c.code = cc) (hdg : decode cc pc = .ok (.ifnull off, 3)) (ht : (pc : Int) + off = (tgt : Int)) (kt : r = none → W p l e R s m args below meth c H locs cells slots Q (F0 m tgt ls rest)) (kf : ¬ r = none → W p l e R s m args below meth c H locs cells slots Q (F0 m (pc + 3) ls rest)) : W p l e R s m args below meth c H locs cells slots Q (F0 m pc ls (va_rf r :: rest)) := by
  cases r with
  | none => exact lv_ifnullN hx hb hdg ht (kt rfl)
  | some a => exact lv_ifnull hx hb hdg (kf (by simp))
theorem g_ifnonnull {r : Option Nat} {off : Int} {tgt : Nat} (hx : p.tables.exec = Jvm.exec) (hb : c.code = cc) (hdg : decode cc pc = .ok (.ifnonnull off, 3)) (ht : (pc : Int) + off = (tgt : Int)) (kt : ¬ r = none → W p l e R s m args below meth c H locs cells slots Q (F0 m tgt ls rest)) (kf : r = none → W p l e R s m args below meth c H locs cells slots Q (F0 m (pc + 3) ls rest)) : W p l e R s m args below meth c H locs cells slots Q (F0 m pc ls (va_rf r :: rest)) := by
  cases r with
  | none => exact lv_ifnonnullN hx hb hdg (kf rfl)
  | some a => exact lv_ifnonnull hx hb hdg ht (kt (by simp))
theorem g_cat (r : Option Nat) : (va_rf r).category = 1 := by cases r <;> rfl
end GARR
