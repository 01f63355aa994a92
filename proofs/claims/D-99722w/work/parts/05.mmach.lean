/-! Rows of the machine over the model's world -/
def mFx (Γ : MG) (p : Program) (m : MethodId) (c : Code) (cc : ByteArray) (nL : Nat) (s : State) (args : Array Value) (meth : Method) (ret : Option FieldType) : Prop :=
  (p.tables.exec = Jvm.exec ∧ c.code = cc ∧ c.maxLocals = nL ∧ s.vm.findClass RX5 = some m.cls ∧ ∀ w ∈ lw_all, w.before args s = true) ∧ meth.sig.returnType = ret ∧ meth.locks = false ∧ MK Γ s ∧ mN Γ
def mPre (Γ : MG) (av : List Value) (S : MS) : Array Value → State → Prop := va_Pc av (fun U => MP Γ S U.heap ∧ MK Γ U ∧ mN Γ)
def mB (Γ : MG) (S : MS) : Unit → State → Prop := fun _ t => MP Γ S t.heap ∧ MK Γ t
def mQi (Γ : MG) (r : Int32) (S : MS) : Array Value → State → Outcome → State → Prop := va_Qi (fun r' (_ : Unit) => r' = r) (mB Γ S) (mAd Γ)
def mQv (Γ : MG) (S : MS) : Array Value → State → Outcome → State → Prop := va_Qv (fun (_ : Unit) => True) (mB Γ S) (mAd Γ)
theorem mPre_blind (Γ : MG) (av : List Value) (S : MS) : FrameBlind (mPre Γ av S) := by
  intro a U g mk q
  obtain ⟨q0, qP, qK, qN⟩ := q
  exact ⟨q0, qP, MK.moved (u := U) (U := U.calling g mk a) (Vm.Alike.refl U.vm) qK, qN⟩
section MROW
variable {Γ : MG} {p : Program} {l : Launch} {e : Env} {R : Room} {s : State} {m : MethodId} {args : Array Value} {below : List Frame} {meth : Method} {c : Code} {H : Heap} {locs : List Loc} {cells slots : Nat} {Q : State → Prop}
variable {cc : ByteArray} {nL pc : Nat} {ls : Array Slot} {rest : List Value} {ret : Option FieldType} {S : MS}
theorem m_geti (F : mFx Γ p m c cc nL s args meth ret) (hM : MH Γ s.heap S H locs) {index : Nat} (k : Nat) (hk : k < 60 ∧ (mki k = 0 ∨ mki k = 6)) (hlink : Cond.fieldLink RX5 index RX5 (TX5 k).2.1 (TX5 k).2.2.1 ∈ lw_all) (hdg : decode cc pc = .ok (.getfield index, 3)) (kk : W p l e R s m args below meth c H locs cells slots Q (F0 m (pc + 3) ls (.int (S.1 k) :: rest))) : W p l e R s m args below meth c H locs cells slots Q (F0 m pc ls (.ref (mh Γ) :: rest)) := by
  obtain ⟨⟨hx, hb, -, hown, hts⟩, -, -, ⟨hK, hcl⟩, -⟩ := F
  have h1 : (TX5 k).1 = RX5 := by
    have : ∀ j, j < 60 → (TX5 j).1 = RX5 := by decide +kernel
    exact this k hk.1
  exact va_get (D := Γ.1) (C := RX5) (T := TX5) (N := 60) (ref := RX5) hx hb hts in_X5 hown hK hM.1 0 rfl hcl k hk.1 (hts _ hlink) (fun x h => by rw [h1] at h; exact h) (mfl_at _ S hk.1 (by unfold mval; rw [if_pos hk.2])) hdg kk
theorem m_getl (F : mFx Γ p m c cc nL s args meth ret) (hM : MH Γ s.heap S H locs) {index : Nat} (hlink : Cond.fieldLink RX5 index RX5 (TX5 17).2.1 (TX5 17).2.2.1 ∈ lw_all) (hdg : decode cc pc = .ok (.getfield index, 3)) (kk : W p l e R s m args below meth c H locs cells slots Q (F0 m (pc + 3) ls (.long S.2.1 :: rest))) : W p l e R s m args below meth c H locs cells slots Q (F0 m pc ls (.ref (mh Γ) :: rest)) := by
  obtain ⟨⟨hx, hb, -, hown, hts⟩, -, -, ⟨hK, hcl⟩, -⟩ := F
  exact va_get (D := Γ.1) (C := RX5) (T := TX5) (N := 60) (ref := RX5) hx hb hts in_X5 hown hK hM.1 0 rfl hcl 17 (by decide) (hts _ hlink) (fun x h => h) (mfl_at _ S (by decide) rfl) hdg kk
theorem m_getr (F : mFx Γ p m c cc nL s args meth ret) (hM : MH Γ s.heap S H locs) {index : Nat} (k : Nat) (hk : k < 60 ∧ ¬ (mki k = 0 ∨ mki k = 6) ∧ mki k ≠ 1) (hlink : Cond.fieldLink RX5 index RX5 (TX5 k).2.1 (TX5 k).2.2.1 ∈ lw_all) (hdg : decode cc pc = .ok (.getfield index, 3)) (kk : W p l e R s m args below meth c H locs cells slots Q (F0 m (pc + 3) ls (.ref (ma Γ k) :: rest))) : W p l e R s m args below meth c H locs cells slots Q (F0 m pc ls (.ref (mh Γ) :: rest)) := by
  obtain ⟨⟨hx, hb, -, hown, hts⟩, -, -, ⟨hK, hcl⟩, -⟩ := F
  have h1 : (TX5 k).1 = RX5 := by
    have : ∀ j, j < 60 → (TX5 j).1 = RX5 := by decide +kernel
    exact this k hk.1
  exact va_get (D := Γ.1) (C := RX5) (T := TX5) (N := 60) (ref := RX5) hx hb hts in_X5 hown hK hM.1 0 rfl hcl k hk.1 (hts _ hlink) (fun x h => by rw [h1] at h; exact h) (mfl_at _ S hk.1 (by unfold mval; rw [if_neg hk.2.1, if_neg hk.2.2])) hdg kk
theorem m_puti (F : mFx Γ p m c cc nL s args meth ret) (hM : MH Γ s.heap S H locs) {S' : MS} {index : Nat} (k : Nat) (hk : k < 60 ∧ mki k = 0 ∧ (TX5 k).2.2.2 = false ∧ (TX5 k).2.2.1 = "I") {v : Int32} (hS' : S' = mF S k v) (hlink : Cond.fieldLink RX5 index RX5 (TX5 k).2.1 (TX5 k).2.2.1 ∈ lw_all) (hdg : decode cc pc = .ok (.putfield index, 3)) (kk : ∀ (H1 : Heap) (locs1 : List Loc), MH Γ s.heap S' H1 locs1 → W p l e R s m args below meth c H1 locs1 cells slots Q (F0 m (pc + 3) ls rest)) : W p l e R s m args below meth c H locs cells slots Q (F0 m pc ls (.int v :: .ref (mh Γ) :: rest)) := by
  obtain ⟨⟨hx, hb, -, hown, hts⟩, -, -, ⟨hK, hcl⟩, hN⟩ := F
  have h1 : (TX5 k).1 = RX5 := by
    have : ∀ j, j < 60 → (TX5 j).1 = RX5 := by decide +kernel
    exact this k hk.1
  refine va_put (D := Γ.1) (C := RX5) (T := TX5) (N := 60) (ref := RX5) (ty := .int) (v := .int v) hx hb hts in_X5 tyX5 tyX5_ok nmX5 hown hK hM.1 (hN.D S) hM.2 0 rfl hcl k hk.1 (hts _ hlink) (fun x h => by rw [h1] at h; exact h) hk.2.2.1 (by rw [hk.2.2.2]; decide +kernel) rfl rfl (by simp [mfl]; exact hk.1) hdg (fun H1 locs1 hP _ hS => ?_)
  subst hS'
  rw [mset_F Γ S v hk.1 (Or.inl hk.2.1)] at hP
  exact kk H1 locs1 ⟨hP, hS⟩
theorem m_putz (F : mFx Γ p m c cc nL s args meth ret) (hM : MH Γ s.heap S H locs) {S' : MS} {index : Nat} (k : Nat) (hk : k < 60 ∧ mki k = 6 ∧ (TX5 k).2.2.2 = false ∧ (TX5 k).2.2.1 = "Z") {v : Int32} (hz : v = 0 ∨ v = 1) (hS' : S' = mF S k v) (hlink : Cond.fieldLink RX5 index RX5 (TX5 k).2.1 (TX5 k).2.2.1 ∈ lw_all) (hdg : decode cc pc = .ok (.putfield index, 3)) (kk : ∀ (H1 : Heap) (locs1 : List Loc), MH Γ s.heap S' H1 locs1 → W p l e R s m args below meth c H1 locs1 cells slots Q (F0 m (pc + 3) ls rest)) : W p l e R s m args below meth c H locs cells slots Q (F0 m pc ls (.int v :: .ref (mh Γ) :: rest)) := by
  obtain ⟨⟨hx, hb, -, hown, hts⟩, -, -, ⟨hK, hcl⟩, hN⟩ := F
  have h1 : (TX5 k).1 = RX5 := by
    have : ∀ j, j < 60 → (TX5 j).1 = RX5 := by decide +kernel
    exact this k hk.1
  have hnz := mnar_z hz
  refine va_put (D := Γ.1) (C := RX5) (T := TX5) (N := 60) (ref := RX5) (ty := .boolean) (v := .int v) hx hb hts in_X5 tyX5 tyX5_ok nmX5 hown hK hM.1 (hN.D S) hM.2 0 rfl hcl k hk.1 (hts _ hlink) (fun x h => by rw [h1] at h; exact h) hk.2.2.1 (by rw [hk.2.2.2]; decide +kernel) hnz (by rcases hz with rfl | rfl <;> rfl) (by simp [mfl]; exact hk.1) hdg (fun H1 locs1 hP _ hS => ?_)
  subst hS'
  rw [mset_F Γ S v hk.1 (Or.inr hk.2.1)] at hP
  exact kk H1 locs1 ⟨hP, hS⟩
theorem m_putl (F : mFx Γ p m c cc nL s args meth ret) (hM : MH Γ s.heap S H locs) {S' : MS} {index : Nat} {v : Int64} (hS' : S' = mW S v) (hlink : Cond.fieldLink RX5 index RX5 (TX5 17).2.1 (TX5 17).2.2.1 ∈ lw_all) (hdg : decode cc pc = .ok (.putfield index, 3)) (kk : ∀ (H1 : Heap) (locs1 : List Loc), MH Γ s.heap S' H1 locs1 → W p l e R s m args below meth c H1 locs1 cells slots Q (F0 m (pc + 3) ls rest)) : W p l e R s m args below meth c H locs cells slots Q (F0 m pc ls (.long v :: .ref (mh Γ) :: rest)) := by
  obtain ⟨⟨hx, hb, -, hown, hts⟩, -, -, ⟨hK, hcl⟩, hN⟩ := F
  refine va_put (D := Γ.1) (C := RX5) (T := TX5) (N := 60) (ref := RX5) (ty := .long) (v := .long v) hx hb hts in_X5 tyX5 tyX5_ok nmX5 hown hK hM.1 (hN.D S) hM.2 0 rfl hcl 17 (by decide) (hts _ hlink) (fun x h => h) rfl (by decide +kernel) rfl rfl (by simp [mfl]) hdg (fun H1 locs1 hP _ hS => ?_)
  subst hS'
  rw [mset_W Γ S v] at hP
  exact kk H1 locs1 ⟨hP, hS⟩
theorem m_iald (F : mFx Γ p m c cc nL s args meth ret) (hM : MH Γ s.heap S H locs) (k : Nat) (hk : mrefs[mpos k]? = some k ∧ mki k = 3) {i v : Int32} {n : Nat} (hn : mlen k = n) (hv : v = S.2.2.1 k i.toNatClampNeg) (hin : vp_in i n) (hdg : decode cc pc = .ok (.iaload, 1)) (kk : W p l e R s m args below meth c H locs cells slots Q (F0 m (pc + 1) ls (.int v :: rest))) : W p l e R s m args below meth c H locs cells slots Q (F0 m pc ls (.int i :: .ref (ma Γ k) :: rest)) := by
  obtain ⟨⟨hx, hb, -, hown, hts⟩, -, -, ⟨hK, hcl⟩, hN⟩ := F
  subst hv
  exact va_iald hx hb hK hM.1 (mpos k + 1) 1 (mat_A Γ S hk.1 (by rw [hk.2]; decide)) (by rw [hk.2]; rfl) (by rw [hn]; exact hin) hdg kk
theorem m_bald (F : mFx Γ p m c cc nL s args meth ret) (hM : MH Γ s.heap S H locs) (k : Nat) (hk : mrefs[mpos k]? = some k ∧ mki k = 2) {i v : Int32} {n : Nat} (hn : mlen k = n) (hv : v = S.2.2.1 k i.toNatClampNeg) (hin : vp_in i n) (hdg : decode cc pc = .ok (.baload, 1)) (kk : W p l e R s m args below meth c H locs cells slots Q (F0 m (pc + 1) ls (.int v :: rest))) : W p l e R s m args below meth c H locs cells slots Q (F0 m pc ls (.int i :: .ref (ma Γ k) :: rest)) := by
  obtain ⟨⟨hx, hb, -, hown, hts⟩, -, -, ⟨hK, hcl⟩, hN⟩ := F
  subst hv
  exact va_bald hx hb hK hM.1 (mpos k + 1) 0 (mat_A Γ S hk.1 (by rw [hk.2]; decide)) (by rw [hk.2]; rfl) (by rw [hn]; exact hin) hdg kk
theorem m_zald (F : mFx Γ p m c cc nL s args meth ret) (hM : MH Γ s.heap S H locs) (k : Nat) (hk : mrefs[mpos k]? = some k ∧ mki k = 5) {i v : Int32} {n : Nat} (hn : mlen k = n) (hv : v = S.2.2.1 k i.toNatClampNeg) (hin : vp_in i n) (hdg : decode cc pc = .ok (.baload, 1)) (kk : W p l e R s m args below meth c H locs cells slots Q (F0 m (pc + 1) ls (.int v :: rest))) : W p l e R s m args below meth c H locs cells slots Q (F0 m pc ls (.int i :: .ref (ma Γ k) :: rest)) := by
  obtain ⟨⟨hx, hb, -, hown, hts⟩, -, -, ⟨hK, hcl⟩, hN⟩ := F
  subst hv
  exact va_zald hx hb hK hM.1 (mpos k + 1) 3 (mat_A Γ S hk.1 (by rw [hk.2]; decide)) (by rw [hk.2]; rfl) (by rw [hn]; exact hin) hdg kk
theorem m_lald (F : mFx Γ p m c cc nL s args meth ret) (hM : MH Γ s.heap S H locs) (k : Nat) (hk : mrefs[mpos k]? = some k ∧ mki k = 4) {i : Int32} {v : Int64} {n : Nat} (hn : mlen k = n) (hv : v = S.2.2.2 k i.toNatClampNeg) (hin : vp_in i n) (hdg : decode cc pc = .ok (.laload, 1)) (kk : W p l e R s m args below meth c H locs cells slots Q (F0 m (pc + 1) ls (.long v :: rest))) : W p l e R s m args below meth c H locs cells slots Q (F0 m pc ls (.int i :: .ref (ma Γ k) :: rest)) := by
  obtain ⟨⟨hx, hb, -, hown, hts⟩, -, -, ⟨hK, hcl⟩, hN⟩ := F
  subst hv
  exact va_lald hx hb hK hM.1 (mpos k + 1) 2 (mat_L Γ S hk.1 hk.2) (by rw [hk.2]; rfl) (by rw [hn]; exact hin) hdg kk
theorem m_iast (F : mFx Γ p m c cc nL s args meth ret) (hM : MH Γ s.heap S H locs) {S' : MS} (k : Nat) (hk : mrefs[mpos k]? = some k ∧ mki k = 3) {i v : Int32} {n : Nat} (hn : mlen k = n) (hS' : S' = mA S k i.toNatClampNeg v) (hin : vp_in i n) (hdg : decode cc pc = .ok (.iastore, 1)) (kk : ∀ (H1 : Heap) (locs1 : List Loc), MH Γ s.heap S' H1 locs1 → W p l e R s m args below meth c H1 locs1 cells slots Q (F0 m (pc + 1) ls rest)) : W p l e R s m args below meth c H locs cells slots Q (F0 m pc ls (.int v :: .int i :: .ref (ma Γ k) :: rest)) := by
  obtain ⟨⟨hx, hb, -, hown, hts⟩, -, -, ⟨hK, hcl⟩, hN⟩ := F
  subst hS'
  have h4 : mki k ≠ 4 := by rw [hk.2]; decide
  refine va_iast hx hb hK hM.1 (hN.D S) hM.2 (mpos k + 1) 1 (mat_A Γ S hk.1 h4) (by rw [hk.2]; rfl) (by rw [hn]; exact hin) hdg (fun H1 locs1 hP _ hS => ?_)
  rw [mset_A Γ S _ _ hk.1 h4] at hP
  exact kk H1 locs1 ⟨hP, hS⟩
theorem m_bast (F : mFx Γ p m c cc nL s args meth ret) (hM : MH Γ s.heap S H locs) {S' : MS} (k : Nat) (hk : mrefs[mpos k]? = some k ∧ mki k = 2) {i v : Int32} {n : Nat} (hn : mlen k = n) (hS' : S' = mA S k i.toNatClampNeg (vp_nar .byte v)) (hin : vp_in i n) (hdg : decode cc pc = .ok (.bastore, 1)) (kk : ∀ (H1 : Heap) (locs1 : List Loc), MH Γ s.heap S' H1 locs1 → W p l e R s m args below meth c H1 locs1 cells slots Q (F0 m (pc + 1) ls rest)) : W p l e R s m args below meth c H locs cells slots Q (F0 m pc ls (.int v :: .int i :: .ref (ma Γ k) :: rest)) := by
  obtain ⟨⟨hx, hb, -, hown, hts⟩, -, -, ⟨hK, hcl⟩, hN⟩ := F
  subst hS'
  have h4 : mki k ≠ 4 := by rw [hk.2]; decide
  refine va_bast hx hb hK hM.1 (hN.D S) hM.2 (mpos k + 1) 0 (mat_A Γ S hk.1 h4) (by rw [hk.2]; rfl) (by rw [hn]; exact hin) hdg (fun H1 locs1 hP _ hS => ?_)
  rw [mset_A Γ S _ _ hk.1 h4] at hP
  exact kk H1 locs1 ⟨hP, hS⟩
theorem m_zast (F : mFx Γ p m c cc nL s args meth ret) (hM : MH Γ s.heap S H locs) {S' : MS} (k : Nat) (hk : mrefs[mpos k]? = some k ∧ mki k = 5) {i v : Int32} {n : Nat} (hn : mlen k = n) (hS' : S' = mA S k i.toNatClampNeg (vp_nar .boolean v)) (hin : vp_in i n) (hdg : decode cc pc = .ok (.bastore, 1)) (kk : ∀ (H1 : Heap) (locs1 : List Loc), MH Γ s.heap S' H1 locs1 → W p l e R s m args below meth c H1 locs1 cells slots Q (F0 m (pc + 1) ls rest)) : W p l e R s m args below meth c H locs cells slots Q (F0 m pc ls (.int v :: .int i :: .ref (ma Γ k) :: rest)) := by
  obtain ⟨⟨hx, hb, -, hown, hts⟩, -, -, ⟨hK, hcl⟩, hN⟩ := F
  subst hS'
  have h4 : mki k ≠ 4 := by rw [hk.2]; decide
  refine va_zast hx hb hK hM.1 (hN.D S) hM.2 (mpos k + 1) 3 (mat_A Γ S hk.1 h4) (by rw [hk.2]; rfl) (by rw [hn]; exact hin) hdg (fun H1 locs1 hP _ hS => ?_)
  rw [mset_A Γ S _ _ hk.1 h4] at hP
  exact kk H1 locs1 ⟨hP, hS⟩
theorem m_last (F : mFx Γ p m c cc nL s args meth ret) (hM : MH Γ s.heap S H locs) {S' : MS} (k : Nat) (hk : mrefs[mpos k]? = some k ∧ mki k = 4) {i : Int32} {v : Int64} {n : Nat} (hn : mlen k = n) (hS' : S' = mL S k i.toNatClampNeg v) (hin : vp_in i n) (hdg : decode cc pc = .ok (.lastore, 1)) (kk : ∀ (H1 : Heap) (locs1 : List Loc), MH Γ s.heap S' H1 locs1 → W p l e R s m args below meth c H1 locs1 cells slots Q (F0 m (pc + 1) ls rest)) : W p l e R s m args below meth c H locs cells slots Q (F0 m pc ls (.long v :: .int i :: .ref (ma Γ k) :: rest)) := by
  obtain ⟨⟨hx, hb, -, hown, hts⟩, -, -, ⟨hK, hcl⟩, hN⟩ := F
  subst hS'
  refine va_last hx hb hK hM.1 (hN.D S) hM.2 (mpos k + 1) 2 (mat_L Γ S hk.1 hk.2) (by rw [hk.2]; rfl) (by rw [hn]; exact hin) hdg (fun H1 locs1 hP _ hS => ?_)
  rw [mset_L Γ S _ _ hk.1 hk.2] at hP
  exact kk H1 locs1 ⟨hP, hS⟩
theorem m_iret (F : mFx Γ p m c cc nL s args meth (some .int)) (hM : MH Γ s.heap S H locs) {v r0 : Int32} {S0 : MS} (hf : some (v, S) = some (r0, S0)) (hdg : decode cc pc = .ok (.ireturn, 1)) : W p l e R s m args below meth c H locs cells slots (MQ below (mQi Γ r0 S0) args s cells slots (mAd Γ)) (F0 m pc ls [.int v]) := by
  obtain ⟨⟨hx, hb, -, -, -⟩, hr, hlocks, hK, -⟩ := F
  cases hf
  exact W.iret (v := v) hx hb hr (fun t ht hW => ⟨⟨v, (), rfl, rfl, by rw [ht]; exact hM.1, MK.moved hW.alike hK⟩, hM.2.F ht⟩) hM.2.2.2 hdg
theorem m_zret (F : mFx Γ p m c cc nL s args meth (some .boolean)) (hM : MH Γ s.heap S H locs) {v r0 : Int32} {S0 : MS} (hf : mzt v (some (v, S)) = some (r0, S0)) (hdg : decode cc pc = .ok (.ireturn, 1)) : W p l e R s m args below meth c H locs cells slots (MQ below (mQi Γ r0 S0) args s cells slots (mAd Γ)) (F0 m pc ls [.int v]) := by
  obtain ⟨⟨hx, hb, -, -, -⟩, hr, hlocks, hK, -⟩ := F
  obtain ⟨hz, hf⟩ := mzt_i hf
  cases hf
  exact W.zret (v := v) hx hb hr (mnar_z hz) (fun t ht hW => ⟨⟨v, (), rfl, rfl, by rw [ht]; exact hM.1, MK.moved hW.alike hK⟩, hM.2.F ht⟩) hM.2.2.2 hdg
theorem m_vret (F : mFx Γ p m c cc nL s args meth none) (hM : MH Γ s.heap S H locs) {v r0 : Int32} {S0 : MS} (hf : some (v, S) = some (r0, S0)) (hdg : decode cc pc = .ok (.return_, 1)) : W p l e R s m args below meth c H locs cells slots (MQ below (mQv Γ S0) args s cells slots (mAd Γ)) (F0 m pc ls []) := by
  obtain ⟨⟨hx, hb, -, -, -⟩, hr, hlocks, hK, -⟩ := F
  cases hf
  exact W.vret hx hb hr (fun t ht hW => ⟨⟨(), rfl, trivial, by rw [ht]; exact hM.1, MK.moved hW.alike hK⟩, hM.2.F ht⟩) hM.2.2.2 hdg
variable {y : MethodName} {bytes : ByteArray} {maxL n index : Nat} {retY : Option FieldType} {ws : List Cond} {rm : Room} {As st0 : List Value} {r0 : Int32} {S0 : MS}
theorem m_kept {t : State} {H1 : Heap} {locs1 : List Loc} (ht : t.heap = H1) (hB : mB Γ S0 () t) (hS : va_S (mAd Γ) s.heap H1 locs1) : MH Γ s.heap S0 H1 locs1 := ⟨by rw [← ht]; exact hB.1, hS⟩
theorem m_ci (F : mFx Γ p m c cc nL s args meth ret) (hM : MH Γ s.heap S H locs) (hMet : Met l y ws rm (mPre Γ (.ref (mh Γ) :: As) S) (mQi Γ r0 S0) 0 0 (mAd Γ)) (cw : CallW R s args RX5 RX5 index y bytes maxL retY ws rm 0 0 n) (hn : As.length = n) (hl : ls.size = nL) (hst : st0 = As.reverse ++ .ref (mh Γ) :: rest) (hroom : (rest.map fun v => v.category).sum ≤ 8) (hdg : decode cc pc = .ok (.invokevirtual index, 3)) (hcs : cells ≤ R.cells ∧ slots ≤ R.slots)
    (kk : ∀ (H1 : Heap) (locs1 : List Loc), MH Γ s.heap S0 H1 locs1 → W p l e R s m args below meth c H1 locs1 cells slots Q (F0 m (pc + 3) ls (.int r0 :: rest))) : W p l e R s m args below meth c H locs cells slots Q (F0 m pc ls st0) := by
  obtain ⟨hfix, hr, hlocks, hK, hN⟩ := F
  refine va_calli (A1 := mAd Γ) (va_runV (C := RX5) (As := As) (rest := rest) hfix hMet cw ⟨mPre_blind Γ _ S, va_recv hK.1 hM.1 hK.2 (q0 := 0) rfl, fun U hU hW => ⟨rfl, by rw [hU]; exact hM.1, MK.moved hW.alike hK, hN⟩⟩ rfl hn hl hst (lv_room hroom) hdg hcs) hM.2 (fun q _ h => h) (fun q h => h) (fun r u t H1 locs1 ht hvm hw hB hz hk hS => ?_)
  cases hw
  exact kk H1 locs1 (m_kept ht hB hS)
theorem m_cv (F : mFx Γ p m c cc nL s args meth ret) (hM : MH Γ s.heap S H locs) (hMet : Met l y ws rm (mPre Γ (.ref (mh Γ) :: As) S) (mQv Γ S0) 0 0 (mAd Γ)) (cw : CallW R s args RX5 RX5 index y bytes maxL retY ws rm 0 0 n) (hn : As.length = n) (hl : ls.size = nL) (hst : st0 = As.reverse ++ .ref (mh Γ) :: rest) (hroom : (rest.map fun v => v.category).sum ≤ 8) (hdg : decode cc pc = .ok (.invokevirtual index, 3)) (hcs : cells ≤ R.cells ∧ slots ≤ R.slots)
    (kk : ∀ (H1 : Heap) (locs1 : List Loc), MH Γ s.heap S0 H1 locs1 → W p l e R s m args below meth c H1 locs1 cells slots Q (F0 m (pc + 3) ls rest)) : W p l e R s m args below meth c H locs cells slots Q (F0 m pc ls st0) := by
  obtain ⟨hfix, hr, hlocks, hK, hN⟩ := F
  refine va_callv (A1 := mAd Γ) (va_runV (C := RX5) (As := As) (rest := rest) hfix hMet cw ⟨mPre_blind Γ _ S, va_recv hK.1 hM.1 hK.2 (q0 := 0) rfl, fun U hU hW => ⟨rfl, by rw [hU]; exact hM.1, MK.moved hW.alike hK, hN⟩⟩ rfl hn hl hst (lv_room hroom) hdg hcs) hM.2 (fun q _ h => h) (fun q h => h) (fun u t H1 locs1 ht hvm hw hB hz hk hS => ?_)
  exact kk H1 locs1 (m_kept ht hB hS)
theorem m_si (F : mFx Γ p m c cc nL s args meth ret) (hM : MH Γ s.heap S H locs) (hMet : Met l y ws rm (mPre Γ As S) (mQi Γ r0 S0) 0 0 (mAd Γ)) (cw : CallB R s args RX5 index y bytes maxL retY ws rm 0 0 n ∧ (Cond.static y).before args s = true) (hn : As.length = n) (hl : ls.size = nL) (hst : st0 = As.reverse ++ rest) (hroom : (rest.map fun v => v.category).sum ≤ 8) (hdg : decode cc pc = .ok (.invokestatic index, 3)) (hcs : cells ≤ R.cells ∧ slots ≤ R.slots)
    (kk : ∀ (H1 : Heap) (locs1 : List Loc), MH Γ s.heap S0 H1 locs1 → W p l e R s m args below meth c H1 locs1 cells slots Q (F0 m (pc + 3) ls (.int r0 :: rest))) : W p l e R s m args below meth c H locs cells slots Q (F0 m pc ls st0) := by
  obtain ⟨hfix, hr, hlocks, hK, hN⟩ := F
  refine va_calli (A1 := mAd Γ) (va_runS (As := As) (rest := rest) hfix hMet cw ⟨mPre_blind Γ _ S, fun U hU hW => ⟨rfl, by rw [hU]; exact hM.1, MK.moved hW.alike hK, hN⟩⟩ rfl hn hl hst (lv_room hroom) hdg hcs) hM.2 (fun q _ h => h) (fun q h => h) (fun r u t H1 locs1 ht hvm hw hB hz hk hS => ?_)
  cases hw
  exact kk H1 locs1 (m_kept ht hB hS)
/-- a contract of the model out of a walk from its entry -/
theorem m_met {av : List Value} {Qc : Array Value → State → Outcome → State → Prop} (hy : y.cls = RX5) (hw : ws = Cond.code y bytes maxL retY :: lw_all) (hlen : (lg_sl av).length ≤ maxL)
    (body : ∀ p e s m below meth c ls, mFx Γ p m c bytes maxL s av.toArray meth retY → MH Γ s.heap S s.heap [] → lv_has ls maxL (lv_args 0 av) →
      W p l e (headSpec ws rm).room s m av.toArray below meth c s.heap [] 0 0 (MQ below Qc av.toArray s 0 0 (mAd Γ)) (F0 m 0 ls [])) : Met l y ws rm (mPre Γ av S) Qc 0 0 (mAd Γ) := by
  refine Met.ofW (cc := bytes) (maxL := maxL) (ret := retY) (by rw [hy]; decide) hw ?_
  intro p e s m args below meth c s₁ B hml hv
  obtain ⟨rfl, hP, hK, hN⟩ := hv
  have hts := atoms_spec (ws := ws) B.pre
  have hts : ∀ w ∈ lw_all, w.before _ s = true := fun w h => hts w (by rw [hw]; exact List.mem_cons_of_mem _ h)
  have hown : s.vm.findClass y.cls = some m.cls := findClass_of_methodNamed B.named
  rw [hy] at hown
  rw [lg_entry_eq]
  exact body p e s m below meth c _ ⟨⟨B.exec, B.bytes, hml, hown, hts⟩, B.returns, B.notSynchronized, hK, hN⟩ ⟨hP, va_S.rf⟩ (lv_entry av (n := maxL) hlen)
end MROW
theorem m_swout {x : Int32} (lo hi : Int) (h : ∀ k : Nat, k < (hi - lo + 1).toNat → ¬ x = Int32.ofInt (lo + k)) : x.toInt < lo ∨ hi < x.toInt := by
  rcases Int.lt_or_le x.toInt lo with h1 | h1
  · exact Or.inl h1
  · rcases Int.lt_or_le hi x.toInt with h2 | h2
    · exact Or.inr h2
    · exfalso
      refine h (x.toInt - lo).toNat (by omega) ?_
      have h3 : lo + ((x.toInt - lo).toNat : Int) = x.toInt := by omega
      rw [h3]
      simp
