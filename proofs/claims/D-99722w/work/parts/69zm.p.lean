/-! maps: a land, a road, a person more; a store, a treaty told -/
section MC
variable {E : gE} {N b : Nat} {A : FA} {S0 S S' : GS} {M M' : MS} {h h' : St} {w w' : Int32} {q a : Nat} {d : AD} {ee : Ee}
theorem Cel.tk {l : Nat} {c1 : GE} (x : Cel b S l c1) (y : Cel b S' l c1) : ∀ c, Cel b S l c → Cel b S' l c := by
  intro c z
  have := x.1.symm.trans z.1
  injection this with this
  rw [← this]; exact y
theorem VB.addL (z : VB h w) (h6 : nL h < 7) {x y : Nat} (hx : x ≤ 20) (hy : y ≤ 20) (e : h' = upd (upd (upd h (3 + nL h) (Int32.ofNat x)) (10 + nL h) (Int32.ofNat y)) 0 (Int32.ofNat (nL h + 1))) : nL h' = nL h + 1 ∧ nR h' = nR h ∧ nP h' = nP h ∧ (∀ i, i ≠ 0 → i ≠ 3 + nL h → i ≠ 10 + nL h → h' i = h i) ∧ h' (3 + nL h) = Int32.ofNat x ∧ h' (10 + nL h) = Int32.ofNat y ∧ VB h' w := by
  obtain ⟨k, hk⟩ : ∃ k, k = nL h := ⟨_, rfl⟩
  rw [← hk] at h6 e ⊢
  have n1 : nL h' = k + 1 := by unfold nL; rw [e, upd_s, pq_tn (by omega)]
  have o : ∀ i, i ≠ 0 → i ≠ 3 + k → i ≠ 10 + k → h' i = h i := by
    intro i i1 i2 i3
    rw [e, upd_o _ _ i1, upd_o _ _ i3, upd_o _ _ i2]
  have n2 : nR h' = nR h := by unfold nR; rw [o 1 (by omega) (by omega) (by omega)]
  have n3 : nP h' = nP h := by unfold nP; rw [o 2 (by omega) (by omega) (by omega)]
  have e3 : h' (3 + k) = Int32.ofNat x := by rw [e, upd_o _ _ (by omega), upd_o _ _ (by omega), upd_s]
  have e10 : h' (10 + k) = Int32.ofNat y := by rw [e, upd_o _ _ (by omega), upd_s]
  refine ⟨n1, n2, n3, o, e3, e10, ?_⟩
  obtain ⟨⟨a1, a2, a3, a4, a5, a6⟩, z2, z3, z4, v, v1, v2⟩ := z
  refine ⟨⟨by rw [n1, e, upd_s], by omega, by rw [n2, o 1 (by omega) (by omega) (by omega)]; exact a3, by omega, by rw [n3, o 2 (by omega) (by omega) (by omega)]; exact a5, by omega⟩, fun l hl => ?_, fun r hr => ?_, fun p hp => ?_, v, ?_, v2⟩
  · obtain ⟨b1, b2, b3, b4, b5⟩ := z2 l hl
    refine ⟨?_, ?_, by rw [o _ (by omega) (by omega) (by omega)]; exact b3, by rw [o _ (by omega) (by omega) (by omega)]; exact b4, fun hn => by rw [o _ (by omega) (by omega) (by omega), o _ (by omega) (by omega) (by omega)]; exact b5 (by omega)⟩
    · by_cases q : l = k
      · subst q; exact ⟨x, hx, e3⟩
      · rw [o _ (by omega) (by omega) (by omega)]; exact b1
    · by_cases q : l = k
      · subst q; exact ⟨y, hy, e10⟩
      · rw [o _ (by omega) (by omega) (by omega)]; exact b2
  · rw [n2] at hr
    obtain ⟨x', y', c1, c2, c3, c4⟩ := z3 r hr
    exact ⟨x', y', by omega, by omega, by rw [o _ (by omega) (by omega) (by omega)]; exact c3, by rw [o _ (by omega) (by omega) (by omega)]; exact c4⟩
  · obtain ⟨c1, c2, c3⟩ := z4 p hp
    rw [n3, o _ (by omega) (by omega) (by omega), o _ (by omega) (by omega) (by omega)]
    refine ⟨c1, c2, fun hp' => ?_⟩
    obtain ⟨x', x1, x2⟩ := c3 hp'
    exact ⟨x', by omega, x2⟩
  · rw [n1, Nat.pow_succ]; rw [← hk] at v1; omega
theorem MB.addL (hE : E.1 ≤ b) (hb0 : b + 111 ≤ S0.2.1) (x0 : Ext S0 S) (z : MB E b S0 S M a d ee) {v nm : Nat} {u : List Nat} {x y : Nat} (hx : x ≤ 20) (hy : y ≤ 20) (h6 : nL (M.2.2.1 7) < 7) (cv : Cel b S v (.inr (6, [.ref nm, .int (Int32.ofNat x), .int (Int32.ofNat y), .int (Int32.ofNat 0), .int (Int32.ofNat 0), .int (Int32.ofNat 0)]))) (hv0 : S0.2.1 ≤ v) (hvf : ∀ i, i < nL (M.2.2.1 7) → d.2.1 i ≠ v) (su : StrAt b S nm u) (wu : Wd u) (e19 : M'.1 19 = M.1 19) (e20 : M'.1 20 = M.1 20) (e7 : M'.2.2.1 7 = upd (upd (upd (M.2.2.1 7) (3 + nL (M.2.2.1 7)) (Int32.ofNat x)) (10 + nL (M.2.2.1 7)) (Int32.ofNat y)) 0 (Int32.ofNat (nL (M.2.2.1 7) + 1))) (e9 : ∀ i, i ≠ 13 + nL (M.2.2.1 7) → M'.2.2.2 9 i = M.2.2.2 9 i) (e9n : M'.2.2.2 9 (13 + nL (M.2.2.1 7)) = enc u) : ∃ S' d' e', vjava_util_ArrayList_add__Ljava_lang_Object__Z E N (put b A S) (some d.1.1) (some v) = some (Int32.ofNat 1, put b A S') ∧ MB E b S0 S' M' a d' e' ∧ d'.1 = d.1 ∧ Fx S S' ∧ Ext S0 S' ∧ (∀ a fs, Cel b S a (.inr (4, fs)) → Cel b S' a (.inr (4, fs))) ∧ S'.2.2.1 ≤ S.2.2.1 + 1 ∧ S'.2.2.2 ≤ S.2.2.2 + 70 := by
  obtain ⟨z1, z2, z3, z4, z5, z6, z7, z8, z9⟩ := z
  obtain ⟨h, eh⟩ : ∃ h, h = M.2.2.1 7 := ⟨_, rfl⟩
  obtain ⟨h', eh'⟩ : ∃ h', h' = M'.2.2.1 7 := ⟨_, rfl⟩
  rw [← eh] at h6 hvf e7 e9 e9n z2 z3 z4 z9
  rw [← eh'] at e7
  obtain ⟨n1, n2, n3, o, o3, o10, vb⟩ := z9.addL h6 hx hy e7
  obtain ⟨⟨_, c0⟩, _, _, d0⟩ := z2.1.cl
  obtain ⟨⟨_, c1⟩, _, _, d1⟩ := z3.1.cl
  obtain ⟨⟨_, c2⟩, _, _, d2⟩ := z4.1.cl
  obtain ⟨S', e', ad, ls, hf, x0', he, kp, kp2, p1, p2⟩ := l_adx (E := E) (N := N) (A := A) hE hb0 z2.1 x0 (by omega) cv (by omega) (fun i hi => ⟨_, _, (z2.2.1 i hi).1, by omega⟩)
  have l1 := d1.2.2
  have l2 := d2.2.2
  have ne1 : e' ≠ ee.2.1 ∧ e' ≠ ee.2.2 := by
    rcases he with ⟨rfl, q⟩ | q
    · exact z6 q
    · omega
  have k24 : nL h < 32 := by omega
  refine ⟨S', (d.1, (fun i => if i = nL h then v else d.2.1 i), d.2.2.1, d.2.2.2.1, (fun i => if i = nL h then nm else d.2.2.2.2.1 i), d.2.2.2.2.2), (e', ee.2), ad, ?_, rfl, hf, x0', fun a' fs' y' => kp2 _ _ _ y' (y'.nc c0 (by omega)), p1, p2⟩
  refine ⟨?_, ?_, ?_, ?_, z5, fun _ => ne1, fun q => ⟨Ne.symm ne1.1, (z7 q).2⟩, fun q => ⟨Ne.symm ne1.2, (z8 q).2⟩, by rw [← eh', e20]; exact vb⟩
  · rw [e19]; exact kp2 _ _ _ z1 (z1.nc c0 (by omega))
  · rw [← eh', e20]
    unfold LnB
    rw [n1]
    refine ⟨ls, fun l hl => ?_, fun i j hi hj => ?_⟩
    · dsimp only
      by_cases ql : l = nL h
      · rw [if_pos ql, if_pos ql]
        refine ⟨?_, hv0, u, su.fx hf, wu, by rw [ql]; exact e9n⟩
        have f0 : pB (bt (M.1 20) (Int32.ofNat l) = true) = Int32.ofNat 0 := by
          obtain ⟨vv, v1, v2⟩ := z9.2.2.2.2
          rw [v2, bt_nat (by omega), ql, Nat.testBit_lt_two_pow v1]
          exact pB_f (by decide)
        have f17 := (z9.2.1 (nL h) h6).2.2.2.2 (Nat.le_refl _)
        rw [f0, ql, o3, o10, o (17 + nL h) (by omega) (by omega) (by omega), o (72 + nL h) (by omega) (by omega) (by omega), f17.1, f17.2]
        exact kp2 _ _ _ cv (cv.nc c0 (by omega))
      · rw [if_neg ql, if_neg ql]
        obtain ⟨y1, y2, u', y3, y4, y5⟩ := z2.2.1 l (by omega)
        refine ⟨?_, y2, u', y3.fx hf, y4, by rw [e9 _ (by omega)]; exact y5⟩
        rw [o (3 + l) (by omega) (by omega) (by omega), o (10 + l) (by omega) (by omega) (by omega), o (17 + l) (by omega) (by omega) (by omega), o (72 + l) (by omega) (by omega) (by omega)]
        exact kp2 _ _ _ y1 (y1.nc c0 (by omega))
    · dsimp only
      by_cases qi : i = nL h
      · by_cases qj : j = nL h
        · intro _; omega
        · rw [if_pos qi, if_neg qj]
          intro q'
          exact absurd q'.symm (hvf j (by omega))
      · by_cases qj : j = nL h
        · rw [if_neg qi, if_pos qj]
          intro q'
          exact absurd q' (hvf i (by omega))
        · rw [if_neg qi, if_neg qj]
          exact z2.2.2 i j (by omega) (by omega)
  · rw [← eh']
    have := z9.1.2.2.2.1
    exact z3.ch hf (c1.tk (kp2 _ _ _ c1 (Ne.symm z5.1))) (fun c y' => kp _ _ y' (Ne.symm (c0.na d1)) (Ne.symm ne1.1)) n2 (fun r hr => ⟨o _ (by omega) (by omega) (by omega), o _ (by omega) (by omega) (by omega), o _ (by omega) (by omega) (by omega), o _ (by omega) (by omega) (by omega)⟩)
  · rw [← eh']
    have := z9.1.2.2.2.2.2
    exact z4.ch hf (c2.tk (kp2 _ _ _ c2 (Ne.symm z5.2.1))) (fun c y' => kp _ _ y' (Ne.symm (c0.na d2)) (Ne.symm ne1.2)) n3 (fun r hr => ⟨o _ (by omega) (by omega) (by omega), o _ (by omega) (by omega) (by omega), e9 _ (by omega)⟩)
theorem VB.addR (z : VB h w) (h6 : nR h < 12) {x y : Nat} (hx : x < nL h) (hy : y < nL h) {v5 v6 : Int32} (e : h' = upd (upd (upd (upd (upd h (24 + nR h) (Int32.ofNat x)) (36 + nR h) (Int32.ofNat y)) (48 + nR h) v5) (60 + nR h) v6) 1 (Int32.ofNat (nR h + 1))) : nR h' = nR h + 1 ∧ nL h' = nL h ∧ nP h' = nP h ∧ (∀ i, i ≠ 1 → i ≠ 24 + nR h → i ≠ 36 + nR h → i ≠ 48 + nR h → i ≠ 60 + nR h → h' i = h i) ∧ h' (24 + nR h) = Int32.ofNat x ∧ h' (36 + nR h) = Int32.ofNat y ∧ h' (48 + nR h) = v5 ∧ h' (60 + nR h) = v6 ∧ VB h' w := by
  obtain ⟨k, hk⟩ : ∃ k, k = nR h := ⟨_, rfl⟩
  rw [← hk] at h6 e ⊢
  have n1 : nR h' = k + 1 := by unfold nR; rw [e, upd_s, pq_tn (by omega)]
  have o : ∀ i, i ≠ 1 → i ≠ 24 + k → i ≠ 36 + k → i ≠ 48 + k → i ≠ 60 + k → h' i = h i := by
    intro i i1 i2 i3 i4 i5
    rw [e, upd_o _ _ i1, upd_o _ _ i5, upd_o _ _ i4, upd_o _ _ i3, upd_o _ _ i2]
  have n2 : nL h' = nL h := by unfold nL; rw [o 0 (by omega) (by omega) (by omega) (by omega) (by omega)]
  have n3 : nP h' = nP h := by unfold nP; rw [o 2 (by omega) (by omega) (by omega) (by omega) (by omega)]
  have e24 : h' (24 + k) = Int32.ofNat x := by rw [e, upd_o _ _ (by omega), upd_o _ _ (by omega), upd_o _ _ (by omega), upd_o _ _ (by omega), upd_s]
  have e36 : h' (36 + k) = Int32.ofNat y := by rw [e, upd_o _ _ (by omega), upd_o _ _ (by omega), upd_o _ _ (by omega), upd_s]
  have e48 : h' (48 + k) = v5 := by rw [e, upd_o _ _ (by omega), upd_o _ _ (by omega), upd_s]
  have e60 : h' (60 + k) = v6 := by rw [e, upd_o _ _ (by omega), upd_s]
  refine ⟨n1, n2, n3, o, e24, e36, e48, e60, ?_⟩
  obtain ⟨⟨a1, a2, a3, a4, a5, a6⟩, z2, z3, z4, v, v1, v2⟩ := z
  refine ⟨⟨by rw [n2, o 0 (by omega) (by omega) (by omega) (by omega) (by omega)]; exact a1, by omega, by rw [n1, e, upd_s], by omega, by rw [n3, o 2 (by omega) (by omega) (by omega) (by omega) (by omega)]; exact a5, by omega⟩, fun l hl => ?_, fun r hr => ?_, fun p hp => ?_, v, by rw [n2]; exact v1, v2⟩
  · rw [n2, o _ (by omega) (by omega) (by omega) (by omega) (by omega), o _ (by omega) (by omega) (by omega) (by omega) (by omega), o _ (by omega) (by omega) (by omega) (by omega) (by omega), o _ (by omega) (by omega) (by omega) (by omega) (by omega)]
    exact z2 l hl
  · rw [n1] at hr
    rw [n2]
    by_cases q : r = k
    · subst q; exact ⟨x, y, hx, hy, e24, e36⟩
    · rw [o _ (by omega) (by omega) (by omega) (by omega) (by omega), o _ (by omega) (by omega) (by omega) (by omega) (by omega)]
      exact z3 r (by omega)
  · rw [n3, n2, o _ (by omega) (by omega) (by omega) (by omega) (by omega), o _ (by omega) (by omega) (by omega) (by omega) (by omega)]
    exact z4 p hp
theorem MB.addR (hE : E.1 ≤ b) (hb0 : b + 111 ≤ S0.2.1) (x0 : Ext S0 S) (z : MB E b S0 S M a d ee) {v : Nat} {x y : Nat} {v5 v6 : Int32} (hx : x < nL (M.2.2.1 7)) (hy : y < nL (M.2.2.1 7)) (h6 : nR (M.2.2.1 7) < 12) (cv : Cel b S v (.inr (7, [.int (Int32.ofNat x), .int (Int32.ofNat y), .int v5, .int v6]))) (e19 : M'.1 19 = M.1 19) (e20 : M'.1 20 = M.1 20) (e7 : M'.2.2.1 7 = upd (upd (upd (upd (upd (M.2.2.1 7) (24 + nR (M.2.2.1 7)) (Int32.ofNat x)) (36 + nR (M.2.2.1 7)) (Int32.ofNat y)) (48 + nR (M.2.2.1 7)) v5) (60 + nR (M.2.2.1 7)) v6) 1 (Int32.ofNat (nR (M.2.2.1 7) + 1))) (e9 : M'.2.2.2 9 = M.2.2.2 9) : ∃ S' d' e', vjava_util_ArrayList_add__Ljava_lang_Object__Z E N (put b A S) (some d.1.2.1) (some v) = some (Int32.ofNat 1, put b A S') ∧ MB E b S0 S' M' a d' e' ∧ d'.1 = d.1 ∧ Fx S S' ∧ Ext S0 S' ∧ (∀ a fs, Cel b S a (.inr (4, fs)) → Cel b S' a (.inr (4, fs))) ∧ S'.2.2.1 ≤ S.2.2.1 + 1 ∧ S'.2.2.2 ≤ S.2.2.2 + 70 := by
  obtain ⟨z1, z2, z3, z4, z5, z6, z7, z8, z9⟩ := z
  obtain ⟨h, eh⟩ : ∃ h, h = M.2.2.1 7 := ⟨_, rfl⟩
  obtain ⟨h', eh'⟩ : ∃ h', h' = M'.2.2.1 7 := ⟨_, rfl⟩
  rw [← eh] at h6 hx hy e7 z2 z3 z4 z9
  rw [← eh'] at e7
  obtain ⟨n1, n2, n3, o, o24, o36, o48, o60, vb⟩ := z9.addR h6 hx hy e7
  obtain ⟨⟨_, c0⟩, _, _, d0⟩ := z2.1.cl
  obtain ⟨⟨_, c1⟩, _, _, d1⟩ := z3.1.cl
  obtain ⟨⟨_, c2⟩, _, _, d2⟩ := z4.1.cl
  obtain ⟨S', e', ad, ls, hf, x0', he, kp, kp2, p1, p2⟩ := l_adx (E := E) (N := N) (A := A) hE hb0 z3.1 x0 (by omega) cv (by omega) (fun i hi => ⟨_, _, z3.2 i hi, by omega⟩)
  have l1 := d0.2.2
  have l2 := d2.2.2
  have ne1 : e' ≠ ee.1 ∧ e' ≠ ee.2.2 := by
    rcases he with ⟨rfl, q⟩ | q
    · exact z7 q
    · omega
  refine ⟨S', (d.1, d.2.1, (fun i => if i = nR h then v else d.2.2.1 i), d.2.2.2), (ee.1, e', ee.2.2), ad, ?_, rfl, hf, x0', fun a' fs' y' => kp2 _ _ _ y' (y'.nc c1 (by omega)), p1, p2⟩
  refine ⟨?_, ?_, ?_, ?_, z5, fun q => ⟨Ne.symm ne1.1, (z6 q).2⟩, fun q => ne1, fun q => ⟨(z8 q).1, Ne.symm ne1.2⟩, by rw [← eh', e20]; exact vb⟩
  · rw [e19]; exact kp2 _ _ _ z1 (z1.nc c1 (by omega))
  · rw [← eh', e20, e9]
    have := z9.1.2.1
    exact z2.ch hf (c0.tk (kp2 _ _ _ c0 z5.1)) (fun c y' => kp _ _ y' (Ne.symm (c1.na d0)) (Ne.symm ne1.1)) (fun a' fs' y' => kp2 _ _ _ y' (y'.nc c1 (by omega))) n2 (fun r hr => ⟨o _ (by omega) (by omega) (by omega) (by omega) (by omega), o _ (by omega) (by omega) (by omega) (by omega) (by omega), o _ (by omega) (by omega) (by omega) (by omega) (by omega), o _ (by omega) (by omega) (by omega) (by omega) (by omega), rfl⟩) rfl
  · rw [← eh']
    unfold RoB
    rw [n1]
    refine ⟨ls, fun l hl => ?_⟩
    dsimp only
    by_cases ql : l = nR h
    · rw [if_pos ql, ql, o24, o36, o48, o60]
      exact hf.cel cv rfl
    · rw [if_neg ql, o (24 + l) (by omega) (by omega) (by omega) (by omega) (by omega), o (36 + l) (by omega) (by omega) (by omega) (by omega) (by omega), o (48 + l) (by omega) (by omega) (by omega) (by omega) (by omega), o (60 + l) (by omega) (by omega) (by omega) (by omega) (by omega)]
      exact hf.cel (z3.2 l (by omega)) rfl
  · rw [← eh', e9]
    have := z9.1.2.2.2.2.2
    exact z4.ch hf (c2.tk (kp2 _ _ _ c2 (Ne.symm z5.2.2))) (fun c y' => kp _ _ y' (Ne.symm (c1.na d2)) (Ne.symm ne1.2)) n3 (fun r hr => ⟨o _ (by omega) (by omega) (by omega) (by omega) (by omega), o _ (by omega) (by omega) (by omega) (by omega) (by omega), rfl⟩)
theorem VB.addP (z : VB h w) (h6 : nP h < 6) {x y : Nat} (hx : x < nL h) (hy : y ≤ 240) (e : h' = upd (upd (upd h (79 + nP h) (Int32.ofNat x)) (85 + nP h) (Int32.ofNat y)) 2 (Int32.ofNat (nP h + 1))) : nP h' = nP h + 1 ∧ nL h' = nL h ∧ nR h' = nR h ∧ (∀ i, i ≠ 2 → i ≠ 79 + nP h → i ≠ 85 + nP h → h' i = h i) ∧ h' (79 + nP h) = Int32.ofNat x ∧ h' (85 + nP h) = Int32.ofNat y ∧ VB h' w := by
  obtain ⟨k, hk⟩ : ∃ k, k = nP h := ⟨_, rfl⟩
  rw [← hk] at h6 e ⊢
  have n1 : nP h' = k + 1 := by unfold nP; rw [e, upd_s, pq_tn (by omega)]
  have o : ∀ i, i ≠ 2 → i ≠ 79 + k → i ≠ 85 + k → h' i = h i := by
    intro i i1 i2 i3
    rw [e, upd_o _ _ i1, upd_o _ _ i3, upd_o _ _ i2]
  have n2 : nL h' = nL h := by unfold nL; rw [o 0 (by omega) (by omega) (by omega)]
  have n3 : nR h' = nR h := by unfold nR; rw [o 1 (by omega) (by omega) (by omega)]
  have e79 : h' (79 + k) = Int32.ofNat x := by rw [e, upd_o _ _ (by omega), upd_o _ _ (by omega), upd_s]
  have e85 : h' (85 + k) = Int32.ofNat y := by rw [e, upd_o _ _ (by omega), upd_s]
  refine ⟨n1, n2, n3, o, e79, e85, ?_⟩
  obtain ⟨⟨a1, a2, a3, a4, a5, a6⟩, z2, z3, z4, v, v1, v2⟩ := z
  refine ⟨⟨by rw [n2, o 0 (by omega) (by omega) (by omega)]; exact a1, by omega, by rw [n3, o 1 (by omega) (by omega) (by omega)]; exact a3, by omega, by rw [n1, e, upd_s], by omega⟩, fun l hl => ?_, fun r hr => ?_, fun p hp => ?_, v, by rw [n2]; exact v1, v2⟩
  · rw [n2, o _ (by omega) (by omega) (by omega), o _ (by omega) (by omega) (by omega), o _ (by omega) (by omega) (by omega), o _ (by omega) (by omega) (by omega)]
    exact z2 l hl
  · rw [n3] at hr
    rw [n2, o _ (by omega) (by omega) (by omega), o _ (by omega) (by omega) (by omega)]
    exact z3 r hr
  · obtain ⟨c1, c2, c3⟩ := z4 p hp
    rw [n1, n2]
    by_cases q : p = k
    · subst q
      exact ⟨⟨y, hy, e85⟩, fun q => by omega, fun _ => ⟨x, hx, e79⟩⟩
    · rw [o _ (by omega) (by omega) (by omega), o _ (by omega) (by omega) (by omega)]
      exact ⟨c1, fun q => c2 (by omega), fun q => c3 (by omega)⟩
theorem MB.addP (hE : E.1 ≤ b) (hb0 : b + 111 ≤ S0.2.1) (x0 : Ext S0 S) (z : MB E b S0 S M a d ee) {v nm : Nat} {u : List Nat} {x y : Nat} (hx : x < nL (M.2.2.1 7)) (hy : y ≤ 240) (h6 : nP (M.2.2.1 7) < 6) (cv : Cel b S v (.inr (8, [.ref nm, .int (Int32.ofNat x), .int (Int32.ofNat y)]))) (su : StrAt b S nm u) (wu : Wd u) (e19 : M'.1 19 = M.1 19) (e20 : M'.1 20 = M.1 20) (e7 : M'.2.2.1 7 = upd (upd (upd (M.2.2.1 7) (79 + nP (M.2.2.1 7)) (Int32.ofNat x)) (85 + nP (M.2.2.1 7)) (Int32.ofNat y)) 2 (Int32.ofNat (nP (M.2.2.1 7) + 1))) (e9 : ∀ i, i ≠ 20 + nP (M.2.2.1 7) → M'.2.2.2 9 i = M.2.2.2 9 i) (e9n : M'.2.2.2 9 (20 + nP (M.2.2.1 7)) = enc u) : ∃ S' d' e', vjava_util_ArrayList_add__Ljava_lang_Object__Z E N (put b A S) (some d.1.2.2) (some v) = some (Int32.ofNat 1, put b A S') ∧ MB E b S0 S' M' a d' e' ∧ d'.1 = d.1 ∧ Fx S S' ∧ Ext S0 S' ∧ (∀ a fs, Cel b S a (.inr (4, fs)) → Cel b S' a (.inr (4, fs))) ∧ S'.2.2.1 ≤ S.2.2.1 + 1 ∧ S'.2.2.2 ≤ S.2.2.2 + 70 := by
  obtain ⟨z1, z2, z3, z4, z5, z6, z7, z8, z9⟩ := z
  obtain ⟨h, eh⟩ : ∃ h, h = M.2.2.1 7 := ⟨_, rfl⟩
  obtain ⟨h', eh'⟩ : ∃ h', h' = M'.2.2.1 7 := ⟨_, rfl⟩
  rw [← eh] at h6 hx e7 e9 e9n z2 z3 z4 z9
  rw [← eh'] at e7
  obtain ⟨n1, n2, n3, o, o79, o85, vb⟩ := z9.addP h6 hx hy e7
  obtain ⟨⟨_, c0⟩, _, _, d0⟩ := z2.1.cl
  obtain ⟨⟨_, c1⟩, _, _, d1⟩ := z3.1.cl
  obtain ⟨⟨_, c2⟩, _, _, d2⟩ := z4.1.cl
  obtain ⟨S', e', ad, ls, hf, x0', he, kp, kp2, p1, p2⟩ := l_adx (E := E) (N := N) (A := A) hE hb0 z4.1 x0 (by omega) cv (by omega) (fun i hi => ⟨_, _, (z4.2 i hi).1, by omega⟩)
  have l1 := d0.2.2
  have l2 := d1.2.2
  have ne1 : e' ≠ ee.1 ∧ e' ≠ ee.2.1 := by
    rcases he with ⟨rfl, q⟩ | q
    · exact z8 q
    · omega
  refine ⟨S', (d.1, d.2.1, d.2.2.1, (fun i => if i = nP h then v else d.2.2.2.1 i), d.2.2.2.2.1, (fun i => if i = nP h then nm else d.2.2.2.2.2 i)), (ee.1, ee.2.1, e'), ad, ?_, rfl, hf, x0', fun a' fs' y' => kp2 _ _ _ y' (y'.nc c2 (by omega)), p1, p2⟩
  refine ⟨?_, ?_, ?_, ?_, z5, fun q => ⟨(z6 q).1, Ne.symm ne1.1⟩, fun q => ⟨(z7 q).1, Ne.symm ne1.2⟩, fun q => ne1, by rw [← eh', e20]; exact vb⟩
  · rw [e19]; exact kp2 _ _ _ z1 (z1.nc c2 (by omega))
  · rw [← eh', e20]
    have := z9.1.2.1
    exact z2.ch hf (c0.tk (kp2 _ _ _ c0 z5.2.1)) (fun c y' => kp _ _ y' (Ne.symm (c2.na d0)) (Ne.symm ne1.1)) (fun a' fs' y' => kp2 _ _ _ y' (y'.nc c2 (by omega))) n2 (fun r hr => ⟨o _ (by omega) (by omega) (by omega), o _ (by omega) (by omega) (by omega), o _ (by omega) (by omega) (by omega), o _ (by omega) (by omega) (by omega), e9 _ (by omega)⟩) rfl
  · rw [← eh']
    have := z9.1.2.2.2.1
    exact z3.ch hf (c1.tk (kp2 _ _ _ c1 z5.2.2)) (fun c y' => kp _ _ y' (Ne.symm (c2.na d1)) (Ne.symm ne1.2)) n3 (fun r hr => ⟨o _ (by omega) (by omega) (by omega), o _ (by omega) (by omega) (by omega), o _ (by omega) (by omega) (by omega), o _ (by omega) (by omega) (by omega)⟩)
  · rw [← eh']
    unfold PeB
    rw [n1]
    refine ⟨ls, fun l hl => ?_⟩
    dsimp only
    by_cases ql : l = nP h
    · rw [if_pos ql, if_pos ql, ql, o79, o85]
      exact ⟨hf.cel cv rfl, u, su.fx hf, wu, e9n⟩
    · rw [if_neg ql, if_neg ql, o (79 + l) (by omega) (by omega) (by omega), o (85 + l) (by omega) (by omega) (by omega)]
      obtain ⟨y1, u', y3, y4, y5⟩ := z4.2 l (by omega)
      exact ⟨hf.cel y1 rfl, u', y3.fx hf, y4, (e9 _ (by omega)).trans y5⟩
end MC
