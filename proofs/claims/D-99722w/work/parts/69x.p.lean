/-! sentences: one operand -/
section SE
variable {E : gE} {N b : Nat} {A : FA} {S0 S : GS} {M0 M : MS} {q a nl l0 n lim fr on wi : Nat} {f0 : Nat → Nat} {t : Tk} {ρ0 ρ1 ρ2 ρ3 : GS → Option Nat → Option ((Option Nat ⊕ Nat) × GS)} {cs : List Cd} {st : List Nat}
theorem SnM.wh (h : SnM M cs st on false) (hb : cs.length + st.length + 1 ≤ 2 * on) : SnM (mF M 55 (Int32.ofNat 1)) cs st on true := by
  obtain ⟨h51, h8, h53, h50, h52, h54, h55, hlen, ho20, hx23⟩ := h
  exact ⟨h51, h8, h53, h50, h52, h54, mF_e _ _ _, hb, ho20, hx23⟩
theorem SnM.cd {M' : MS} {x : Cd} {wh : Bool} (h : SnM M cs st on wh) (s : mSm [8, 51] M M') (k51 : M'.1 51 = Int32.ofNat (cs.length + 1)) (k8 : CdIn (M'.2.2.1 8) 0 (cs ++ [x])) (hb : cs.length + st.length + 1 + (if wh = true then 1 else 0) ≤ 2 * on) : SnM M' (cs ++ [x]) st on wh := by
  obtain ⟨h51, h8, h53, h50, h52, h54, h55, hlen, ho20, hx23⟩ := h
  refine ⟨by rw [List.length_append]; exact k51, k8, (s.2 53 (by decide)).1.trans h53, ?_, (s.2 52 (by decide)).1.trans h52, (s.2 54 (by decide)).1.trans h54, (s.2 55 (by decide)).1.trans h55, ?_, ho20, hx23⟩
  · rw [(s.2 50 (by decide)).2]; exact h50
  · rw [List.length_append]; simp only [List.length_cons, List.length_nil]; omega
theorem c_237 (hEq : E.1 ≤ q) (h : Rd b A S M q 18 (sEx a on (wi + 1)) n lim fr t) (hw : wi < 8) (r : Option Nat) : ∃ S', bX25_says_237 E N ρ0 ρ1 ρ2 ρ3 q (put b A S) r = some (Sum.inl r, put b A S') ∧ Rd b A S' M q 18 (sEx a on wi) n lim fr t ∧ Xo q S S' ∧ S'.2 = S.2 := by
  obtain ⟨S', w, r1, xo, z⟩ := sr_w99 (E := E) h hEq wi
  have q99 := fun {β : Type} (K : Int32 → Option β) => sr_99 h K
  have es : Int32.ofNat (wi + 1) - Int32.ofNat 1 = Int32.ofNat wi := by rw [pq_sub (by omega)]; rfl
  refine ⟨S', ?_, r1, xo, z⟩
  simp only [bX25_says_237, pq_lit]
  simp (disch := omega) only [↓q99, es, ↓w, ↓gbd_s, gbd_s, ↓gbx_s, gbx_s, ↓gnn_s, ↓grf_s, eq_self, ↓reduceIte, Nat.reduceEqDiff, Nat.reduceLeDiff, Nat.reduceLT, Nat.reduceMul, Nat.reduceAdd, not_true_eq_false, not_false_eq_true, Bool.false_eq_true, pq_lit, pq_add, pq_le, pq_lt, pq_eq, pq_en, pq_ne, pq_nle, pq_nlt, pq_len, pq_ltn, pB_z, pB_o, mzt_0, mzt_1, mzt_B]
/-- the last step: one level up again -/
theorem s_fin {S' : GS} {M' : MS} {c : List Cd} {cs' : List Cd} {st' : List Nat} {on' fr' r j : Nat} {t' : Tk} {oc : Option ((Option Nat ⊕ Nat) × GS)} (hEq : E.1 ≤ q) (hq : S0.2.1 ≤ q) (hw : wi < 8) (h' : Rd b A S' M' q 18 (sEx a on' (wi + 1)) n lim fr' t') (eo : oc = bX25_says_237 E N ρ0 ρ1 ρ2 ρ3 q (put b A S') (some r)) (hL : ∀ k, sL N (k + j) M = sL N k M') (hs : SnM M' cs' st' on' true) (hR : Rs (cs', st') (cs ++ c, st)) (hc : CndAt b S' nl c.length r c) (h1 : 1 ≤ c.length) (xo : Xo q S S') (x : Ext S0 S) (sm : mSm sk M0 M') (hf : fr + j ≤ fr') (k1 : S'.2.2.1 + 9 * fr ≤ S.2.2.1 + 9 * fr') (k2 : S'.2.2.2 + 110 * fr ≤ S.2.2.2 + 110 * fr') : SS N b A S0 M0 q a nl n lim wi Rs (fun _ => True) S M fr cs st oc := by
  obtain ⟨S'', e, r1, xo2, z⟩ := c_237 (N := N) (ρ0 := ρ0) (ρ1 := ρ1) (ρ2 := ρ2) (ρ3 := ρ3) hEq h' hw (some r)
  have xo3 := xo.tr xo2
  refine ⟨r, S'', M', c, cs', st', on', fr', t', j, eo.trans e, hL, r1, trivial, hs, hR, hc.fx (h'.xf xo2), h1, xo3, xo3.ext x hq, sm, hf, ?_, ?_⟩
  · rw [z]; exact k1
  · rw [z]; exact k2
theorem y_so (cx : SCx E N b A S0 M0 q a nl l0 f0) (x : Ext S0 S) {S3 : GS} {M3 : MS} {fr3 i : Nat} {t3 : Tk} {oc : Option ((Option Nat ⊕ Nat) × GS)} (hi : i = 0 ∨ i = 1) (hw : wi < 8) (h55 : M.1 55 = Int32.ofNat 0) (hc : oc = bX25_says_157 E N ρ0 ρ1 ρ2 ρ3 q (put b A S3) (bI (decide (i = 12))) (bI (decide (i = 9))) (bI (decide (i = 0))) (bI (decide (i = 0) || decide (i = 1))) (x5t i) (x6t i)) (hm : fX5_operand N M = opT N M3 (bI (decide (i = 9))) (bI (decide (i = 12))) (x7t i)) (h3 : Rd b A S3 M3 q 18 (sEx a (on + 1) (wi + 1)) n lim fr3 t3) (hs : SnM M3 cs st (on + 1) false) (hb2 : cs.length + st.length + 2 ≤ 2 * (on + 1)) (xo : Xo q S S3) (sm : mSm sk M0 M3) (hf : fr + 1 ≤ fr3) (k1 : S3.2.2.1 ≤ S.2.2.1 + 4) (k2 : S3.2.2.2 ≤ S.2.2.2 + 40) : SS N b A S0 M0 q a nl n lim wi Rs (fun _ => True) S M fr cs st oc := by
  obtain ⟨kok, hN, hq, hr, hl, ha, h6⟩ := cx
  have hE := kok.1
  have hb0 := kok.2.1
  have x3 := xo.ext x hq
  have hb : b + 111 ≤ S3.2.1 := Nat.le_trans hb0 x3.1
  have hEq : E.1 ≤ q := by omega
  have hq3 := h3.lt
  have hlen : cs.length + st.length ≤ 40 := by have := hs.2.2.2.2.2.2.2.2.1; omega
  obtain ⟨S4, hS4⟩ : ∃ S4, S4 = gpush S3 (.inr (20, gdf 20)) (gdf 20).length := ⟨_, rfl⟩
  have x4 : Ext S3 S4 := by rw [hS4]; exact Ext.push _ _ _
  have c4 : Cel b S4 S3.2.1 (.inr (20, [.int (Int32.ofNat 0)])) := by rw [hS4]; exact Cel.push hb _ _
  have z4 : S4.2 = (S3.2.1 + 1, S3.2.2.1 + 1, S3.2.2.2 + 1) := by rw [hS4]; rfl
  obtain ⟨v, hv, hv2⟩ : ∃ v, v = bI (decide (i = 0)) ∧ (v = Int32.ofNat 0 ∨ v = Int32.ofNat 1) := ⟨_, rfl, by cases decide (i = 0); exact Or.inl rfl; exact Or.inr rfl⟩
  obtain ⟨S5, hS5⟩ : ∃ S5, S5 = gup S4 S3.2.1 (.inr (20, [.int v])) := ⟨_, rfl⟩
  have c5 : Cel b S5 S3.2.1 (.inr (20, [.int v])) := by rw [hS5]; exact c4.up _
  have w1 := fun {β : Type} (K : GS → Option β) => w20_101 (E := E) c4 (show E.1 ≤ S3.2.1 by omega) A (.int v) K
  have h4 := h3.ext x4
  have h5 : Rd b A S5 M3 q 18 (sEx a (on + 1) (wi + 1)) n lim fr3 t3 := by rw [hS5]; exact h4.up c4.1 rfl (by omega) _
  have xo5 : Xo q S S5 := by rw [hS5]; exact (xo.tr x4.xo).gu xo.1 _
  have s4 := hs.wh (by omega)
  obtain ⟨M5, m1, m2, m3, m4, m5⟩ := m_code (N := N) (M := mF M3 55 (Int32.ofNat 1)) s4.1 s4.2.1 (by omega) (i, 0, 0)
  have mz : mzt v = fun (K : Option (Int32 × GS)) => K := by
    funext K
    rcases hv2 with q | q <;> rw [q]
    · exact mzt_0 K
    · exact mzt_1 K
  have cc : oc = bX25_says_237 E N ρ0 ρ1 ρ2 ρ3 q (put b A S5) (some S3.2.1) := by
    rw [hc]
    have pre : bX25_says_157 E N ρ0 ρ1 ρ2 ρ3 q (put b A S3) (bI (decide (i = 12))) (bI (decide (i = 9))) (bI (decide (i = 0))) (bI (decide (i = 0) || decide (i = 1))) (x5t i) (x6t i) = gnw (put b A S3) 20 (fun a_13 S_12 => bX25_says_194 E N ρ0 ρ1 ρ2 ρ3 q S_12 v (some a_13)) := by
      rw [hv]
      rcases hi with rfl | rfl <;> rfl
    rw [pre, gnw_n hb, ← hS4]
    simp only [bX25_says_194, bX25_says_199, bX28_init_0, fX28_init, bX26_init_0, fX26_init, pq_lit]
    simp (disch := omega) only [mz, ↓w1, ← hS5, ↓gbd_s, gbd_s, ↓gbx_s, gbx_s, ↓gnn_s, ↓grf_s, eq_self, ↓reduceIte, Nat.reduceEqDiff, Nat.reduceLeDiff, Nat.reduceLT, Nat.reduceMul, Nat.reduceAdd, not_true_eq_false, not_false_eq_true, Bool.false_eq_true, pq_lit, pq_add, pq_le, pq_lt, pq_eq, pq_en, pq_ne, pq_nle, pq_nlt, pq_len, pq_ltn, pB_z, pB_o, mzt_0, mzt_1, mzt_B]
  have mm : fX5_operand N M = some (Int32.ofNat 1, M5) := by
    rw [hm]
    have pre : opT N M3 (bI (decide (i = 9))) (bI (decide (i = 12))) (x7t i) = mbd (fX5_code N (mF M3 55 (Int32.ofNat 1)) (Int32.ofNat i) (Int32.ofNat 0) (Int32.ofNat 0)) (fun _ S_42 => mzt (Int32.ofNat 1) (some (Int32.ofNat 1, S_42))) := by
      rcases hi with rfl | rfl <;> rfl
    rw [pre, mbd_h m5]
    exact mzt_1 _
  refine s_fin (M' := M5) (c := [(i, 0, 0)]) (cs' := cs ++ [(i, 0, 0)]) (st' := st) (j := 1) hEq hq hw (h5.mm (fun k hk => ?_) ?_ ?_) cc (fun k => sL_o h55 mm) (s4.cd m1 m3 m4 (by show cs.length + st.length + 1 + 1 ≤ _; omega)) rfl ?_ (Nat.le_refl _) xo5 x ((sm.tr (mSm.rf.mF _ (by decide))).tr (m1.su (by decide))) hf ?_ ?_
  · rw [(m1.2 k (fun q => by
      simp only [List.mem_cons, List.not_mem_nil, or_false] at hk q; omega)).1, mF_ne _ _ (by rintro rfl; revert hk; decide)]
  · rw [(m1.2 1 (by decide)).2]; rfl
  · rw [m2]; rfl
  · show CndAt b S5 nl 1 S3.2.1 [(i, 0, 0)]
    rcases hi with rfl | rfl
    · rw [show v = Int32.ofNat 1 from hv] at c5
      exact Or.inr (Or.inr (Or.inr (Or.inl ⟨c5, rfl⟩)))
    · rw [show v = Int32.ofNat 0 from hv] at c5
      exact Or.inr (Or.inr (Or.inr (Or.inr (Or.inl ⟨c5, rfl⟩))))
  · rw [hS5]; show S4.2.2.1 + _ ≤ _; rw [z4]; show S3.2.2.1 + 1 + _ ≤ _; omega
  · rw [hS5]; show S4.2.2.2 + _ ≤ _; rw [z4]; show S3.2.2.2 + 1 + _ ≤ _; omega
end SE
