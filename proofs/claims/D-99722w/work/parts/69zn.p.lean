/-! maps: a land's own cell; the reader's own calls; a name not yet taken -/
theorem mSn.res {ks : List Nat} {M M' : MS} (h : mSn ks M M') (r : ResR M) : ResR M' := fun k w hk => by rw [h.2.1 10 (by omega)]; exact r k w hk
section MD
variable {E : gE} {N b : Nat} {A : FA} {S0 S S' : GS} {M M' : MS} {h h' : St} {w w' : Int32} {q a n lim fr : Nat} {d : AD} {ee : Ee} {t : Tk}
theorem VB.bit (z : VB h w) {k : Nat} (hk : k < nL h) : VB h (w ||| p1 k) := by
  obtain ⟨z1, z2, z3, z4, v, v1, v2⟩ := z
  refine ⟨z1, z2, z3, z4, v ||| 2 ^ k, Nat.or_lt_two_pow v1 (pw_le hk), ?_⟩
  rw [v2, p1_n k (by omega), or_n]
theorem VB.sto (z : VB h w) {k x : Nat} (hk : k < nL h) (hx : x ≤ 99) : VB (upd h (17 + k) (Int32.ofNat x)) w := by
  obtain ⟨⟨a1, a2, a3, a4, a5, a6⟩, z2, z3, z4, z5⟩ := z
  have n1 : nL (upd h (17 + k) (Int32.ofNat x)) = nL h := upd_nL (by omega)
  have n2 : nR (upd h (17 + k) (Int32.ofNat x)) = nR h := upd_nR (by omega)
  have n3 : nP (upd h (17 + k) (Int32.ofNat x)) = nP h := upd_nP (by omega)
  refine ⟨⟨by rw [n1, upd_o _ _ (by omega)]; exact a1, by omega, by rw [n2, upd_o _ _ (by omega)]; exact a3, by omega, by rw [n3, upd_o _ _ (by omega)]; exact a5, by omega⟩, fun l hl => ?_, fun r hr => ?_, fun p hp => ?_, by rw [n1]; exact z5⟩
  · obtain ⟨b1, b2, b3, b4, b5⟩ := z2 l hl
    rw [n1]
    refine ⟨by rw [upd_o _ _ (by omega)]; exact b1, by rw [upd_o _ _ (by omega)]; exact b2, ?_, by rw [upd_o _ _ (by omega)]; exact b4, fun q => by rw [upd_o _ _ (by omega), upd_o _ _ (by omega)]; exact b5 q⟩
    by_cases e : l = k
    · subst e; exact ⟨x, hx, upd_s _ _ _⟩
    · rw [upd_o _ _ (by omega)]; exact b3
  · rw [n1, upd_o _ _ (by omega), upd_o _ _ (by omega)]; exact z3 r (by omega)
  · rw [n1, n3, upd_o _ _ (by omega), upd_o _ _ (by omega)]; exact z4 p hp
theorem VB.tre (z : VB h w) {k y : Nat} (hk : k < nL h) (hy : y < nL h) : VB (upd h (72 + k) (h (72 + k) ||| p1 y)) w := by
  obtain ⟨⟨a1, a2, a3, a4, a5, a6⟩, z2, z3, z4, z5⟩ := z
  obtain ⟨v, v1, v2⟩ := (z2 k (by omega)).2.2.2.1
  have e : h (72 + k) ||| p1 y = Int32.ofNat (v ||| 2 ^ y) := by rw [v2, p1_n y (by omega), or_n]
  rw [e]
  have hv : v ||| 2 ^ y < 128 := Nat.or_lt_two_pow (n := 7) v1 (Nat.pow_lt_pow_right (by omega) (by omega))
  obtain ⟨x, hx⟩ : ∃ x, x = v ||| 2 ^ y := ⟨_, rfl⟩
  rw [← hx] at hv ⊢
  have n1 : nL (upd h (72 + k) (Int32.ofNat x)) = nL h := upd_nL (by omega)
  have n2 : nR (upd h (72 + k) (Int32.ofNat x)) = nR h := upd_nR (by omega)
  have n3 : nP (upd h (72 + k) (Int32.ofNat x)) = nP h := upd_nP (by omega)
  refine ⟨⟨by rw [n1, upd_o _ _ (by omega)]; exact a1, by omega, by rw [n2, upd_o _ _ (by omega)]; exact a3, by omega, by rw [n3, upd_o _ _ (by omega)]; exact a5, by omega⟩, fun l hl => ?_, fun r hr => ?_, fun p hp => ?_, by rw [n1]; exact z5⟩
  · obtain ⟨b1, b2, b3, b4, b5⟩ := z2 l hl
    rw [n1]
    refine ⟨by rw [upd_o _ _ (by omega)]; exact b1, by rw [upd_o _ _ (by omega)]; exact b2, by rw [upd_o _ _ (by omega)]; exact b3, ?_, fun q => by rw [upd_o _ _ (by omega), upd_o _ _ (by omega)]; exact b5 q⟩
    by_cases e : l = k
    · subst e; exact ⟨x, hv, upd_s _ _ _⟩
    · rw [upd_o _ _ (by omega)]; exact b4
  · rw [n1, upd_o _ _ (by omega), upd_o _ _ (by omega)]; exact z3 r (by omega)
  · rw [n1, n3, upd_o _ _ (by omega), upd_o _ _ (by omega)]; exact z4 p hp
theorem MB.lc (z : MB E b S0 S M a d ee) {k : Nat} (hk : k < nL (M.2.2.1 7)) : Cel b S (d.2.1 k) (.inr (6, [.ref (d.2.2.2.2.1 k), .int (M.2.2.1 7 (3 + k)), .int (M.2.2.1 7 (10 + k)), .int (M.2.2.1 7 (17 + k)), .int (M.2.2.1 7 (72 + k)), .int (pB (bt (M.1 20) (Int32.ofNat k) = true))])) ∧ S0.2.1 ≤ d.2.1 k := ⟨(z.2.1.2.1 k hk).1, (z.2.1.2.1 k hk).2.1⟩
theorem MB.setL (z : MB E b S0 S M a d ee) {k : Nat} (hk : k < nL (M.2.2.1 7)) (x0 : Ext S0 S) (o : ∀ i, i ≠ 17 + k → i ≠ 72 + k → M'.2.2.1 7 i = M.2.2.1 7 i) (ow : ∀ l, l < 7 → l ≠ k → bt (M'.1 20) (Int32.ofNat l) = bt (M.1 20) (Int32.ofNat l)) (vb : VB (M'.2.2.1 7) (M'.1 20)) (e19 : M'.1 19 = M.1 19) (e9 : M'.2.2.2 9 = M.2.2.2 9) (eS : S' = gup S (d.2.1 k) (.inr (6, [.ref (d.2.2.2.2.1 k), .int (M'.2.2.1 7 (3 + k)), .int (M'.2.2.1 7 (10 + k)), .int (M'.2.2.1 7 (17 + k)), .int (M'.2.2.1 7 (72 + k)), .int (pB (bt (M'.1 20) (Int32.ofNat k) = true))]))) : MB E b S0 S' M' a d ee ∧ Fx S S' ∧ Ext S0 S' ∧ (∀ a fs, Cel b S a (.inr (4, fs)) → Cel b S' a (.inr (4, fs))) := by
  obtain ⟨cl, cl0⟩ := z.lc hk
  obtain ⟨z1, z2, z3, z4, z5, z6, z7, z8, z9⟩ := z
  obtain ⟨h, eh⟩ : ∃ h, h = M.2.2.1 7 := ⟨_, rfl⟩
  obtain ⟨h', eh'⟩ : ∃ h', h' = M'.2.2.1 7 := ⟨_, rfl⟩
  rw [← eh] at hk o z2 z3 z4 z9 cl
  rw [← eh'] at o vb eS
  obtain ⟨⟨_, c0⟩, _, _, d0⟩ := z2.1.cl
  obtain ⟨⟨_, c1⟩, _, _, d1⟩ := z3.1.cl
  obtain ⟨⟨_, c2⟩, _, _, d2⟩ := z4.1.cl
  have h7 := z9.1.2.1
  have n1 : nL h' = nL h := by unfold nL; rw [o 0 (by omega) (by omega)]
  have n2 : nR h' = nR h := by unfold nR; rw [o 1 (by omega) (by omega)]
  have n3 : nP h' = nP h := by unfold nP; rw [o 2 (by omega) (by omega)]
  have hf : Fx S S' := by
    rw [eS]
    refine ⟨Nat.le_refl _, fun a' e0 ha' he0 hm => ?_⟩
    have ne : a' ≠ d.2.1 k := by
      rintro rfl
      rw [cl.1] at he0
      injection he0 with he0
      rw [← he0] at hm
      cases hm
    show va_up S.1 (d.2.1 k) _ a' = _
    unfold va_up; rw [if_neg ne]
  have kp : ∀ a' c', Cel b S a' c' → a' ≠ d.2.1 k → Cel b S' a' c' := fun a' c' y ne => by rw [eS]; exact y.uo ne _
  refine ⟨⟨?_, ?_, ?_, ?_, z5, z6, z7, z8, by rw [← eh']; exact vb⟩, hf, by rw [eS]; exact x0.gup cl0, fun a' fs' y => kp _ _ y (y.nc cl (by omega))⟩
  · rw [e19]; exact kp _ _ z1 (z1.nc cl (by omega))
  · rw [← eh', e9]
    unfold LnB
    rw [n1]
    refine ⟨z2.1.kp (fun c y => kp _ _ y (c0.nc cl (by omega))) (fun c y => kp _ _ y (Ne.symm (cl.na d0))), fun l hl => ?_, z2.2.2⟩
    obtain ⟨y1, y2, u, y3, y4, y5⟩ := z2.2.1 l hl
    refine ⟨?_, y2, u, y3.fx hf, y4, y5⟩
    by_cases e : l = k
    · subst e
      rw [eS]; exact cl.up _
    · rw [o (3 + l) (by omega) (by omega), o (10 + l) (by omega) (by omega), o (17 + l) (by omega) (by omega), o (72 + l) (by omega) (by omega), ow l (by omega) e]
      exact kp _ _ y1 (fun q => e (z2.2.2 l k hl hk q))
  · rw [← eh']
    have := z9.1.2.2.2.1
    exact z3.ch hf (fun c y => kp _ _ y (c1.nc cl (by omega))) (fun c y => kp _ _ y (Ne.symm (cl.na d1))) n2 (fun r hr => ⟨o _ (by omega) (by omega), o _ (by omega) (by omega), o _ (by omega) (by omega), o _ (by omega) (by omega)⟩)
  · rw [← eh', e9]
    have := z9.1.2.2.2.2.2
    exact z4.ch hf (fun c y => kp _ _ y (c2.nc cl (by omega))) (fun c y => kp _ _ y (Ne.symm (cl.na d2))) n3 (fun r hr => ⟨o _ (by omega) (by omega), o _ (by omega) (by omega), rfl⟩)
theorem v4_is (h : Rd b A S M q 4 (mEx a) n lim fr t) (x : Option Nat) : vInchBorders_MapReader_is__Ljava_lang_String__Z E N (put b A S) (some q) x = fX6_is E N (put b A S) q x := by
  obtain ⟨hk, fs, c⟩ := h.cl
  simp only [vInchBorders_MapReader_is__Ljava_lang_String__Z]; rw [kc c]; rfl
theorem v4_go (h : Rd b A S M q 4 (mEx a) n lim fr t)  : vInchBorders_MapReader_go___V E N (put b A S) (some q)  = fX6_go E N (put b A S) q  := by
  obtain ⟨hk, fs, c⟩ := h.cl
  simp only [vInchBorders_MapReader_go___V]; rw [kc c]; rfl
theorem v4_need (h : Rd b A S M q 4 (mEx a) n lim fr t) (x y : Int32) : vInchBorders_MapReader_need__ZI_V E N (put b A S) (some q) x y = fX6_need E N (put b A S) q x y := by
  obtain ⟨hk, fs, c⟩ := h.cl
  simp only [vInchBorders_MapReader_need__ZI_V]; rw [kc c]; rfl
theorem v4_number (h : Rd b A S M q 4 (mEx a) n lim fr t) (x y : Int32) : vInchBorders_MapReader_number__II_I E N (put b A S) (some q) x y = fX6_number E N (put b A S) q x y := by
  obtain ⟨hk, fs, c⟩ := h.cl
  simp only [vInchBorders_MapReader_number__II_I]; rw [kc c]; rfl
theorem v4_one (h : Rd b A S M q 4 (mEx a) n lim fr t) (x : Option Nat) : vInchBorders_MapReader_one__Ljava_util_ArrayList__I E N (put b A S) (some q) x = fX6_one E N (put b A S) q x := by
  obtain ⟨hk, fs, c⟩ := h.cl
  simp only [vInchBorders_MapReader_one__Ljava_util_ArrayList__I]; rw [kc c]; rfl
theorem v4_hold (h : Rd b A S M q 4 (mEx a) n lim fr t) (x : Option Nat) : vInchBorders_MapReader_hold__Ljava_util_ArrayList__I E N (put b A S) (some q) x = fX6_hold E N (put b A S) q x := by
  obtain ⟨hk, fs, c⟩ := h.cl
  simp only [vInchBorders_MapReader_hold__Ljava_util_ArrayList__I]; rw [kc c]; rfl
theorem v4_end (h : Rd b A S M q 4 (mEx a) n lim fr t)  : vInchBorders_MapReader_end___V E N (put b A S) (some q)  = fX6_end E N (put b A S) q  := by
  obtain ⟨hk, fs, c⟩ := h.cl
  simp only [vInchBorders_MapReader_end___V]; rw [kc c]; rfl
theorem v4_find (h : Rd b A S M q 4 (mEx a) n lim fr t) (x : Option Nat) : vInchBorders_MapReader_find__Ljava_util_ArrayList__I E N (put b A S) (some q) x = fX6_find E N (put b A S) q x := by
  obtain ⟨hk, fs, c⟩ := h.cl
  simp only [vInchBorders_MapReader_find__Ljava_util_ArrayList__I]; rw [kc c]; rfl
theorem v4_isName (h : Rd b A S M q 4 (mEx a) n lim fr t)  : vInchBorders_MapReader_isName___Z E N (put b A S) (some q)  = fX6_isName E N (put b A S) q  := by
  obtain ⟨hk, fs, c⟩ := h.cl
  simp only [vInchBorders_MapReader_isName___Z]; rw [kc c]; rfl
theorem v4_first (h : Rd b A S M q 4 (mEx a) n lim fr t) (x y : Int32) : vInchBorders_MapReader_first__II_V E N (put b A S) (some q) x y = fX7_first E N (put b A S) q x y := by
  obtain ⟨hk, fs, c⟩ := h.cl
  simp only [vInchBorders_MapReader_first__II_V]; rw [kc c]; rfl
theorem v4_fresh (h : Rd b A S M q 4 (mEx a) n lim fr t)  : vInchBorders_MapReader_fresh___Ljava_lang_String_ E N (put b A S) (some q)  = fX7_fresh E N (put b A S) q  := by
  obtain ⟨hk, fs, c⟩ := h.cl
  simp only [vInchBorders_MapReader_fresh___Ljava_lang_String_]; rw [kc c]; rfl
theorem v4_land (h : Rd b A S M q 4 (mEx a) n lim fr t)  : vInchBorders_MapReader_land___V E N (put b A S) (some q)  = fX7_land E N (put b A S) q  := by
  obtain ⟨hk, fs, c⟩ := h.cl
  simp only [vInchBorders_MapReader_land___V]; rw [kc c]; rfl
theorem v4_store (h : Rd b A S M q 4 (mEx a) n lim fr t)  : vInchBorders_MapReader_store___V E N (put b A S) (some q)  = fX7_store E N (put b A S) q  := by
  obtain ⟨hk, fs, c⟩ := h.cl
  simp only [vInchBorders_MapReader_store___V]; rw [kc c]; rfl
theorem v4_road (h : Rd b A S M q 4 (mEx a) n lim fr t)  : vInchBorders_MapReader_road___V E N (put b A S) (some q)  = fX7_road E N (put b A S) q  := by
  obtain ⟨hk, fs, c⟩ := h.cl
  simp only [vInchBorders_MapReader_road___V]; rw [kc c]; rfl
theorem v4_treaty (h : Rd b A S M q 4 (mEx a) n lim fr t)  : vInchBorders_MapReader_treaty___V E N (put b A S) (some q)  = fX7_treaty E N (put b A S) q  := by
  obtain ⟨hk, fs, c⟩ := h.cl
  simp only [vInchBorders_MapReader_treaty___V]; rw [kc c]; rfl
theorem v4_person (h : Rd b A S M q 4 (mEx a) n lim fr t)  : vInchBorders_MapReader_person___V E N (put b A S) (some q)  = fX7_person E N (put b A S) q  := by
  obtain ⟨hk, fs, c⟩ := h.cl
  simp only [vInchBorders_MapReader_person___V]; rw [kc c]; rfl
theorem v4_line (h : Rd b A S M q 4 (mEx a) n lim fr t)  : vInchBorders_MapReader_line___V E N (put b A S) (some q)  = fX7_line E N (put b A S) q  := by
  obtain ⟨hk, fs, c⟩ := h.cl
  simp only [vInchBorders_MapReader_line___V]; rw [kc c]; rfl
theorem v4_52 (h : Rd b A S M q 4 (mEx a) n lim fr t) {β : Type} (K : Option Nat → Option β) : ggr (put b A S) (some q) 52 K = K (some a) := by
  obtain ⟨p, kd, nu, sg, wr, c, _⟩ := h
  exact ggr_as (k := 9) (c.at A) rfl rfl K
theorem mQ_ne (M : MS) (f : Nat → Int64) {k j : Nat} (hk : j ≠ k) : (mQ M k f).2.2.2 j = M.2.2.2 j := by
  show va_up M.2.2.2 k f j = _
  unfold va_up; rw [if_neg hk]
theorem updL_s (f : Nat → Int64) (i : Nat) (v : Int64) : vp_updL f i v i = v := by unfold vp_updL; rw [if_pos rfl]
theorem updL_o (f : Nat → Int64) {i j : Nat} (v : Int64) (h : j ≠ i) : vp_updL f i v j = f j := by unfold vp_updL; rw [if_neg h]
theorem j_fresh (kok : KOk E b S0) (x : Ext S0 S) (hq : S0.2.1 ≤ q) (hN : 3000 ≤ N) (hr : ResR M) (h : Rd b A S M q 4 (mEx a) n lim fr t) (z : MB E b S0 S M a d ee) {r : Nat} (hr26 : r < 26) (hr13 : 13 ≤ r) : (∃ S' M' fr' t' nm u, fX7_fresh E N (put b A S) q = some (Sum.inl (some nm), put b A S') ∧ fX5_fresh N M (Int32.ofNat r) = some (Int32.ofNat 1, M') ∧ StrAt b S' nm u ∧ Wd u ∧ Rd b A S' M' q 4 (mEx a) n lim fr' t' ∧ fr + 1 ≤ fr' ∧ Xo q S S' ∧ Fx S S' ∧ (∀ k, k ∉ [4, 11, 12, 13, 14] → M'.1 k = M.1 k ∧ M'.2.2.1 k = M.2.2.1 k) ∧ M'.2.2.2 9 r = enc u ∧ (∀ i, i ≠ r → M'.2.2.2 9 i = M.2.2.2 9 i) ∧ mSn rdk M M' ∧ S'.2.2.1 ≤ S.2.2.1 + 11 ∧ S'.2.2.2 ≤ S.2.2.2 + 130) ∨ JF b A S0 M (S.2.2.1 + 8) (S.2.2.2 + 98) (fX7_fresh E N (put b A S) q) (fX5_fresh N M (Int32.ofNat r)) := by
  have hE := kok.1
  have hb0 := kok.2.1
  have hb : b + 111 ≤ S.2.1 := Nat.le_trans hb0 x.1
  obtain ⟨hk, fs, c⟩ := h.cl
  obtain ⟨S1, nc, x1, k1, k2⟩ := j_nmC (N := N) (kok.ext x) h (by omega)
  have nm := j_nmM (N := N) hr h (by omega)
  have h1 := h.ext x1
  have hb1 : b + 111 ≤ S1.2.1 := Nat.le_trans hb x1.1
  have z1 := z.ex c x1
  have r25 := fun {β : Type} (K : Option Nat → Option β) => r1_25 z1.1 A K
  have r27 := fun {β : Type} (K : Option Nat → Option β) => r1_27 z1.1 A K
  have r52 := fun {β : Type} (K : Option Nat → Option β) => v4_52 h1 K
  have vb := z.2.2.2.2.2.2.2.2.1
  have n1 := c_need1 (E := E) (N := N) (b := b) (A := A) (S := S1) (q := q) (Int32.ofNat 1)
  have n3 := c_need1 (E := E) (N := N) (b := b) (A := A) (S := S1) (q := q) (Int32.ofNat 3)
  cases en : isNm t with
  | false =>
    rw [en] at nc nm
    obtain ⟨S2, b1, b2, x2, fl, y1, y2⟩ := j_bad (E := E) (N := N) hE hb1 h1 (k := 1) (Or.inl rfl)
    refine Or.inr (JF.bad (M1 := M) (x.tr x1) x2 fl mSn.rf ?_ ?_ (by omega) (by omega))
    · simp only [fX7_fresh, bX7_fresh_0, bX7_fresh_5, pq_lit]
      simp (disch := omega) only [v4_isName h, ↓gbd_h (nc), nc, bI_f, v4_need h1, ↓gbx_x b1, ↓gbd_s, gbd_s, ↓gbx_s, gbx_s, ↓gnn_s, ↓grf_s, eq_self, ↓reduceIte, Nat.reduceEqDiff, Nat.reduceLeDiff, Nat.reduceLT, Nat.reduceMul, Nat.reduceAdd, not_true_eq_false, not_false_eq_true, Bool.false_eq_true, pq_lit, pq_add, pq_le, pq_lt, pq_eq, pq_en, pq_ne, pq_nle, pq_nlt, pq_len, pq_ltn, pB_z, pB_o, mzt_0, mzt_1, mzt_B]
    · simp only [fX5_fresh, bX5_fresh_0, pq_lit]
      simp (disch := omega) only [↓mbd_h (nm), nm, bI_f, ↓mbd_h (b2), b2, ↓mbd_s, mbd_s, eq_self, ↓reduceIte, Nat.reduceEqDiff, Nat.reduceLeDiff, Nat.reduceLT, Nat.reduceMul, Nat.reduceAdd, not_true_eq_false, not_false_eq_true, Bool.false_eq_true, pq_lit, pq_add, pq_le, pq_lt, pq_eq, pq_en, pq_ne, pq_nle, pq_nlt, pq_len, pq_ltn, pB_z, pB_o, mzt_0, mzt_1, mzt_B]
  | true =>
    rw [en] at nc nm
    have ht : t.1 = 2 := (of_decide_eq_true en).1
    have hl := z1.nml (M' := M) (fun _ _ => rfl)
    have hp := z1.nmp (M' := M) (fun _ _ => rfl)
    obtain ⟨fc, fm⟩ := j_fnd (E := E) (N := N) h1 ht hl (by omega)
    obtain ⟨fc2, fm2⟩ := j_fnd (E := E) (N := N) h1 ht hp (by omega)
    have h7 := hl.2.1
    have h6 := hp.2.1
    obtain ⟨o1, o2⟩ := oI_m (nmF M 13 (nL (M.2.2.1 7)) 0) (fun k e => by have := nmF_lt _ _ _ e; omega)
    obtain ⟨o3, o4⟩ := oI_m (nmF M 20 (nP (M.2.2.1 7)) 0) (fun k e => by have := nmF_lt _ _ _ e; omega)
    obtain ⟨S2, b1, b2, x2, fl, y1, y2⟩ := j_bad (E := E) (N := N) hE hb1 h1 (k := 3) (Or.inr (by omega))
    obtain ⟨v1, hv1⟩ : ∃ v1, v1 = oI (nmF M 13 (nL (M.2.2.1 7)) 0) := ⟨_, rfl⟩
    obtain ⟨v2, hv2⟩ : ∃ v2, v2 = oI (nmF M 20 (nP (M.2.2.1 7)) 0) := ⟨_, rfl⟩
    rw [← hv1] at fc fm o1 o2
    rw [← hv2] at fc2 fm2 o3 o4
    have preC : fX7_fresh E N (put b A S) q = bX7_fresh_21 E N q (put b A S1) (some q) v1 := by
      simp only [fX7_fresh, bX7_fresh_0, bX7_fresh_5, bX7_fresh_9, pq_lit]
      simp (disch := omega) only [v4_isName h, ↓gbd_h (nc), nc, bI_t, v4_need h1, ↓gbx_h n1, ↓r52, ↓r25, v4_find h1, ↓gbd_h (fc), fc, ↓gbd_s, gbd_s, ↓gbx_s, gbx_s, ↓gnn_s, ↓grf_s, eq_self, ↓reduceIte, Nat.reduceEqDiff, Nat.reduceLeDiff, Nat.reduceLT, Nat.reduceMul, Nat.reduceAdd, not_true_eq_false, not_false_eq_true, Bool.false_eq_true, pq_lit, pq_add, pq_le, pq_lt, pq_eq, pq_en, pq_ne, pq_nle, pq_nlt, pq_len, pq_ltn, pB_z, pB_o, mzt_0, mzt_1, mzt_B]
    have preM : fX5_fresh N M (Int32.ofNat r) = if Int32.ofNat 0 ≤ v1 then bX5_fresh_43 N M else if v2 < Int32.ofNat 0 then mwrL M 9 26 (Int32.ofNat r) M.2.1 (fun S_17 => mbd (fX5_next N S_17) (fun _ S_20 => mzt (Int32.ofNat 1) (some (Int32.ofNat 1, S_20)))) else bX5_fresh_43 N M := by
      have a0 := vb.1
      have a2 := vb.2.2.2.2.1
      simp only [fX5_fresh, bX5_fresh_0, pq_lit]
      simp (disch := omega) only [↓mbd_h (nm), nm, bI_t, ↓mrd_n, mrd_n, a0, a2, ↓mbd_h (fm), fm, ↓mbd_h (fm2), fm2, ↓mbd_s, mbd_s, mzt_1, eq_self, ↓reduceIte, Nat.reduceEqDiff, pq_eq]
    have bad3 : bX5_fresh_43 N M = some (Int32.ofNat 0, mF (mF M 15 (Int32.ofNat 3)) 16 (Int32.ofNat fr)) := by
      simp only [bX5_fresh_43, pq_lit]
      simp (disch := omega) only [↓mbd_h (b2), b2, ↓mbd_s, mbd_s, eq_self, ↓reduceIte, Nat.reduceEqDiff, Nat.reduceLeDiff, Nat.reduceLT, Nat.reduceMul, Nat.reduceAdd, not_true_eq_false, not_false_eq_true, Bool.false_eq_true, pq_lit, pq_add, pq_le, pq_lt, pq_eq, pq_en, pq_ne, pq_nle, pq_nlt, pq_len, pq_ltn, pB_z, pB_o, mzt_0, mzt_1, mzt_B]
    by_cases q1 : nmF M 13 (nL (M.2.2.1 7)) 0 = none
    · have w1 : v1 = -Int32.ofNat 1 := o1.mpr q1
      have w1' : ¬ Int32.ofNat 0 ≤ v1 := fun e => o2.mp e q1
      by_cases q2 : nmF M 20 (nP (M.2.2.1 7)) 0 = none
      · have w2 : v2 = -Int32.ofNat 1 := o3.mpr q2
        have w2' : v2 < Int32.ofNat 0 := by rw [w2]; decide
        left
        obtain ⟨p, kd, nu, sg, wr, cq, g1, g2, g3, g4, g5, g6, g7, hk', g9, g10, g11, g12⟩ := h1
        have h1 : Rd b A S1 M q 4 (mEx a) n lim fr t := ⟨p, kd, nu, sg, wr, cq, g1, g2, g3, g4, g5, g6, g7, hk', g9, g10, g11, g12⟩
        have r51 := fun {β : Type} (K : Option Nat → Option β) => rd_51 hk' cq A K
        have tw : Wd t.2.1 ∧ StrAt b S1 wr t.2.1 ∧ M.2.1 = enc t.2.1 := by
          rcases g12 with h | h | h | h | h | h
          · omega
          · omega
          · exact h.2.2.2
          · omega
          · omega
          · omega
        obtain ⟨Mq, hMq⟩ : ∃ Mq, Mq = mQ M 9 (vp_updL (M.2.2.2 9) r (enc t.2.1)) := ⟨_, rfl⟩
        have hq1 : Rd b A S1 Mq q 4 (mEx a) n lim fr t := by rw [hMq]; exact h1.mm (fun _ _ => rfl) rfl rfl
        obtain ⟨S2, M2, fr2, t2, gc, gm, h2, hfr, xo, fx, sm, p1, p2⟩ := j_gw (E := E) (N := N) hE (by omega) hb1 (by omega) hq1 (by omega)
        refine ⟨S2, M2, fr2, t2, wr, t.2.1, ?_, ?_, tw.2.1.fx fx, tw.1, h2, hfr, x1.xo.tr xo, x1.fx.tr fx, fun k hk => ?_, ?_, fun i hi => ?_, ?_, by omega, by omega⟩
        · rw [preC, w1]
          simp only [bX7_fresh_21, bX7_fresh_36, bX7_fresh_45, bX7_fresh_49, bX7_fresh_58, pq_lit]
          simp (disch := omega) only [↓r52, ↓r27, v4_find h1, ↓gbd_h (fc2), fc2, w2, v4_need h1, ↓gbx_h n3, ↓r51, v4_go h1, ↓gbd_h (gc), gc, ↓gbd_s, gbd_s, ↓gbx_s, gbx_s, ↓gnn_s, ↓grf_s, eq_self, ↓reduceIte, Nat.reduceEqDiff, Nat.reduceLeDiff, Nat.reduceLT, Nat.reduceMul, Nat.reduceAdd, not_true_eq_false, not_false_eq_true, Bool.false_eq_true, pq_lit, pq_add, pq_le, pq_lt, pq_eq, pq_en, pq_ne, pq_nle, pq_nlt, pq_len, pq_ltn, pB_z, pB_o, mzt_0, mzt_1, mzt_B]
        · rw [preM, if_neg w1', if_pos w2', mwrL_n hr26 (by omega), ml_s, tw.2.2, ← hMq, mbd_h gm, mzt_1]
        · rw [(sm.2 k hk).1, (sm.2 k hk).2, hMq]; exact ⟨rfl, rfl⟩
        · rw [sm.1, hMq, mQ_e, updL_s]
        · rw [sm.1, hMq, mQ_e, updL_o _ _ hi]
        · have s1 : mSn rdk M Mq := by
            rw [hMq]
            exact ⟨fun _ _ => ⟨rfl, rfl⟩, fun k hk => mQ_ne _ _ hk, fun i hi => by rw [mQ_e, updL_o _ _ (by omega)]⟩
          exact s1.tr ((sm.su (by decide)).sn)
      · have w2 : ¬ v2 = -Int32.ofNat 1 := fun e => q2 (o3.mp e)
        have w2' : ¬ v2 < Int32.ofNat 0 := Int32.not_lt.mpr (o4.mpr q2)
        refine Or.inr (JF.bad (M1 := M) (x.tr x1) x2 fl mSn.rf ?_ ?_ (by omega) (by omega))
        · rw [preC, w1]
          simp only [bX7_fresh_21, bX7_fresh_36, bX7_fresh_44, bX7_fresh_45, pq_lit]
          simp (disch := omega) only [↓r52, ↓r27, v4_find h1, ↓gbd_h (fc2), fc2, w2, v4_need h1, ↓gbx_x b1, ↓gbd_s, gbd_s, ↓gbx_s, gbx_s, ↓gnn_s, ↓grf_s, eq_self, ↓reduceIte, Nat.reduceEqDiff, Nat.reduceLeDiff, Nat.reduceLT, Nat.reduceMul, Nat.reduceAdd, not_true_eq_false, not_false_eq_true, Bool.false_eq_true, pq_lit, pq_add, pq_le, pq_lt, pq_eq, pq_en, pq_ne, pq_nle, pq_nlt, pq_len, pq_ltn, pB_z, pB_o, mzt_0, mzt_1, mzt_B]
        · rw [preM, if_neg w1', if_neg w2', bad3]
    · have w1 : ¬ v1 = -Int32.ofNat 1 := fun e => q1 (o1.mp e)
      have w1' : Int32.ofNat 0 ≤ v1 := o2.mpr q1
      refine Or.inr (JF.bad (M1 := M) (x.tr x1) x2 fl mSn.rf ?_ ?_ (by omega) (by omega))
      · rw [preC]
        simp only [bX7_fresh_21, bX7_fresh_44, bX7_fresh_45, pq_lit]
        simp (disch := omega) only [w1, v4_need h1, ↓gbx_x b1, ↓gbd_s, gbd_s, ↓gbx_s, gbx_s, ↓gnn_s, ↓grf_s, eq_self, ↓reduceIte, Nat.reduceEqDiff, Nat.reduceLeDiff, Nat.reduceLT, Nat.reduceMul, Nat.reduceAdd, not_true_eq_false, not_false_eq_true, Bool.false_eq_true, pq_lit, pq_add, pq_le, pq_lt, pq_eq, pq_en, pq_ne, pq_nle, pq_nlt, pq_len, pq_ltn, pB_z, pB_o, mzt_0, mzt_1, mzt_B]
      · rw [preM, if_pos w1', bad3]
end MD
