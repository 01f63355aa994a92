/-! sentences: not, brackets; an operand as a whole -/
section SH
variable {E : gE} {N b : Nat} {A : FA} {S0 S : GS} {M0 M : MS} {q a nl l0 n lim fr on wi : Nat} {f0 : Nat → Nat} {t : Tk} {ρ0 ρ1 ρ2 ρ3 : GS → Option Nat → Option ((Option Nat ⊕ Nat) × GS)} {cs : List Cd} {st : List Nat}
theorem SF.tr {S1 : GS} {M1 : MS} {fr1 j1 : Nat} {oc : Option ((Option Nat ⊕ Nat) × GS)} (h : SF N b A S0 M0 lim S1 M1 fr1 oc) (hL : ∀ k, sL N (k + j1) M = sL N k M1) (hf : fr + j1 ≤ fr1) (k1 : S1.2.2.1 + 9 * fr ≤ S.2.2.1 + 9 * fr1) (k2 : S1.2.2.2 + 110 * fr ≤ S.2.2.2 + 110 * fr1) : SF N b A S0 M0 lim S M fr oc := by
  obtain ⟨fa, kd, pl, S', M', j, e1, e2, e3, e4, e5, e6, e7, e8, e9, e10⟩ := h
  refine ⟨fa, kd, pl, S', M', j + j1, e1, fun k => ?_, e3, e4, e5, e6, e7, by omega, by omega, by omega⟩
  rw [← Nat.add_assoc, hL, e2]
theorem SS.tr {R : List Cd × List Nat → List Cd × List Nat → Prop} {Q : Tk → Prop} {S1 : GS} {M1 : MS} {fr1 j1 : Nat} {oc : Option ((Option Nat ⊕ Nat) × GS)} (h : SS N b A S0 M0 q a nl n lim wi R Q S1 M1 fr1 cs st oc) (hL : ∀ k, sL N (k + j1) M = sL N k M1) (xo : Xo q S S1) (hf : fr + j1 ≤ fr1) (k1 : S1.2.2.1 + 9 * fr ≤ S.2.2.1 + 9 * fr1) (k2 : S1.2.2.2 + 110 * fr ≤ S.2.2.2 + 110 * fr1) : SS N b A S0 M0 q a nl n lim wi R Q S M fr cs st oc := by
  obtain ⟨r, S', M', c, cs', st', on', fr', t', j, e1, e2, e3, e4, e5, e6, e7, e8, e9, e10, e11, e12, e13, e14⟩ := h
  refine ⟨r, S', M', c, cs', st', on', fr', t', j + j1, e1, fun k => ?_, e3, e4, e5, e6, e7, e8, xo.tr e9, e10, e11, by omega, by omega, by omega⟩
  rw [← Nat.add_assoc, hL, e2]
theorem SF.oc {oc oc' : Option ((Option Nat ⊕ Nat) × GS)} (h : SF N b A S0 M0 lim S M fr oc) (e : ∀ fa S', oc = some (.inr fa, S') → oc' = some (.inr fa, S')) : SF N b A S0 M0 lim S M fr oc' := by
  obtain ⟨fa, kd, pl, S', M', j, e1, e2⟩ := h
  exact ⟨fa, kd, pl, S', M', j, e _ _ e1, e2⟩
theorem m_push {M3 : MS} (hs : SnM M3 cs st (on + 1) false) (hb2 : cs.length + st.length + 2 ≤ 2 * (on + 1)) {x : Nat} (hx : x = 20 ∨ x = 23) : ∃ M4, bX5_operand_103 N M3 (M3.1 53) (Int32.ofNat x) = some (Int32.ofNat 1, M4) ∧ SnM M4 cs (x :: st) (on + 1) false ∧ mSm [50, 53, 54] M3 M4 ∧ M4.2.1 = M3.2.1 := by
  have hs' := hs
  obtain ⟨h51, h8, h53, h50, h52, h54, h55, hlen, ho20, hx23⟩ := hs
  have ed : 1 + dpt (x :: st) = 1 + dpt st + 1 := by
    show 1 + ((if x = 20 ∨ x = 23 then 1 else 0) + dpt st) = _
    rw [if_pos hx]; omega
  refine ⟨mF (mF (mR M3 50 (upd (M3.2.2.1 50) st.length (Int32.ofNat x))) 53 (Int32.ofNat (st.length + 1))) 54 (Int32.ofNat (1 + dpt st + 1)), ?_, ?_, ?_, rfl⟩
  · simp only [bX5_operand_103, pq_lit]
    simp (disch := omega) only [h53, ↓mwr_n, mwr_n, ma_s, mA_i, ↓mpt, mF_ne, h54, ↓mbd_s, mbd_s, eq_self, ↓reduceIte, Nat.reduceEqDiff, Nat.reduceLeDiff, Nat.reduceLT, Nat.reduceMul, Nat.reduceAdd, not_true_eq_false, not_false_eq_true, Bool.false_eq_true, pq_lit, pq_add, pq_le, pq_lt, pq_eq, pq_en, pq_ne, pq_nle, pq_nlt, pq_len, pq_ltn, pB_z, pB_o, mzt_0, mzt_1, mzt_B]
  · refine hs'.psh (x := x) (by omega) rfl rfl rfl ?_ h52 ?_ h55 (by show cs.length + st.length + 1 + 0 ≤ _; omega) ho20
    · rw [mF_a, mF_a, mA_e]
    · rw [ed]; rfl
  · exact ((mSm.rf.mR _ (by decide)).mF _ (by decide)).mF _ (by decide)
theorem y_no (cx : SCx E N b A S0 M0 q a nl l0 f0) (x : Ext S0 S) {S3 : GS} {M3 : MS} {fr3 i : Nat} {t3 : Tk} {oc : Option ((Option Nat ⊕ Nat) × GS)} (hi : i = 9) (hw : wi < 8) (h55 : M.1 55 = Int32.ofNat 0) (hc : oc = bX25_says_157 E N ρ0 ρ1 ρ2 ρ3 q (put b A S3) (bI (decide (i = 12))) (bI (decide (i = 9))) (bI (decide (i = 0))) (bI (decide (i = 0) || decide (i = 1))) (x5t i) (x6t i)) (hm : fX5_operand N M = opT N M3 (bI (decide (i = 9))) (bI (decide (i = 12))) (x7t i)) (h3 : Rd b A S3 M3 q 18 (sEx a (on + 1) (wi + 1)) n lim fr3 t3) (hs : SnM M3 cs st (on + 1) false) (hb2 : cs.length + st.length + 2 ≤ 2 * (on + 1)) (xo : Xo q S S3) (sm : mSm sk M0 M3) (hf : fr + 1 ≤ fr3) (k1 : S3.2.2.1 ≤ S.2.2.1 + 4) (k2 : S3.2.2.2 ≤ S.2.2.2 + 40) (hd : dpt st = wi) (ih : ∀ (S : GS) (M : MS) (fr : Nat) (t : Tk) (on : Nat) (cs : List Cd) (st : List Nat), Ext S0 S → mSm sk M0 M → Rd b A S M q 18 (sEx a on (wi + 1)) n lim fr t → SnM M cs st on false → dpt st = wi + 1 → SP N b A S0 M0 q a nl n lim (wi + 1) Rs (fun _ => True) S M fr cs st (ρ2 (put b A S) (some q))) : SP N b A S0 M0 q a nl n lim wi Rs (fun _ => True) S M fr cs st oc := by
  have cx' := cx
  obtain ⟨kok, hN, hq, hr, hl, ⟨ln, y2, y3, ha⟩, h6⟩ := cx
  have hE := kok.1
  have hb0 := kok.2.1
  have x3 := xo.ext x hq
  have hb : b + 111 ≤ S3.2.1 := Nat.le_trans hb0 x3.1
  have hEq : E.1 ≤ q := by omega
  have hbq : b ≤ q := by omega
  have hq3 := h3.lt
  have hfl : fr3 ≤ lim := by
    obtain ⟨p, kd, nu, sg, wr, c, _, _, _, _, _, _, _, _, _, h10, _⟩ := h3
    exact h10
  have hlen : cs.length + st.length ≤ 40 := by have := hs.2.2.2.2.2.2.2.2.1; omega
  subst hi
  obtain ⟨S4, hS4⟩ : ∃ S4, S4 = gpush S3 (.inr (19, gdf 19)) (gdf 19).length := ⟨_, rfl⟩
  have x4 : Ext S3 S4 := by rw [hS4]; exact Ext.push _ _ _
  have c4 : Cel b S4 S3.2.1 (.inr (19, [.null])) := by rw [hS4]; exact Cel.push hb _ _
  have z4 : S4.2 = (S3.2.1 + 1, S3.2.2.1 + 1, S3.2.2.2 + 1) := by rw [hS4]; rfl
  have z41 : S4.2.2.1 = S3.2.2.1 + 1 := by rw [z4]
  have z42 : S4.2.2.2 = S3.2.2.2 + 1 := by rw [z4]
  obtain ⟨M4, e4, s4, sm4, w4⟩ := m_push (N := N) hs hb2 (x := 20) (Or.inl rfl)
  have mm : fX5_operand N M = some (Int32.ofNat 1, M4) := by rw [hm, ← e4]; rfl
  have preC : oc = gnw (put b A S3) 19 (fun a_15 S_14 => bX25_says_175 E N ρ0 ρ1 ρ2 ρ3 q S_14 (some a_15)) := hc
  rw [gnw_n hb, ← hS4] at preC
  have sm04 : mSm sk M0 M4 := sm.tr (sm4.su (by decide))
  have h4 : Rd b A S4 M4 q 18 (sEx a (on + 1) (wi + 1)) n lim fr3 t3 := (h3.ext x4).mm (fun k hk => (sm4.2 k (fun q => by
    simp only [List.mem_cons, List.not_mem_nil, or_false] at hk q; omega)).1) (sm4.2 1 (by decide)).2 w4
  have ed : dpt (20 :: st) = wi + 1 := by show 1 + dpt st = _; omega
  rcases ih S4 M4 fr3 t3 (on + 1) cs (20 :: st) (x3.tr x4) sm04 h4 s4 ed with ss | sf
  · left
    obtain ⟨r, S5, M5, c, cs', st', on', fr5, t5, j, e1, e2, h5, -, s5, hR, hcd, hl1, xo5, x05, sm5, hf5, p1, p2⟩ := ss
    have c5 : Cel b S5 S3.2.1 (.inr (19, [.null])) := xo5.cel c4 (by omega)
    obtain ⟨S6, hS6⟩ : ∃ S6, S6 = gup S5 S3.2.1 (.inr (19, [.ref r])) := ⟨_, rfl⟩
    have c6 : Cel b S6 S3.2.1 (.inr (19, [.ref r])) := by rw [hS6]; exact c5.up _
    have h6' : Rd b A S6 M5 q 18 (sEx a on' (wi + 1)) n lim fr5 t5 := by rw [hS6]; exact h5.up c5.1 rfl (by omega) _
    have xo6 : Xo q S S6 := by rw [hS6]; exact ((xo.tr x4.xo).tr xo5).gu xo.1 _
    have cd6 : CndAt b S6 nl c.length r c := by
      rw [hS6]
      refine hcd.up c5.1 ?_ _
      rintro (⟨_, h⟩ | ⟨_, _, _, h⟩ | ⟨_, h⟩ | ⟨_, _, h⟩ | ⟨_, _, _, h⟩) <;> injection h with h <;> injection h with h1 h2
      · injection h2 with h2; cases h2
      · omega
      · omega
      · omega
      · omega
    have w1 := fun {β : Type} (K : GS → Option β) => w19_100 (E := E) c5 (show E.1 ≤ S3.2.1 by omega) A (.ref r) K
    have cc : oc = bX25_says_237 E N ρ0 ρ1 ρ2 ρ3 q (put b A S6) (some S3.2.1) := by
      rw [preC]
      simp only [bX25_says_175, bX25_says_180, bX25_says_183, bX27_init_0, fX27_init, bX26_init_0, fX26_init, pq_lit]
      simp (disch := omega) only [↓gbx_h e1, g_rfs, ↓w1, ← hS6, ↓gbd_s, gbd_s, ↓gbx_s, gbx_s, ↓gnn_s, ↓grf_s, eq_self, ↓reduceIte, Nat.reduceEqDiff, Nat.reduceLeDiff, Nat.reduceLT, Nat.reduceMul, Nat.reduceAdd, not_true_eq_false, not_false_eq_true, Bool.false_eq_true, pq_lit, pq_add, pq_le, pq_lt, pq_eq, pq_en, pq_ne, pq_nle, pq_nlt, pq_len, pq_ltn, pB_z, pB_o, mzt_0, mzt_1, mzt_B]
    refine s_fin (c := c ++ [(20, 0, 0)]) (cs' := cs') (st' := st') (j := j + 1) hEq hq hw h6' cc (fun k => ?_) s5 ?_ ?_ ?_ xo6 x sm5 (by omega) ?_ ?_
    · rw [← Nat.add_assoc, sL_o h55 mm, e2]
    · have : nts cs' st' = nts (cs ++ c) (20 :: st) := hR
      show nts cs' st' = nts (cs ++ (c ++ [(20, 0, 0)])) st
      rw [this, ← List.append_assoc]
      rfl
    · rw [List.length_append]
      exact Or.inl ⟨r, c, c6, cd6, rfl⟩
    · rw [List.length_append]; simp only [List.length_cons, List.length_nil]; omega
    · rw [hS6]; show S5.2.2.1 + _ ≤ _; omega
    · rw [hS6]; show S5.2.2.2 + _ ≤ _; omega
  · right
    refine SF.tr (j1 := 1) (S1 := S4) (M1 := M4) (fr1 := fr3) (sf.oc (fun fa S' e => ?_)) (fun k => sL_o h55 mm) (by omega) (by omega) (by omega)
    rw [preC]
    simp only [bX25_says_175, pq_lit]
    simp (disch := omega) only [↓gbx_x e, ↓gbd_s, gbd_s, ↓gbx_s, gbx_s, ↓gnn_s, ↓grf_s, eq_self, ↓reduceIte, Nat.reduceEqDiff, Nat.reduceLeDiff, Nat.reduceLT, Nat.reduceMul, Nat.reduceAdd, not_true_eq_false, not_false_eq_true, Bool.false_eq_true, pq_lit, pq_add, pq_le, pq_lt, pq_eq, pq_en, pq_ne, pq_nle, pq_nlt, pq_len, pq_ltn, pB_z, pB_o, mzt_0, mzt_1, mzt_B]
theorem y_br (cx : SCx E N b A S0 M0 q a nl l0 f0) (x : Ext S0 S) {S3 : GS} {M3 : MS} {fr3 i : Nat} {t3 : Tk} {oc : Option ((Option Nat ⊕ Nat) × GS)} (hi : i = 12) (hw : wi < 8) (h55 : M.1 55 = Int32.ofNat 0) (hc : oc = bX25_says_157 E N ρ0 ρ1 ρ2 ρ3 q (put b A S3) (bI (decide (i = 12))) (bI (decide (i = 9))) (bI (decide (i = 0))) (bI (decide (i = 0) || decide (i = 1))) (x5t i) (x6t i)) (hm : fX5_operand N M = opT N M3 (bI (decide (i = 9))) (bI (decide (i = 12))) (x7t i)) (h3 : Rd b A S3 M3 q 18 (sEx a (on + 1) (wi + 1)) n lim fr3 t3) (hs : SnM M3 cs st (on + 1) false) (hb2 : cs.length + st.length + 2 ≤ 2 * (on + 1)) (xo : Xo q S S3) (sm : mSm sk M0 M3) (hf : fr + 1 ≤ fr3) (k1 : S3.2.2.1 ≤ S.2.2.1 + 4) (k2 : S3.2.2.2 ≤ S.2.2.2 + 40) (hd : dpt st = wi) (ih : ∀ (S : GS) (M : MS) (fr : Nat) (t : Tk) (on : Nat) (cs : List Cd) (st : List Nat), Ext S0 S → mSm sk M0 M → Rd b A S M q 18 (sEx a on (wi + 1)) n lim fr t → SnM M cs (23 :: st) on false → dpt (23 :: st) = wi + 1 → SP N b A S0 M0 q a nl n lim (wi + 1) (fun z z0 => z = z0) (fun _ => True) S M fr cs st (ρ1 (put b A S) (some q))) : SP N b A S0 M0 q a nl n lim wi Rs (fun _ => True) S M fr cs st oc := by
  have cx' := cx
  obtain ⟨kok, hN, hq, hr, hl, ⟨ln, y2, y3, ha⟩, h6⟩ := cx
  have hE := kok.1
  have hb0 := kok.2.1
  have x3 := xo.ext x hq
  have hb : b + 111 ≤ S3.2.1 := Nat.le_trans hb0 x3.1
  have hEq : E.1 ≤ q := by omega
  have hbq : b ≤ q := by omega
  have hq3 := h3.lt
  have hfl : fr3 ≤ lim := by
    obtain ⟨p, kd, nu, sg, wr, c, _, _, _, _, _, _, _, _, _, h10, _⟩ := h3
    exact h10
  have hlen : cs.length + st.length ≤ 40 := by have := hs.2.2.2.2.2.2.2.2.1; omega
  subst hi
  obtain ⟨M4, e4, s4, sm4, w4⟩ := m_push (N := N) hs hb2 (x := 23) (Or.inr rfl)
  have mm : fX5_operand N M = some (Int32.ofNat 1, M4) := by rw [hm, ← e4]; rfl
  have preC : oc = gbx (ρ1 (put b A S3) (some q)) (fun r_16 S_17 => bX25_says_165 E N ρ0 ρ1 ρ2 ρ3 q S_17 r_16) := hc
  have sm04 : mSm sk M0 M4 := sm.tr (sm4.su (by decide))
  have h4 : Rd b A S3 M4 q 18 (sEx a (on + 1) (wi + 1)) n lim fr3 t3 := h3.mm (fun k hk => (sm4.2 k (fun q => by
    simp only [List.mem_cons, List.not_mem_nil, or_false] at hk q; omega)).1) (sm4.2 1 (by decide)).2 w4
  have ed : dpt (23 :: st) = wi + 1 := by show 1 + dpt st = _; omega
  rcases ih S3 M4 fr3 t3 (on + 1) cs st x3 sm04 h4 s4 ed with ss | sf
  · left
    obtain ⟨r, S5, M5, c, cs', st', on', fr5, t5, j, e1, e2, h5, -, s5, hR, hcd, hl1, xo5, x05, sm5, hf5, p1, p2⟩ := ss
    have cc : oc = bX25_says_237 E N ρ0 ρ1 ρ2 ρ3 q (put b A S5) (some r) := by
      rw [preC, gbx_h e1]; rfl
    refine s_fin (c := c) (cs' := cs') (st' := st') (j := j + 1) hEq hq hw h5 cc (fun k => ?_) s5 ?_ hcd hl1 (xo.tr xo5) x sm5 (by omega) (by omega) (by omega)
    · rw [← Nat.add_assoc, sL_o h55 mm, e2]
    · have : (cs', st') = (cs ++ c, st) := hR
      show nts (cs', st').1 (cs', st').2 = _
      rw [this]
  · right
    refine SF.tr (j1 := 1) (S1 := S3) (M1 := M4) (fr1 := fr3) (sf.oc (fun fa S' e => ?_)) (fun k => sL_o h55 mm) (by omega) (by omega) (by omega)
    rw [preC, gbx_x e]
theorem j_says (cx : SCx E N b A S0 M0 q a nl l0 f0) (hw : wi ≤ 8) (ihs : wi < 8 → ∀ (S : GS) (M : MS) (fr : Nat) (t : Tk) (on : Nat) (cs : List Cd) (st : List Nat), Ext S0 S → mSm sk M0 M → Rd b A S M q 18 (sEx a on (wi + 1)) n lim fr t → SnM M cs st on false → dpt st = wi + 1 → SP N b A S0 M0 q a nl n lim (wi + 1) Rs (fun _ => True) S M fr cs st (ρ2 (put b A S) (some q))) (ihb : wi < 8 → ∀ (S : GS) (M : MS) (fr : Nat) (t : Tk) (on : Nat) (cs : List Cd) (st : List Nat), Ext S0 S → mSm sk M0 M → Rd b A S M q 18 (sEx a on (wi + 1)) n lim fr t → SnM M cs (23 :: st) on false → dpt (23 :: st) = wi + 1 → SP N b A S0 M0 q a nl n lim (wi + 1) (fun z z0 => z = z0) (fun _ => True) S M fr cs st (ρ1 (put b A S) (some q))) (S : GS) (M : MS) (fr : Nat) (t : Tk) (on : Nat) (cs : List Cd) (st : List Nat) (x : Ext S0 S) (sm : mSm sk M0 M) (h : Rd b A S M q 18 (sEx a on wi) n lim fr t) (hs : SnM M cs st on false) (hd : dpt st = wi) : SP N b A S0 M0 q a nl n lim wi Rs (fun _ => True) S M fr cs st (vbInchBorders_SentenceReader_says___LInchBorders_Cond_ E N ρ0 ρ1 ρ2 ρ3 (put b A S) (some q)) := by
  have ev : vbInchBorders_SentenceReader_says___LInchBorders_Cond_ E N ρ0 ρ1 ρ2 ρ3 (put b A S) (some q) = fX25_says E N ρ0 ρ1 ρ2 ρ3 (put b A S) q := by
    obtain ⟨hk, fs, c⟩ := h.cl
    simp only [vbInchBorders_SentenceReader_says___LInchBorders_Cond_]; rw [kc c]; rfl
  rw [ev]
  have h55 : M.1 55 = Int32.ofNat 0 := hs.2.2.2.2.2.2.1
  have hb2 : cs.length + st.length + 2 ≤ 2 * (on + 1) := by
    have : cs.length + st.length + 0 ≤ 2 * on := hs.2.2.2.2.2.2.2.1
    omega
  rcases j_sy (ρ0 := ρ0) (ρ1 := ρ1) (ρ2 := ρ2) (ρ3 := ρ3) cx x sm h hs hd hw with sf | ⟨i, S3, M3, fr3, t3, hi, ho, hw8, hc, hm, h3, s3, x3, xo, sm3, hf, k1, k2⟩
  · exact Or.inr sf
  · by_cases e1 : i = 0 ∨ i = 1
    · exact Or.inl (y_so cx x e1 hw8 h55 hc hm h3 s3 hb2 xo sm3 hf k1 k2)
    · by_cases e2 : i = 2 ∨ i = 3 ∨ i = 4
      · exact y_of cx x e2 hw8 h55 hc hm h3 s3 hb2 xo sm3 hf k1 k2
      · by_cases e3 : i = 5 ∨ i = 6 ∨ i = 7 ∨ i = 8
        · exact y_th cx x e3 hw8 h55 hc hm h3 s3 hb2 xo sm3 hf k1 k2
        · by_cases e4 : i = 9
          · exact y_no cx x e4 hw8 h55 hc hm h3 s3 hb2 xo sm3 hf k1 k2 hd (ihs hw8)
          · exact y_br cx x (by omega) hw8 h55 hc hm h3 s3 hb2 xo sm3 hf k1 k2 hd (ihb hw8)
end SH
