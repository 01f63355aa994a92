/-! sentences: the parse as a whole -/
def PSay (N b : Nat) (A : FA) (S0 : GS) (M0 : MS) (q a nl n lim wi : Nat) (ρ : GS → Option Nat → Option ((Option Nat ⊕ Nat) × GS)) : Prop := ∀ (S : GS) (M : MS) (fr : Nat) (t : Tk) (on : Nat) (cs : List Cd) (st : List Nat), Ext S0 S → mSm sk M0 M → Rd b A S M q 18 (sEx a on wi) n lim fr t → SnM M cs st on false → dpt st = wi → SP N b A S0 M0 q a nl n lim wi Rs (fun _ => True) S M fr cs st (ρ (put b A S) (some q))
def PAnd (N b : Nat) (A : FA) (S0 : GS) (M0 : MS) (q a nl n lim wi : Nat) (ρ : GS → Option Nat → Option ((Option Nat ⊕ Nat) × GS)) : Prop := ∀ (S : GS) (M : MS) (fr : Nat) (t : Tk) (on : Nat) (cs : List Cd) (st : List Nat), Ext S0 S → mSm sk M0 M → Rd b A S M q 18 (sEx a on wi) n lim fr t → SnM M cs st on false → dpt st = wi → (∀ x s', st = x :: s' → x ≠ 20 ∧ x ≠ 21) → SP N b A S0 M0 q a nl n lim wi Ra (fun t => tg t 10 = false) S M fr cs st (ρ (put b A S) (some q))
def POr (N b : Nat) (A : FA) (S0 : GS) (M0 : MS) (q a nl n lim wi : Nat) (ρ : GS → Option Nat → Option ((Option Nat ⊕ Nat) × GS)) : Prop := ∀ (S : GS) (M : MS) (fr : Nat) (t : Tk) (on : Nat) (cs : List Cd) (st : List Nat), Ext S0 S → mSm sk M0 M → Rd b A S M q 18 (sEx a on wi) n lim fr t → SnM M cs st on false → dpt st = wi → (∀ x s', st = x :: s' → x ≠ 20 ∧ x ≠ 21 ∧ x ≠ 22) → SP N b A S0 M0 q a nl n lim wi Ro (fun t => tg t 10 = false ∧ tg t 11 = false) S M fr cs st (ρ (put b A S) (some q))
def PBr (N b : Nat) (A : FA) (S0 : GS) (M0 : MS) (q a nl n lim wi : Nat) (ρ : GS → Option Nat → Option ((Option Nat ⊕ Nat) × GS)) : Prop := ∀ (S : GS) (M : MS) (fr : Nat) (t : Tk) (on : Nat) (cs : List Cd) (st : List Nat), Ext S0 S → mSm sk M0 M → Rd b A S M q 18 (sEx a on wi) n lim fr t → SnM M cs (23 :: st) on false → dpt (23 :: st) = wi → SP N b A S0 M0 q a nl n lim wi (fun z z0 => z = z0) (fun _ => True) S M fr cs st (ρ (put b A S) (some q))
section SJ
variable {E : gE} {N b : Nat} {A : FA} {S0 : GS} {M0 : MS} {q a nl l0 n lim wi : Nat} {f0 : Nat → Nat} {ρ0 ρ1 ρ2 ρ3 : GS → Option Nat → Option ((Option Nat ⊕ Nat) × GS)}
theorem Rd.li {ci : Nat} {ex : List Value} {S : GS} {M : MS} {fr : Nat} {t : Tk} (h : Rd b A S M q ci ex n lim fr t) : lim ≤ 940 ∧ n ≤ 940 := by
  obtain ⟨p, kd, nu, sg, wr, c, h1, h2, h3, _⟩ := h
  exact ⟨h3, h2⟩
theorem p_and (cx : SCx E N b A S0 M0 q a nl l0 f0) (ih : PSay N b A S0 M0 q a nl n lim wi ρ2) : PAnd N b A S0 M0 q a nl n lim wi (vbInchBorders_SentenceReader_and___LInchBorders_Cond_ E N ρ0 ρ1 ρ2 ρ3) := by
  intro S M fr t on cs st x sm h hs hd hst
  have ev : vbInchBorders_SentenceReader_and___LInchBorders_Cond_ E N ρ0 ρ1 ρ2 ρ3 (put b A S) (some q) = fX25_and E N ρ0 ρ1 ρ2 ρ3 (put b A S) q := by
    obtain ⟨hk, fs, c⟩ := h.cl
    simp only [vbInchBorders_SentenceReader_and___LInchBorders_Cond_]; rw [kc c]; rfl
  rw [ev]
  have hli := h.li.1
  have hN := cx.2.1
  rcases ih S M fr t on cs st x sm h hs hd with ss | sf
  · obtain ⟨r, S1, M1, c, cs1, st1, on1, fr1, t1, j, e1, e2, h1, -, s1, hR, hc, hl, xo, x1, sm1, hf, k1, k2⟩ := ss
    have hR' : Ra (cs1, st1) (cs ++ c, st) := by
      have : nts cs1 st1 = nts (cs ++ c) st := hR
      show jns false (nts cs1 st1).1 (nts cs1 st1).2 = _
      rw [this, nts_s (fun x s' e => (hst x s' e).1)]
      exact jns_s (fun x s' e => ⟨(hst x s' e).2, fun q => by cases q⟩)
    have lp := c_andL (E := E) (ρ0 := ρ0) (ρ1 := ρ1) (ρ2 := ρ2) (ρ3 := ρ3) cx hd hst ih (lim + 1) N S1 M1 fr1 t1 on1 cs1 st1 r c (by omega) (by omega) x1 sm1 h1 s1 hR' hc hl
    have eq : fX25_and E N ρ0 ρ1 ρ2 ρ3 (put b A S) q = bX25_and_5L E N ρ0 ρ1 ρ2 ρ3 q N (put b A S1) (some r) := by
      unfold fX25_and bX25_and_0
      rw [gbx_h e1]
      rfl
    rw [eq]
    rcases lp with ss | sf
    · exact Or.inl (ss.tr e2 xo hf k1 k2)
    · exact Or.inr (sf.tr e2 hf k1 k2)
  · exact Or.inr (sf.oc (fun fa S' e => by unfold fX25_and bX25_and_0; rw [gbx_x e]))
theorem p_or (cx : SCx E N b A S0 M0 q a nl l0 f0) (ih : PAnd N b A S0 M0 q a nl n lim wi ρ3) : POr N b A S0 M0 q a nl n lim wi (vbInchBorders_SentenceReader_or___LInchBorders_Cond_ E N ρ0 ρ1 ρ2 ρ3) := by
  intro S M fr t on cs st x sm h hs hd hst
  have ev : vbInchBorders_SentenceReader_or___LInchBorders_Cond_ E N ρ0 ρ1 ρ2 ρ3 (put b A S) (some q) = fX25_or E N ρ0 ρ1 ρ2 ρ3 (put b A S) q := by
    obtain ⟨hk, fs, c⟩ := h.cl
    simp only [vbInchBorders_SentenceReader_or___LInchBorders_Cond_]; rw [kc c]; rfl
  rw [ev]
  have hli := h.li.1
  have hN := cx.2.1
  rcases ih S M fr t on cs st x sm h hs hd (fun x s' e => ⟨(hst x s' e).1, (hst x s' e).2.1⟩) with ss | sf
  · obtain ⟨r, S1, M1, c, cs1, st1, on1, fr1, t1, j, e1, e2, h1, hQ, s1, hR, hc, hl, xo, x1, sm1, hf, k1, k2⟩ := ss
    have hR' : Ro (cs1, st1) (cs ++ c, st) := by
      have : jns false (nts cs1 st1).1 (nts cs1 st1).2 = (cs ++ c, st) := hR
      show jns true (nts cs1 st1).1 (nts cs1 st1).2 = _
      rw [← jns_j, this]
      exact jns_s (fun x s' e => ⟨(hst x s' e).2.1, fun _ => (hst x s' e).2.2⟩)
    have lp := c_orL (E := E) (ρ0 := ρ0) (ρ1 := ρ1) (ρ2 := ρ2) (ρ3 := ρ3) cx hd hst ih (lim + 1) N S1 M1 fr1 t1 on1 cs1 st1 r c (by omega) (by omega) x1 sm1 h1 s1 hR' hc hl hQ
    have eq : fX25_or E N ρ0 ρ1 ρ2 ρ3 (put b A S) q = bX25_or_5L E N ρ0 ρ1 ρ2 ρ3 q N (put b A S1) (some r) := by
      unfold fX25_or bX25_or_0
      rw [gbx_h e1]
      rfl
    rw [eq]
    rcases lp with ss | sf
    · exact Or.inl (ss.tr e2 xo hf k1 k2)
    · exact Or.inr (sf.tr e2 hf k1 k2)
  · exact Or.inr (sf.oc (fun fa S' e => by unfold fX25_or bX25_or_0; rw [gbx_x e]))
theorem p_br (cx : SCx E N b A S0 M0 q a nl l0 f0) (ih : POr N b A S0 M0 q a nl n lim wi ρ0) : PBr N b A S0 M0 q a nl n lim wi (vbInchBorders_SentenceReader_bracket___LInchBorders_Cond_ E N ρ0 ρ1 ρ2 ρ3) := by
  intro S M fr t on cs st x sm h hs hd
  have ev : vbInchBorders_SentenceReader_bracket___LInchBorders_Cond_ E N ρ0 ρ1 ρ2 ρ3 (put b A S) (some q) = fX25_bracket E N ρ0 ρ1 ρ2 ρ3 (put b A S) q := by
    obtain ⟨hk, fs, c⟩ := h.cl
    simp only [vbInchBorders_SentenceReader_bracket___LInchBorders_Cond_]; rw [kc c]; rfl
  rw [ev]
  have cx' := cx
  obtain ⟨kok, hN, hq, hr, hl, ha, h6⟩ := cx
  have hE := kok.1
  have hb0 := kok.2.1
  rcases ih S M fr t on cs (23 :: st) x sm h hs hd (fun x s' e => by injection e with e1 e2; omega) with ss | sf
  · obtain ⟨r, S1, M1, c, cs1, st1, on1, fr1, t1, j, e1, e2, h1, ⟨q10, q11⟩, s1, hR, hc, hl, xo, x1, sm1, hf, k1, k2⟩ := ss
    have hR' : jns true (nts cs1 st1).1 (nts cs1 st1).2 = (cs ++ c, 23 :: st) := hR
    have eq : fX25_bracket E N ρ0 ρ1 ρ2 ρ3 (put b A S) q = bX25_bracket_4 E N ρ0 ρ1 ρ2 ρ3 q (put b A S1) (some r) := by
      unfold fX25_bracket bX25_bracket_0
      rw [gbx_h e1]
    rw [eq]
    have hh1 := h1
    obtain ⟨p, kd, nu, sg, wr, cq, g1, g2, g3, g4, g5, g6, g7, hk, g9, g10, g11, g12⟩ := h1
    have r47 := fun {β : Type} (K : Int32 → Option β) => rd_47 hk cq A K
    have r50 := fun {β : Type} (K : Int32 → Option β) => rd_50 hk cq A K
    cases ec : cls t1 with
    | true =>
      left
      obtain ⟨t6, t41⟩ := of_decide_eq_true ec
      have hw : kd = Int32.ofNat 6 ∧ sg = Int32.ofNat t1.2.2 := by
        rcases g12 with h | h | h | h | h | h
        · omega
        · omega
        · omega
        · omega
        · omega
        · exact ⟨h.2.1, h.2.2.2.2.1⟩
      obtain ⟨M2, s2, w2, n2, h2, eb, es⟩ := m_bj (N := N) cx' x1 hh1 s1 hR' q10 q11
      have sgn := (m_opn (N := N) h2).2
      rw [ec] at sgn
      obtain ⟨h51, h8, h53, h50, h52, h54, h55, hlen, ho20, hx23⟩ := n2
      have h53' : M2.1 53 = Int32.ofNat (st.length + 1) := h53
      have ed : 1 + dpt (23 :: st) = 1 + dpt st + 1 := by show 1 + (1 + dpt st) = _; omega
      rw [ed] at h54
      have hlen' : (cs ++ c).length + (st.length + 1) + 1 ≤ 2 * on1 := hlen
      obtain ⟨M3, hM3⟩ : ∃ M3, M3 = mF (mF M2 53 (Int32.ofNat st.length)) 54 (Int32.ofNat (1 + dpt st)) := ⟨_, rfl⟩
      have s3 : mSm [53, 54] M2 M3 := by rw [hM3]; exact (mSm.rf.mF _ (by decide)).mF _ (by decide)
      have h3 := h2.k4 s3 (by decide) (by rw [hM3]; rfl)
      have n3 : SnM M3 (cs ++ c) st on1 true := by
        refine ⟨by rw [hM3]; exact h51, by rw [hM3]; exact h8, by rw [hM3]; rfl, ?_, by rw [hM3]; exact h52, by rw [hM3]; exact mF_e _ _ _, by rw [hM3]; exact h55, by show (cs ++ c).length + st.length + 1 ≤ _; omega, ho20, fun y hy => hx23 y (List.mem_cons_of_mem _ hy)⟩
        intro i y hi
        rw [hM3]
        refine h50 i y ?_
        rw [List.reverse_cons, List.getElem?_append_left (List.getElem?_eq_some_iff.mp hi).1]; exact hi
      obtain ⟨S4, M4, fr4, t4, gc, gm, h4, hf4, xo4, fx4, sm4, p1, p2⟩ := j_gw (E := E) (N := N) hE (by omega) (Nat.le_trans hb0 x1.1) (by omega) h3 (by omega)
      have n1 := c_need1 (E := E) (N := N) (b := b) (A := A) (S := S1) (q := q) (Int32.ofNat 1)
      have bb : fX5_behind N M1 = some (Int32.ofNat 1, M4) := by
        rw [eb, mbd_h sgn, if_neg (show ¬ bI true = Int32.ofNat 0 by decide), h53', if_neg (by rw [pq_eq (by omega) (by omega)]; omega)]
        have es1 : Int32.ofNat (st.length + 1) - Int32.ofNat 1 = Int32.ofNat st.length := by rw [pq_sub (by omega)]; rfl
        have ed2 : Int32.ofNat (1 + dpt st + 1) - Int32.ofNat 1 = Int32.ofNat (1 + dpt st) := by rw [pq_sub (by omega)]; rfl
        simp (disch := omega) only [↓mpt, es1, mF_ne, h54, ed2, ← hM3, ↓mbd_h (gm), gm, ↓mbd_s, mbd_s, eq_self, ↓reduceIte, Nat.reduceEqDiff, Nat.reduceLeDiff, Nat.reduceLT, Nat.reduceMul, Nat.reduceAdd, not_true_eq_false, not_false_eq_true, Bool.false_eq_true, pq_lit, pq_add, pq_le, pq_lt, pq_eq, pq_en, pq_ne, pq_nle, pq_nlt, pq_len, pq_ltn, pB_z, pB_o, mzt_0, mzt_1, mzt_B]
      have h55' : M1.1 55 = Int32.ofNat 1 := s1.2.2.2.2.2.2.1
      have n11 : ¬ M1.1 11 = Int32.ofNat 0 := fun q => by have := hh1.m11.mp q; omega
      have L1 : ∀ k, sL N (k + 1) M1 = sL N k M4 := fun k => sL_b h55' n11 bb
      have sm34 : mSm sk M0 M4 := ((sm1.tr (s2.su (by decide))).tr (s3.su (by decide))).tr (sm4.su (by decide))
      have xo14 := xo.tr xo4
      refine ⟨r, S4, M4, c, cs ++ c, st, on1, fr4, t4, 1 + j, ?_, fun k => ?_, h4, trivial, n3.sm sm4 (by decide), rfl, hc.fx fx4, hl, xo14, xo14.ext x hq, sm34, by omega, by omega, by omega⟩
      · simp only [bX25_bracket_4, bX25_bracket_29, bX25_bracket_33, bX25_bracket_37, pq_lit]
        simp (disch := omega) only [↓r47, hw.1, ↓r50, hw.2, t41, v_need hh1, ↓gbx_h n1, v_go hh1, ↓gbd_h (gc), gc, ↓gbd_s, gbd_s, ↓gbx_s, gbx_s, ↓gnn_s, ↓grf_s, eq_self, ↓reduceIte, Nat.reduceEqDiff, Nat.reduceLeDiff, Nat.reduceLT, Nat.reduceMul, Nat.reduceAdd, not_true_eq_false, not_false_eq_true, Bool.false_eq_true, pq_lit, pq_add, pq_le, pq_lt, pq_eq, pq_en, pq_ne, pq_nle, pq_nlt, pq_len, pq_ltn, pB_z, pB_o, mzt_0, mzt_1, mzt_B]
      · rw [← Nat.add_assoc, e2, L1]
    | false =>
      right
      refine SF.tr (j1 := j) (j_bx (E := E) cx' x1 sm1 hh1 s1 hR' q10 q11 ?_ (fun S' e => ?_)) e2 hf k1 k2
      · by_cases e0 : t1.1 = 0
        · exact Or.inl ⟨e0, by simp⟩
        · exact Or.inr ⟨e0, Or.inl ec⟩
      · by_cases e6 : t1.1 = 6
        · have hw : kd = Int32.ofNat 6 ∧ sgOk t1.2.2 ∧ sg = Int32.ofNat t1.2.2 := by
            rcases g12 with h | h | h | h | h | h
            · omega
            · omega
            · omega
            · omega
            · omega
            · exact ⟨h.2.1, h.2.2.2.1, h.2.2.2.2.1⟩
          have n41 : ¬ t1.2.2 = 41 := fun q => by
            have := decide_eq_true (And.intro e6 q)
            have ec' : decide (t1.1 = 6 ∧ t1.2.2 = 41) = false := ec
            rw [this] at ec'; cases ec'
          have sl : t1.2.2 ≤ 62 := by have := hw.2.1; unfold sgOk at this; omega
          simp only [bX25_bracket_4, bX25_bracket_28, bX25_bracket_29, pq_lit]
          simp (disch := omega) only [↓r47, hw.1, ↓r50, hw.2.2, n41, v_need hh1, ↓gbx_x e, ↓gbd_s, gbd_s, ↓gbx_s, gbx_s, ↓gnn_s, ↓grf_s, eq_self, ↓reduceIte, Nat.reduceEqDiff, Nat.reduceLeDiff, Nat.reduceLT, Nat.reduceMul, Nat.reduceAdd, not_true_eq_false, not_false_eq_true, Bool.false_eq_true, pq_lit, pq_add, pq_le, pq_lt, pq_eq, pq_en, pq_ne, pq_nle, pq_nlt, pq_len, pq_ltn, pB_z, pB_o, mzt_0, mzt_1, mzt_B]
        · have nk : ¬ kd = Int32.ofNat 6 := by
            rcases g12 with h | h | h | h | h | h
            · rw [h.2.1]; decide
            · rcases h.2.1 with q | q <;> rw [q] <;> decide
            · rw [h.2.1]; decide
            · rw [h.2.1]; decide
            · rw [h.2.1]; decide
            · exact absurd h.1 e6
          simp only [bX25_bracket_4, bX25_bracket_28, bX25_bracket_29, pq_lit]
          simp (disch := omega) only [↓r47, nk, v_need hh1, ↓gbx_x e, ↓gbd_s, gbd_s, ↓gbx_s, gbx_s, ↓gnn_s, ↓grf_s, eq_self, ↓reduceIte, Nat.reduceEqDiff, Nat.reduceLeDiff, Nat.reduceLT, Nat.reduceMul, Nat.reduceAdd, not_true_eq_false, not_false_eq_true, Bool.false_eq_true, pq_lit, pq_add, pq_le, pq_lt, pq_eq, pq_en, pq_ne, pq_nle, pq_nlt, pq_len, pq_ltn, pB_z, pB_o, mzt_0, mzt_1, mzt_B]
  · exact Or.inr (sf.oc (fun fa S' e => by unfold fX25_bracket bX25_bracket_0; rw [gbx_x e]))
theorem p_rec (cx : SCx E N b A S0 M0 q a nl l0 f0) : ∀ (v wi d : Nat), wi + v = 8 → 4 * v + 1 ≤ d → PSay N b A S0 M0 q a nl n lim wi (zX25_bracket E N d).2.2.1
  | v, wi, 0, h1, h2 => by omega
  | 0, wi, d + 1, h1, h2 => by
    intro S M fr t on cs st x sm h hs hd
    exact j_says cx (by omega) (fun q => by omega) (fun q => by omega) S M fr t on cs st x sm h hs hd
  | v + 1, wi, d + 1, h1, h2 => by
    intro S M fr t on cs st x sm h hs hd
    have i1 : PSay N b A S0 M0 q a nl n lim (wi + 1) (zX25_bracket E N d).2.2.1 := p_rec cx v (wi + 1) d (by omega) (by omega)
    obtain ⟨d3, rfl⟩ : ∃ d3, d = d3 + 3 := ⟨d - 3, by omega⟩
    have i2 : PSay N b A S0 M0 q a nl n lim (wi + 1) (zX25_bracket E N d3).2.2.1 := p_rec cx v (wi + 1) d3 (by omega) (by omega)
    have i3 : PAnd N b A S0 M0 q a nl n lim (wi + 1) (zX25_bracket E N (d3 + 1)).2.2.2 := p_and cx i2
    have i4 : POr N b A S0 M0 q a nl n lim (wi + 1) (zX25_bracket E N (d3 + 2)).1 := p_or cx i3
    have i5 : PBr N b A S0 M0 q a nl n lim (wi + 1) (zX25_bracket E N (d3 + 3)).2.1 := p_br cx i4
    exact j_says cx (by omega) (fun _ => i1) (fun _ => i5) S M fr t on cs st x sm h hs hd
theorem p_top (cx : SCx E N b A S0 M0 q a nl l0 f0) : POr N b A S0 M0 q a nl n lim 0 (zX25_bracket E N 64).1 := by
  have i2 : PSay N b A S0 M0 q a nl n lim 0 (zX25_bracket E N 62).2.2.1 := p_rec cx 8 0 62 (by omega) (by omega)
  have i3 : PAnd N b A S0 M0 q a nl n lim 0 (zX25_bracket E N 63).2.2.2 := p_and cx i2
  exact p_or cx i3
end SJ
