/-! reading: words, names, numbers -/
theorem enc_inj {u u' : List Nat} (h : Wd u) (h' : Wd u') (e : enc u = enc u') : u = u' := by
  obtain ⟨e1, l1⟩ := enc_n h
  obtain ⟨e2, l2⟩ := enc_n h'
  have b1 : encN u < 2 ^ 56 := Nat.lt_of_lt_of_le l1 (Nat.pow_le_pow_right (by omega) (by have := h.2.1; omega))
  have b2 : encN u' < 2 ^ 56 := Nat.lt_of_lt_of_le l2 (Nat.pow_le_pow_right (by omega) (by have := h'.2.1; omega))
  have en : encN u = encN u' := by
    rw [e1, e2] at e
    have e3 := congrArg (fun x => x.toBitVec.toNat) e
    have k1 : (Int64.ofNat (encN u)).toBitVec.toNat = encN u % 2 ^ 64 := BitVec.toNat_ofNat _ _
    have k2 : (Int64.ofNat (encN u')).toBitVec.toNat = encN u' % 2 ^ 64 := BitVec.toNat_ofNat _ _
    simp only [k1, k2] at e3
    rw [Nat.mod_eq_of_lt (by omega), Nat.mod_eq_of_lt (by omega)] at e3
    exact e3
  have c1 : ∀ c, c ∈ u → c < 256 := fun c hc => by have := h.2.2 c hc; omega
  have c2 : ∀ c, c ∈ u' → c < 256 := fun c hc => by have := h'.2.2 c hc; omega
  have g : ∀ j, u.reverse.getD j 0 = u'.reverse.getD j 0 := fun j => by rw [← encN_b u j c1, ← encN_b u' j c2, en]
  have nz : ∀ (x : List Nat), Wd x → ∀ j, j < x.length → x.reverse.getD j 0 ≠ 0 := by
    intro x hx j hj
    rw [List.getD_eq_getElem?_getD, List.getElem?_eq_getElem (by rw [List.length_reverse]; exact hj)]
    have := hx.2.2 _ (List.mem_reverse.mp (List.getElem_mem (l := x.reverse) (by rw [List.length_reverse]; exact hj)))
    show x.reverse[j]'_ ≠ 0
    omega
  have oz : ∀ (x : List Nat) j, x.length ≤ j → x.reverse.getD j 0 = 0 := by
    intro x j hj
    rw [List.getD_eq_getElem?_getD, List.getElem?_eq_none (by rw [List.length_reverse]; exact hj)]; rfl
  have ll : u.length = u'.length := by
    rcases Nat.lt_trichotomy u.length u'.length with q | q | q
    · exact absurd ((g u.length).symm.trans (oz u _ (Nat.le_refl _))) (nz u' h' _ q)
    · exact q
    · exact absurd ((g u'.length).trans (oz u' _ (Nat.le_refl _))) (nz u h _ q)
  have er : u.reverse = u'.reverse := by
    apply List.ext_getElem (by rw [List.length_reverse, List.length_reverse, ll])
    intro i h1 h2
    have := g i
    rw [List.getD_eq_getElem?_getD, List.getD_eq_getElem?_getD, List.getElem?_eq_getElem h1, List.getElem?_eq_getElem h2] at this
    exact this
  exact List.reverse_inj.mp er
def twd (t : Tk) (w : List Nat) : Bool := decide (t.1 = 2 ∧ t.2.1 = w)
def isNm (t : Tk) : Bool := decide (t.1 = 2 ∧ t.2.1 ∉ resW)
theorem rv_go {E : gE} {N b : Nat} {A : FA} {S : GS} {q ci : Nat} {fs : List Value} (hk : RdK ci) (h : Cel b S q (.inr (ci, fs))) : vInchBorders_Reader_go___V E N (put b A S) (some q) = fX6_go E N (put b A S) q := by
  simp only [vInchBorders_Reader_go___V]; rw [kc h, rd_v hk]
theorem rv_need {E : gE} {N b : Nat} {A : FA} {S : GS} {q ci : Nat} {fs : List Value} (hk : RdK ci) (h : Cel b S q (.inr (ci, fs))) (x y : Int32) : vInchBorders_Reader_need__ZI_V E N (put b A S) (some q) x y = fX6_need E N (put b A S) q x y := by
  simp only [vInchBorders_Reader_need__ZI_V]; rw [kc h, rd_v hk]
theorem rv_nm {E : gE} {N b : Nat} {A : FA} {S : GS} {q ci : Nat} {fs : List Value} (hk : RdK ci) (h : Cel b S q (.inr (ci, fs))) : vInchBorders_Reader_isName___Z E N (put b A S) (some q) = fX6_isName E N (put b A S) q := by
  simp only [vInchBorders_Reader_isName___Z]; rw [kc h, rd_v hk]
theorem rv_fnd {E : gE} {N b : Nat} {A : FA} {S : GS} {q ci : Nat} {fs : List Value} (hk : RdK ci) (h : Cel b S q (.inr (ci, fs))) (x : Option Nat) : vInchBorders_Reader_find__Ljava_util_ArrayList__I E N (put b A S) (some q) x = fX6_find E N (put b A S) q x := by
  simp only [vInchBorders_Reader_find__Ljava_util_ArrayList__I]; rw [kc h, rd_v hk]
theorem rv_hold {E : gE} {N b : Nat} {A : FA} {S : GS} {q ci : Nat} {fs : List Value} (hk : RdK ci) (h : Cel b S q (.inr (ci, fs))) (x : Option Nat) : vInchBorders_Reader_hold__Ljava_util_ArrayList__I E N (put b A S) (some q) x = fX6_hold E N (put b A S) q x := by
  simp only [vInchBorders_Reader_hold__Ljava_util_ArrayList__I]; rw [kc h, rd_v hk]
theorem gbx_h {α β : Type} {o : Option ((α ⊕ Nat) × GS)} {r : α} {S' : GS} (h : o = some (.inl r, S')) (K : α → GS → Option ((β ⊕ Nat) × GS)) : gbx o K = K r S' := by rw [h]; rfl
theorem gbx_x {α β : Type} {o : Option ((α ⊕ Nat) × GS)} {r : Nat} {S' : GS} (h : o = some (.inr r, S')) (K : α → GS → Option ((β ⊕ Nat) × GS)) : gbx o K = some (.inr r, S') := by rw [h]; rfl
theorem gbx_s {α β : Type} (r : α) (S : GS) (K : α → GS → Option ((β ⊕ Nat) × GS)) : gbx (some (.inl r, S)) K = K r S := rfl
/-- fields, rows that reading may change -/
abbrev rdk : List Nat := [4, 7, 8, 11, 12, 13, 14, 15, 16, 18, 19, 20, 47, 50, 51, 52, 53, 54, 55]
def mSn (ks : List Nat) (M M' : MS) : Prop := (∀ k, k ∉ ks → M'.1 k = M.1 k ∧ M'.2.2.1 k = M.2.2.1 k) ∧ (∀ k, k ≠ 9 → M'.2.2.2 k = M.2.2.2 k) ∧ ∀ i, i < 13 → M'.2.2.2 9 i = M.2.2.2 9 i
theorem mSn.rf {ks : List Nat} {M : MS} : mSn ks M M := ⟨fun _ _ => ⟨rfl, rfl⟩, fun _ _ => rfl, fun _ _ => rfl⟩
theorem mSn.tr {ks : List Nat} {M M' M'' : MS} (h : mSn ks M M') (h' : mSn ks M' M'') : mSn ks M M'' := ⟨fun k hk => ⟨(h'.1 k hk).1.trans (h.1 k hk).1, (h'.1 k hk).2.trans (h.1 k hk).2⟩, fun k hk => (h'.2.1 k hk).trans (h.2.1 k hk), fun i hi => (h'.2.2 i hi).trans (h.2.2 i hi)⟩
theorem mSm.sn {ks : List Nat} {M M' : MS} (h : mSm ks M M') : mSn ks M M' := ⟨h.2, fun k _ => by rw [h.1], fun i _ => by rw [h.1]⟩
theorem mSm.rd {ks : List Nat} {M M' : MS} (h : mSm ks M M') (hs : ∀ k, k ∈ ks → k ∈ rdk) : mSn rdk M M' := (h.su hs).sn
def JF {α : Type} (b : Nat) (A : FA) (S0 : GS) (M : MS) (C T : Nat) (oc : Option ((α ⊕ Nat) × GS)) (om : Option (Int32 × MS)) : Prop := ∃ fa kd pl S' M', oc = some (.inr fa, put b A S') ∧ om = some (Int32.ofNat 0, M') ∧ Ext S0 S' ∧ FltAt b S' fa kd pl ∧ M'.1 15 = kd ∧ M'.1 16 = pl ∧ mSn rdk M M' ∧ S'.2.2.1 ≤ C ∧ S'.2.2.2 ≤ T
section RI
variable {E : gE} {N b : Nat} {A : FA} {S0 S : GS} {M : MS} {q ci n lim fr : Nat} {ex : List Value} {t : Tk}
theorem Rd.tk (h : Rd b A S M q ci ex n lim fr t) : t.1 = 0 ∨ t.1 = 1 ∨ t.1 = 2 ∨ t.1 = 3 ∨ t.1 = 4 ∨ t.1 = 6 := by
  obtain ⟨p, kd, nu, sg, wr, c, h1, h2, h3, h4, h5, h6, h7, h8, h9, h10, h11, h12⟩ := h
  rcases h12 with h | h | h | h | h | h <;> have := h.1 <;> omega
theorem Rd.wd (h : Rd b A S M q ci ex n lim fr t) (ht : t.1 = 2) : Wd t.2.1 ∧ M.2.1 = enc t.2.1 := by
  obtain ⟨p, kd, nu, sg, wr, c, h1, h2, h3, h4, h5, h6, h7, h8, h9, h10, h11, h12⟩ := h
  rcases h12 with h | h | h | h | h | h
  · omega
  · omega
  · exact ⟨h.2.2.2.1, h.2.2.2.2.2⟩
  · omega
  · omega
  · omega
theorem Rd.cl (h : Rd b A S M q ci ex n lim fr t) : RdK ci ∧ ∃ fs, Cel b S q (.inr (ci, fs)) := by
  obtain ⟨p, kd, nu, sg, wr, c, h1, h2, h3, h4, h5, h6, h7, h8, h9, h10, h11, h12⟩ := h
  exact ⟨h8, _, c⟩
theorem j_isC {rs : Nat} {w0 : List Nat} (h : Rd b A S M q ci ex n lim fr t) (hs : StrAt b S rs w0) (hN : 2000 ≤ N) : fX6_is E N (put b A S) q (some rs) = some (bI (twd t w0), put b A S) := by
  obtain ⟨p, kd, nu, sg, wr, c, h1, h2, h3, h4, h5, h6, h7, hk, h9, h10, h11, h12⟩ := h
  have r47 := fun {β : Type} (K : Int32 → Option β) => rd_47 hk c A K
  have r51 := fun {β : Type} (K : Option Nat → Option β) => rd_51 hk c A K
  by_cases e : t.1 = 2
  · have hw : kd = Int32.ofNat 2 ∧ StrAt b S wr t.2.1 := by
      rcases h12 with h | h | h | h | h | h
      · omega
      · omega
      · exact ⟨h.2.1, h.2.2.2.2.1⟩
      · omega
      · omega
      · omega
    have se := c_seq (E := E) (N := N) (A := A) hw.2 hs hN
    have e2 : twd t w0 = decide (t.2.1 = w0) := by unfold twd; rw [decide_eq_decide]; exact ⟨fun h => h.2, fun h => ⟨e, h⟩⟩
    rw [e2]
    simp only [fX6_is, bX6_is_0, bX6_is_23, bX6_is_24, pq_lit]
    cases ed : decide (t.2.1 = w0) with
    | true =>
      rw [ed] at se
      simp (disch := omega) only [↓r47, hw.1, ↓r51, ↓gbd_h (se), se, bI_t, pq_lit, pq_add, pq_le, pq_lt, pq_eq, pq_en, pq_ne, pq_nle, pq_nlt, pq_len, pq_ltn, pB_z, pB_o, mzt_0, mzt_1, mzt_B, ↓gbd_s, gbd_s, ↓gnn_s, ↓grf_s, eq_self, ↓reduceIte, Nat.reduceEqDiff, Nat.reduceLeDiff, Nat.reduceLT, Nat.reduceMul, Nat.reduceAdd, not_true_eq_false, not_false_eq_true, Bool.false_eq_true]
    | false =>
      rw [ed] at se
      simp (disch := omega) only [↓r47, hw.1, ↓r51, ↓gbd_h (se), se, bI_f, pq_lit, pq_add, pq_le, pq_lt, pq_eq, pq_en, pq_ne, pq_nle, pq_nlt, pq_len, pq_ltn, pB_z, pB_o, mzt_0, mzt_1, mzt_B, ↓gbd_s, gbd_s, ↓gnn_s, ↓grf_s, eq_self, ↓reduceIte, Nat.reduceEqDiff, Nat.reduceLeDiff, Nat.reduceLT, Nat.reduceMul, Nat.reduceAdd, not_true_eq_false, not_false_eq_true, Bool.false_eq_true]
  · have e2 : twd t w0 = false := decide_eq_false (fun h => e h.1)
    have nk : ¬ kd = Int32.ofNat 2 := by
      rcases h12 with h | h | h | h | h | h
      · rw [h.2.1]; decide
      · rcases h.2.1 with q | q <;> rw [q] <;> decide
      · exact absurd h.1 e
      · rw [h.2.1]; decide
      · rw [h.2.1]; decide
      · rw [h.2.1]; decide
    rw [e2]
    simp only [fX6_is, bX6_is_0, bX6_is_23, bX6_is_24, pq_lit]
    simp (disch := omega) only [↓r47, nk, bI_f, pq_lit, pq_add, pq_le, pq_lt, pq_eq, pq_en, pq_ne, pq_nle, pq_nlt, pq_len, pq_ltn, pB_z, pB_o, mzt_0, mzt_1, mzt_B, ↓gbd_s, gbd_s, ↓gnn_s, ↓grf_s, eq_self, ↓reduceIte, Nat.reduceEqDiff, Nat.reduceLeDiff, Nat.reduceLT, Nat.reduceMul, Nat.reduceAdd, not_true_eq_false, not_false_eq_true, Bool.false_eq_true]
theorem j_isM {w0 : List Nat} (h : Rd b A S M q ci ex n lim fr t) (hw : Wd w0) : fX5_isWord N M (enc w0) = some (bI (twd t w0), M) := by
  have hh := h
  obtain ⟨p, kd, nu, sg, wr, c, h1, h2, h3, h4, h5, h6, h7, hk, h9, h10, h11, h12⟩ := h
  simp only [bX5_isWord_22, bX5_isWord_21, bX5_isWord_0, fX5_isWord, pq_lit]
  by_cases e : t.1 = 2
  · have m11 : M.1 11 = Int32.ofNat 1 := by
      rcases h12 with h | h | h | h | h | h
      · omega
      · omega
      · exact h.2.2.1
      · omega
      · omega
      · omega
    obtain ⟨w1, w2⟩ := hh.wd e
    by_cases ew : t.2.1 = w0
    · have e2 : twd t w0 = true := decide_eq_true ⟨e, ew⟩
      have lz : lg_cmp M.2.1 (enc w0) = Int32.ofNat 0 := by rw [lg_z, w2, ew]
      rw [e2]
      simp (disch := omega) only [m11, lz, bI_t, eq_self, ↓reduceIte, Nat.reduceEqDiff, Nat.reduceLeDiff, Nat.reduceLT, Nat.reduceMul, Nat.reduceAdd, not_true_eq_false, not_false_eq_true, Bool.false_eq_true, pq_lit, pq_add, pq_le, pq_lt, pq_eq, pq_en, pq_ne, pq_nle, pq_nlt, pq_len, pq_ltn, pB_z, pB_o, mzt_0, mzt_1, mzt_B]
    · have e2 : twd t w0 = false := decide_eq_false (fun h => ew h.2)
      have lz : ¬ lg_cmp M.2.1 (enc w0) = Int32.ofNat 0 := by rw [lg_z, w2]; exact fun q => ew (enc_inj w1 hw q)
      rw [e2]
      simp (disch := omega) only [m11, lz, bI_f, eq_self, ↓reduceIte, Nat.reduceEqDiff, Nat.reduceLeDiff, Nat.reduceLT, Nat.reduceMul, Nat.reduceAdd, not_true_eq_false, not_false_eq_true, Bool.false_eq_true, pq_lit, pq_add, pq_le, pq_lt, pq_eq, pq_en, pq_ne, pq_nle, pq_nlt, pq_len, pq_ltn, pB_z, pB_o, mzt_0, mzt_1, mzt_B]
  · have e2 : twd t w0 = false := decide_eq_false (fun h => e h.1)
    have nk : ¬ M.1 11 = Int32.ofNat 1 := by
      rcases h12 with h | h | h | h | h | h
      · rw [h.2.2]; decide
      · rw [h.2.2]; decide
      · exact absurd h.1 e
      · rw [h.2.2.1]; decide
      · rw [h.2.2.1]; decide
      · rw [h.2.2.1]; decide
    rw [e2]
    simp (disch := omega) only [nk, bI_f, eq_self, ↓reduceIte, Nat.reduceEqDiff, Nat.reduceLeDiff, Nat.reduceLT, Nat.reduceMul, Nat.reduceAdd, not_true_eq_false, not_false_eq_true, Bool.false_eq_true, pq_lit, pq_add, pq_le, pq_lt, pq_eq, pq_en, pq_ne, pq_nle, pq_nlt, pq_len, pq_ltn, pB_z, pB_o, mzt_0, mzt_1, mzt_B]
theorem j_nmC (kok : KOk E b S) (h : Rd b A S M q ci ex n lim fr t) (hN : 2000 ≤ N) : ∃ S', fX6_isName E N (put b A S) q = some (bI (isNm t), put b A S') ∧ Ext S S' ∧ S'.2.2.1 ≤ S.2.2.1 + 7 ∧ S'.2.2.2 ≤ S.2.2.2 + 90 := by
  obtain ⟨p, kd, nu, sg, wr, c, h1, h2, h3, h4, h5, h6, h7, hk, h9, h10, h11, h12⟩ := h
  have hE := kok.1
  have hb := kok.2.1
  have r47 := fun {β : Type} (K : Int32 → Option β) => rd_47 hk c A K
  by_cases e : t.1 = 2
  · have hw : kd = Int32.ofNat 2 ∧ Wd t.2.1 ∧ StrAt b S wr t.2.1 := by
      rcases h12 with h | h | h | h | h | h
      · omega
      · omega
      · exact ⟨h.2.1, h.2.2.2.1, h.2.2.2.2.1⟩
      · omega
      · omega
      · omega
    have l7 := hw.2.1.2.1
    have s25 : StrAt b S (E.2.1 25) [32] := kok.2.2.1 25 _ rfl
    have g24 : gstr[24]? = some ("InchBorders$Reader", 76, " land store road treaty person crosses pact break close open lend day or and not home stuck in of free length taken crossed number ") := rfl
    have s24 := kok.2.2.1 24 _ g24
    dsimp only at s24
    rw [← tknB] at s24
    obtain ⟨L, hL⟩ : ∃ L, L = tknB := ⟨_, rfl⟩
    have tl : L.length = 131 := by rw [hL]; exact tkn_l
    have tk := tkn hw.2.1
    rw [← hL] at s24 tk
    obtain ⟨S1, b1, n1, nw⟩ := sb_new (E := E) (N := N) (A := A) hb hE
    obtain ⟨S2, k2, b2, d2, n2, n2', a2⟩ := sb_app (E := E) (N := N) (A := A) hb hE b1 s25 (by simp) (by omega)
    have k2' : k2 = 16 := by
      rcases d2 with d | d
      · exact d
      · simp at d
    subst k2'
    obtain ⟨S3, k3, b3, d3, n3, n3', a3⟩ := sb_app (E := E) (N := N) (A := A) hb hE b2 hw.2.2 (by simp; omega) (by omega)
    have k3' : k3 = 16 := by
      rcases d3 with d | d
      · exact d
      · simp at d; omega
    subst k3'
    obtain ⟨S4, k4, b4, d4, n4, n4', a4⟩ := sb_app (E := E) (N := N) (A := A) hb hE b3 s25 (by simp; omega) (by omega)
    have k4' : k4 = 16 := by
      rcases d4 with d | d
      · exact d
      · simp at d; omega
    subst k4'
    obtain ⟨S5, x5, s5, n5, t5⟩ := sb_str (E := E) (N := N) (A := A) hb hE b4
    have x05 : Ext S S5 := b4.1.tr x5
    have hl : ([] ++ [32] ++ t.2.1 ++ [32] : List Nat).length = t.2.1.length + 2 := by simp
    have io := c_iof (E := E) (N := N) (A := A) hN (s24.ext x05) s5 (by omega) (by rw [tl]; omega)
    have xr := (c.ext b2.1)
    have r51 := fun {β : Type} (K : Option Nat → Option β) => rd_51 hk xr A K
    obtain ⟨ro, hro⟩ : ∃ ro, ro = ixf L ([] ++ [32] ++ t.2.1 ++ [32]) (L.length - ([] ++ [32] ++ t.2.1 ++ [32] : List Nat).length + 1) 0 := ⟨_, rfl⟩
    rw [← hro] at io
    rw [show ([32] ++ t.2.1 ++ [32] : List Nat) = [] ++ [32] ++ t.2.1 ++ [32] from rfl, ← hro] at tk
    refine ⟨S5, ?_, x05, ?_, ?_⟩
    · have pre : fX6_isName E N (put b A S) q = bX6_isName_40 E N q (put b A S5) (oI ro) := by
        simp only [fX6_isName, bX6_isName_0, bX6_isName_13, bX6_isName_17, bX6_isName_22, bX6_isName_29, bX6_isName_34, bX6_isName_37, pq_lit]
        simp (disch := omega) only [↓r47, hw.1, ↓gnw_n hb, ↓gbd_h (nw), nw, ↓gbd_h (a2), a2, ↓r51, ↓gbd_h (a3), a3, ↓gbd_h (a4), a4, ↓gbd_h (t5), t5, ↓gbd_h (io), io, pq_lit, pq_add, pq_le, pq_lt, pq_eq, pq_en, pq_ne, pq_nle, pq_nlt, pq_len, pq_ltn, pB_z, pB_o, mzt_0, mzt_1, mzt_B, ↓gbd_s, gbd_s, ↓gnn_s, ↓grf_s, eq_self, ↓reduceIte, Nat.reduceEqDiff, Nat.reduceLeDiff, Nat.reduceLT, Nat.reduceMul, Nat.reduceAdd, not_true_eq_false, not_false_eq_true, Bool.false_eq_true]
      rw [pre]
      cases er : ro with
      | none =>
        have nm : isNm t = true := decide_eq_true ⟨e, tk.mp er⟩
        have z : (Int32.ofNat 0 ≤ -Int32.ofNat 1) = False := by simp
        rw [nm]
        simp only [bX6_isName_40, bX6_isName_47, bX6_isName_48, oI, pq_lit]
        simp (disch := omega) only [z, bI_t, pq_lit, pq_add, pq_le, pq_lt, pq_eq, pq_en, pq_ne, pq_nle, pq_nlt, pq_len, pq_ltn, pB_z, pB_o, mzt_0, mzt_1, mzt_B, ↓gbd_s, gbd_s, ↓gnn_s, ↓grf_s, eq_self, ↓reduceIte, Nat.reduceEqDiff, Nat.reduceLeDiff, Nat.reduceLT, Nat.reduceMul, Nat.reduceAdd, not_true_eq_false, not_false_eq_true, Bool.false_eq_true]
      | some i =>
        have nm : isNm t = false := decide_eq_false (fun h => by
          have := tk.mpr h.2
          rw [er] at this; cases this)
        have il : i < 2000 := by
          have : ∀ (k i j : Nat), ixf L ([] ++ [32] ++ t.2.1 ++ [32]) k i = some j → j < i + k := by
            intro k
            induction k with
            | zero => intro i j h; cases h
            | succ k ih =>
              intro i j h
              unfold ixf at h
              split at h
              · injection h with h; omega
              · have := ih _ _ h; omega
          have := this _ _ _ (hro.symm.trans er)
          rw [tl] at this
          omega
        have z : 0 ≤ i := by omega
        rw [nm]
        simp only [bX6_isName_40, bX6_isName_47, bX6_isName_48, oI, pq_lit]
        simp (disch := omega) only [z, bI_f, pq_lit, pq_add, pq_le, pq_lt, pq_eq, pq_en, pq_ne, pq_nle, pq_nlt, pq_len, pq_ltn, pB_z, pB_o, mzt_0, mzt_1, mzt_B, ↓gbd_s, gbd_s, ↓gnn_s, ↓grf_s, eq_self, ↓reduceIte, Nat.reduceEqDiff, Nat.reduceLeDiff, Nat.reduceLT, Nat.reduceMul, Nat.reduceAdd, not_true_eq_false, not_false_eq_true, Bool.false_eq_true]
    · rw [n5]
      have : S1.2.2.1 = S.2.2.1 + 2 := by rw [n1]
      show S4.2.2.1 + 2 ≤ _
      omega
    · rw [n5]
      have : S1.2.2.2 = S.2.2.2 + 20 := by rw [n1]
      show S4.2.2.2 + 4 + _ ≤ _
      omega
  · have nm : isNm t = false := decide_eq_false (fun h => e h.1)
    have nk : ¬ kd = Int32.ofNat 2 := by
      rcases h12 with h | h | h | h | h | h
      · rw [h.2.1]; decide
      · rcases h.2.1 with q | q <;> rw [q] <;> decide
      · exact absurd h.1 e
      · rw [h.2.1]; decide
      · rw [h.2.1]; decide
      · rw [h.2.1]; decide
    rw [nm]
    refine ⟨S, ?_, Ext.rf, Nat.le_add_right _ _, Nat.le_add_right _ _⟩
    simp only [fX6_isName, bX6_isName_0, bX6_isName_47, bX6_isName_48, pq_lit]
    simp (disch := omega) only [↓r47, nk, bI_f, pq_lit, pq_add, pq_le, pq_lt, pq_eq, pq_en, pq_ne, pq_nle, pq_nlt, pq_len, pq_ltn, pB_z, pB_o, mzt_0, mzt_1, mzt_B, ↓gbd_s, gbd_s, ↓gnn_s, ↓grf_s, eq_self, ↓reduceIte, Nat.reduceEqDiff, Nat.reduceLeDiff, Nat.reduceLT, Nat.reduceMul, Nat.reduceAdd, not_true_eq_false, not_false_eq_true, Bool.false_eq_true]
theorem m_nmF : ∀ (k i m : Nat), i + k = 24 → k < m → bX5_isName_16L N m M (Int32.ofNat 0) (Int32.ofNat i) = some (Int32.ofNat 0, M)
  | k, i, 0, h1, h2 => by omega
  | 0, i, m + 1, h1, h2 => by
    have e1 : 24 ≤ i := by omega
    simp only [bX5_isName_16L, bX5_isName_16, pq_lit]
    simp (disch := omega) only [e1, eq_self, ↓reduceIte, Nat.reduceEqDiff, Nat.reduceLeDiff, Nat.reduceLT, Nat.reduceMul, Nat.reduceAdd, not_true_eq_false, not_false_eq_true, Bool.false_eq_true, pq_lit, pq_add, pq_le, pq_lt, pq_eq, pq_en, pq_ne, pq_nle, pq_nlt, pq_len, pq_ltn, pB_z, pB_o, mzt_0, mzt_1, mzt_B]
  | k + 1, i, m + 1, h1, h2 => by
    have e1 : ¬ 24 ≤ i := by omega
    have ih := m_nmF k (i + 1) m (by omega) (by omega)
    simp only [bX5_isName_16L, bX5_isName_16, bX5_isName_44, bX5_isName_45, pq_lit]
    simp (disch := omega) only [e1, ih, eq_self, ↓reduceIte, Nat.reduceEqDiff, Nat.reduceLeDiff, Nat.reduceLT, Nat.reduceMul, Nat.reduceAdd, not_true_eq_false, not_false_eq_true, Bool.false_eq_true, pq_lit, pq_add, pq_le, pq_lt, pq_eq, pq_en, pq_ne, pq_nle, pq_nlt, pq_len, pq_ltn, pB_z, pB_o, mzt_0, mzt_1, mzt_B]
theorem m_nmT {w : List Nat} (hr : ResR M) (hw : Wd w) (ew : M.2.1 = enc w) : ∀ (k i m : Nat), i + k = 24 → k < m → bX5_isName_16L N m M (Int32.ofNat 1) (Int32.ofNat i) = some (bI (decide (w ∉ resW.drop i)), M)
  | k, i, 0, h1, h2 => by omega
  | 0, i, m + 1, h1, h2 => by
    have e1 : 24 ≤ i := by omega
    have e2 : decide (w ∉ resW.drop i) = true := decide_eq_true (by rw [List.drop_eq_nil_of_le (by rw [res_w.1]; omega)]; exact List.not_mem_nil)
    rw [e2]
    simp only [bX5_isName_16L, bX5_isName_16, pq_lit]
    simp (disch := omega) only [e1, bI_t, eq_self, ↓reduceIte, Nat.reduceEqDiff, Nat.reduceLeDiff, Nat.reduceLT, Nat.reduceMul, Nat.reduceAdd, not_true_eq_false, not_false_eq_true, Bool.false_eq_true, pq_lit, pq_add, pq_le, pq_lt, pq_eq, pq_en, pq_ne, pq_nle, pq_nlt, pq_len, pq_ltn, pB_z, pB_o, mzt_0, mzt_1, mzt_B]
  | k + 1, i, m + 1, h1, h2 => by
    have e1 : ¬ 24 ≤ i := by omega
    have hi : i < resW.length := by rw [res_w.1]; omega
    have rk := hr i _ (List.getElem?_eq_getElem hi)
    have dr := List.drop_eq_getElem_cons hi
    have hW := res_w.2 _ (List.getElem_mem hi)
    by_cases e : w = resW[i]
    · have e2 : decide (w ∉ resW.drop i) = false := decide_eq_false (by rw [dr, e]; exact fun q => q List.mem_cons_self)
      have lz : lg_cmp M.2.1 (M.2.2.2 10 i) = Int32.ofNat 0 := by rw [lg_z, rk, ew, e]
      have ih := m_nmF (N := N) (M := M) k (i + 1) m (by omega) (by omega)
      rw [e2]
      simp only [bX5_isName_16L, bX5_isName_16, bX5_isName_44, bX5_isName_45, pq_lit]
      simp (disch := omega) only [e1, ↓mrdL_n, mrdL_n, lz, ih, bI_f, eq_self, ↓reduceIte, Nat.reduceEqDiff, Nat.reduceLeDiff, Nat.reduceLT, Nat.reduceMul, Nat.reduceAdd, not_true_eq_false, not_false_eq_true, Bool.false_eq_true, pq_lit, pq_add, pq_le, pq_lt, pq_eq, pq_en, pq_ne, pq_nle, pq_nlt, pq_len, pq_ltn, pB_z, pB_o, mzt_0, mzt_1, mzt_B]
    · have e2 : decide (w ∉ resW.drop i) = decide (w ∉ resW.drop (i + 1)) := by
        rw [decide_eq_decide, dr, List.mem_cons]
        exact ⟨fun h q => h (Or.inr q), fun h q => q.elim e h⟩
      have lz : ¬ lg_cmp M.2.1 (M.2.2.2 10 i) = Int32.ofNat 0 := by rw [lg_z, rk, ew]; exact fun q => e (enc_inj hw hW q)
      have ih := m_nmT hr hw ew k (i + 1) m (by omega) (by omega)
      rw [e2, ← ih]
      simp only [bX5_isName_16L, bX5_isName_16, bX5_isName_44, bX5_isName_45, pq_lit]
      simp (disch := omega) only [e1, ↓mrdL_n, mrdL_n, lz, eq_self, ↓reduceIte, Nat.reduceEqDiff, Nat.reduceLeDiff, Nat.reduceLT, Nat.reduceMul, Nat.reduceAdd, not_true_eq_false, not_false_eq_true, Bool.false_eq_true, pq_lit, pq_add, pq_le, pq_lt, pq_eq, pq_en, pq_ne, pq_nle, pq_nlt, pq_len, pq_ltn, pB_z, pB_o, mzt_0, mzt_1, mzt_B]
theorem j_nmM (hr : ResR M) (h : Rd b A S M q ci ex n lim fr t) (hN : 2000 ≤ N) : fX5_isName N M = some (bI (isNm t), M) := by
  have hh := h
  obtain ⟨p, kd, nu, sg, wr, c, h1, h2, h3, h4, h5, h6, h7, hk, h9, h10, h11, h12⟩ := h
  simp only [fX5_isName, bX5_isName_0, bX5_isName_13, pq_lit]
  by_cases e : t.1 = 2
  · have m11 : M.1 11 = Int32.ofNat 1 := by
      rcases h12 with h | h | h | h | h | h
      · omega
      · omega
      · exact h.2.2.1
      · omega
      · omega
      · omega
    obtain ⟨w1, w2⟩ := hh.wd e
    have lo := m_nmT (N := N) hr w1 w2 24 0 N (by omega) (by omega)
    have e2 : isNm t = decide (t.2.1 ∉ resW.drop 0) := by unfold isNm; rw [decide_eq_decide]; exact ⟨fun h => h.2, fun h => ⟨e, h⟩⟩
    rw [e2]
    simp (disch := omega) only [m11, lo, eq_self, ↓reduceIte, Nat.reduceEqDiff, Nat.reduceLeDiff, Nat.reduceLT, Nat.reduceMul, Nat.reduceAdd, not_true_eq_false, not_false_eq_true, Bool.false_eq_true, pq_lit, pq_add, pq_le, pq_lt, pq_eq, pq_en, pq_ne, pq_nle, pq_nlt, pq_len, pq_ltn, pB_z, pB_o, mzt_0, mzt_1, mzt_B]
  · have e2 : isNm t = false := decide_eq_false (fun h => e h.1)
    have nk : ¬ M.1 11 = Int32.ofNat 1 := by
      rcases h12 with h | h | h | h | h | h
      · rw [h.2.2]; decide
      · rw [h.2.2]; decide
      · exact absurd h.1 e
      · rw [h.2.2.1]; decide
      · rw [h.2.2.1]; decide
      · rw [h.2.2.1]; decide
    have lo := m_nmF (N := N) (M := M) 24 0 N (by omega) (by omega)
    rw [e2]
    simp (disch := omega) only [nk, lo, bI_f, eq_self, ↓reduceIte, Nat.reduceEqDiff, Nat.reduceLeDiff, Nat.reduceLT, Nat.reduceMul, Nat.reduceAdd, not_true_eq_false, not_false_eq_true, Bool.false_eq_true, pq_lit, pq_add, pq_le, pq_lt, pq_eq, pq_en, pq_ne, pq_nle, pq_nlt, pq_len, pq_ltn, pB_z, pB_o, mzt_0, mzt_1, mzt_B]
/-- what is needed isn't there -/
theorem j_bad (hE : E.1 ≤ b) (hb : b + 111 ≤ S.2.1) (h : Rd b A S M q ci ex n lim fr t) {k : Nat} (hk1 : k = 1 ∨ t.1 ≠ 1) : ∃ S', fX6_need E N (put b A S) q (Int32.ofNat 0) (Int32.ofNat k) = some (Sum.inr S.2.1, put b A S') ∧ fX5_bad N M (Int32.ofNat k) = some (Int32.ofNat 0, mF (mF M 15 (Int32.ofNat k)) 16 (Int32.ofNat fr)) ∧ Ext S S' ∧ FltAt b S' S.2.1 (Int32.ofNat k) (Int32.ofNat fr) ∧ S'.2.2.1 = S.2.2.1 + 1 ∧ S'.2.2.2 = S.2.2.2 + 8 := by
  obtain ⟨p, kd, nu, sg, wr, c, h1, h2, h3, h4, h5, h6, h7, hk, h9, h10, h11, h12⟩ := h
  obtain ⟨S', x, n1, fl, e⟩ := c_need0 (E := E) (N := N) (A := A) hk hE hb c (Int32.ofNat k)
  have ek : (if kd = Int32.ofNat 1 ∨ kd = Int32.ofNat 5 then Int32.ofNat 1 else Int32.ofNat k) = Int32.ofNat k := by
    rcases hk1 with q | q
    · rw [q, ite_self]
    · have nk : ¬ (kd = Int32.ofNat 1 ∨ kd = Int32.ofNat 5) := by
        rcases h12 with h | h | h | h | h | h
        · rw [h.2.1]; decide
        · exact absurd h.1 q
        · rw [h.2.1]; decide
        · rw [h.2.1]; decide
        · rw [h.2.1]; decide
        · rw [h.2.1]; decide
      rw [if_neg nk]
  rw [ek] at fl
  refine ⟨S', e, ?_, x, fl, by rw [n1], by rw [n1]⟩
  simp only [bX5_bad_0, fX5_bad, pq_lit]
  simp (disch := omega) only [↓mpt, mF_ne, h9, eq_self, ↓reduceIte, Nat.reduceEqDiff, Nat.reduceLeDiff, Nat.reduceLT, Nat.reduceMul, Nat.reduceAdd, not_true_eq_false, not_false_eq_true, Bool.false_eq_true, pq_lit, pq_add, pq_le, pq_lt, pq_eq, pq_en, pq_ne, pq_nle, pq_nlt, pq_len, pq_ltn, pB_z, pB_o, mzt_0, mzt_1, mzt_B]
end RI
