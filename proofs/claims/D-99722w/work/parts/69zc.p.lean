/-! sentence -/
abbrev rdx : List Nat := 0 :: 2 :: 3 :: 5 :: rdk
theorem mSn.su {ks ks' : List Nat} {M M' : MS} (h : mSn ks M M') (hs : ∀ k, k ∈ ks → k ∈ ks') : mSn ks' M M' := ⟨fun k hk => h.1 k (fun q => hk (hs k q)), h.2⟩
theorem mSn.rst {ks : List Nat} {M M' : MS} (h : mSn ks M M') (hk : ∀ k, k ∈ rstK → k ∉ ks) : mRst M M' := ⟨fun k q => h.1 k (hk k q), h.2.1 58 (by omega), h.2.1 10 (by omega)⟩
def OpX (E : gE) (b : Nat) (S : GS) (c t : Nat) (o : Option ((Int32 ⊕ Nat) × GS)) (o' : Option (Int32 × MS)) : Prop := ∃ r A' S' M', o = some (.inl r, put b A' S') ∧ o' = some (r, M') ∧ Rel E b A' S' M' ∧ S'.2.2.1 ≤ S.2.2.1 + c ∧ S'.2.2.2 ≤ S.2.2.2 + t
/-- a text was read in vain, or to no lasting end -/
theorem Rel.rdf {E : gE} {b : Nat} {A : FA} {S S' : GS} {M M' : MS} (h : Rel E b A S M) (x : Ext S S') (sn : mSn rdx M M') {v1 v2 : Int32} {t : Nat} (ht : t ≤ 940) (e1 : v1 = Int32.ofNat t) (e2 : M'.1 2 = Int32.ofNat t) (e3 : v2 = M'.1 15) : Rel E b (sI (sI A 1 v1) 2 v2) S' M' := by
  obtain ⟨h1, ⟨t1, t2, t3⟩, ⟨a, d, u, g3, g0, gs, gW, gU⟩, h4⟩ := h
  have i := sn.1
  have e6 : M'.2.2.1 6 = M.2.2.1 6 := (i 6 (by decide)).2
  refine ⟨h1.ext x, ⟨?_, ⟨t, ht, e1, e2⟩, e3⟩, ⟨a, d, u, g3, g0, ?_, ?_, ?_⟩, h4.eq x ?_ (sn.rst (by decide))⟩
  · rw [(i 1 (by decide)).2]; exact t1
  · rw [e6]; exact gs
  · refine (gW.ext x).cg (fun k _ => by rw [e6]) (fun k hk => sn.2.2 k hk)
  · obtain ⟨u1, u2, u3, u4⟩ := gU
    refine ⟨u1, u2, by rw [(i 23 (by decide)).1]; exact u3, fun j hj => ?_⟩
    rw [e6, (i 21 (by decide)).2]
    exact u4 j hj
  · exact ⟨fun k hk => by
      show va_up (va_up A.2.1 1 v1) 2 v2 k = _
      unfold va_up
      rw [if_neg (by rintro rfl; revert hk; decide), if_neg (by rintro rfl; revert hk; decide)], fun _ _ => rfl, rfl, fun _ => rfl, rfl, rfl⟩
theorem IvA.lo {s s' : St} (h : IvA s) (m : ∀ k, k < 138 → s' k = s k) : IvA s' := by
  have mp : Mp s s' := fun k hk => m k (by omega)
  have eL : nL s' = nL s := mp.eL
  have eP : nP s' = nP s := mp.eP
  have eR : nR s' = nR s := mp.eR
  have hl7 := h.1.l7
  have hp6 := h.1.p6
  obtain ⟨i1, i2, i3, i4, i5, i6⟩ := h
  refine ⟨⟨?_, ?_, ?_, ?_, ?_, ?_, fun p hp => ?_⟩, i2.eq (m 91 (by omega)), i3.eq eL eP (fun l h1 h2 => ⟨m _ (by omega), m _ (by omega)⟩) (fun p h1 h2 => m _ (by omega)), i4.eq (fun i hi => m _ (by have := ix_in hi; omega)), i5.eq eR (fun l hl => m _ (by omega)) (m 93 (by omega)), i6.mp mp⟩
  · rw [m 0 (by omega), eL]; exact i1.c0
  · rw [eL]; exact i1.l7
  · rw [m 1 (by omega), eR]; exact i1.c1
  · rw [eR]; exact i1.r12
  · rw [m 2 (by omega), eP]; exact i1.c2
  · rw [eP]; exact i1.p6
  · rw [eP] at hp
    have e1 : hm s' p = hm s p := mp.eh (by omega)
    have e2 : wh s' p = wh s p := by unfold wh; rw [m _ (by omega)]
    rw [m _ (by omega), m _ (by omega), e1, e2, eL]
    exact i1.2.2.2.2.2.2 p hp
theorem World.nml {b : Nat} {S : GS} {a : Nat} {r : Option Nat} {s : St} {d : AD} {M : MS} (h : World b S a r s (M.2.2.2 9) d) : NmL b S M d.1.1 (nL s) 0 d.2.1 := by
  obtain ⟨hA, hn, _, hI⟩ := h
  refine ⟨hA.2.1, hI.1.l7, by have := hI.1.l7; omega, fun k hk => ?_⟩
  obtain ⟨td, hc⟩ := hA.2.2.2.2.1 k hk
  obtain ⟨w, s1, s2, s3⟩ := hn.1 k hk
  exact ⟨_, w, 6, _, Or.inl rfl, hc, s1, s2, by rw [Nat.zero_add]; exact s3⟩
theorem World.nmp {b : Nat} {S : GS} {a : Nat} {r : Option Nat} {s : St} {d : AD} {M : MS} (h : World b S a r s (M.2.2.2 9) d) : NmL b S M d.1.2.2 (nP s) 7 d.2.2.2.1 := by
  obtain ⟨hA, hn, _, hI⟩ := h
  refine ⟨hA.2.2.2.1, by have := hI.1.p6; omega, by have := hI.1.p6; omega, fun k hk => ?_⟩
  have hc := hA.2.2.2.2.2.2 k hk
  obtain ⟨w, s1, s2, s3⟩ := hn.2 k hk
  exact ⟨_, w, 8, _, Or.inr rfl, hc, s1, s2, s3⟩
theorem gbc_h {α β : Type} {o : Option ((α ⊕ Nat) × GS)} {r : α} {S' : GS} (h : o = some (.inl r, S')) (KX : Nat → GS → Option β) (K : α → GS → Option β) : gbc o KX K = K r S' := by rw [h]; rfl
theorem gbc_x {α β : Type} {o : Option ((α ⊕ Nat) × GS)} {r : Nat} {S' : GS} (h : o = some (.inr r, S')) (KX : Nat → GS → Option β) (K : α → GS → Option β) : gbc o KX K = KX r S' := by rw [h]; rfl
section SK
variable {E : gE} {N b : Nat} {A : FA} {S : GS} {M : MS}
theorem m_146 {cl : Nat} (hc : cl ≤ 45) : ∀ (k i m : Nat) (M : MS), i + k = 3 * cl → M.1 51 = Int32.ofNat cl → k < m → bX5_sentence_146L N m M (Int32.ofNat i) = some (M.1 52, mR M 6 (cpF (M.2.2.1 6) (M.2.2.1 8) (139 + i) i k))
  | k, i, 0, M, h1, h2, h3 => by omega
  | 0, i, m + 1, M, h1, h2, h3 => by
    have e1 : 3 * cl ≤ i := by omega
    rw [cpF_0, mR_id]
    simp only [bX5_sentence_146L, bX5_sentence_146, pq_lit]
    simp (disch := omega) only [h2, pq_mul, e1, eq_self, ↓reduceIte, Nat.reduceEqDiff, Nat.reduceLeDiff, Nat.reduceLT, Nat.reduceMul, Nat.reduceAdd, not_true_eq_false, not_false_eq_true, Bool.false_eq_true, pq_lit, pq_add, pq_le, pq_lt, pq_eq, pq_en, pq_ne, pq_nle, pq_nlt, pq_len, pq_ltn, pB_z, pB_o, mzt_0, mzt_1, mzt_B]
  | k + 1, i, m + 1, M, h1, h2, h3 => by
    have e1 : ¬ 3 * cl ≤ i := by omega
    have ih := m_146 hc k (i + 1) m (mR M 6 (upd (M.2.2.1 6) (139 + i) (M.2.2.1 8 i))) (by omega) h2 (by omega)
    rw [mR_mR, mA_e, mA_n _ _ (by omega), ← Nat.add_assoc, cpF_s, mA_i] at ih
    rw [← ih]
    simp only [bX5_sentence_146L, bX5_sentence_146, pq_lit]
    simp (disch := omega) only [h2, pq_mul, e1, pq_add, ↓mrd_n, mrd_n, ↓mwr_n, mwr_n, ma_s, eq_self, ↓reduceIte, Nat.reduceEqDiff, Nat.reduceLeDiff, Nat.reduceLT, Nat.reduceMul, Nat.reduceAdd, not_true_eq_false, not_false_eq_true, Bool.false_eq_true, pq_lit, pq_add, pq_le, pq_lt, pq_eq, pq_en, pq_ne, pq_nle, pq_nlt, pq_len, pq_ltn, pB_z, pB_o, mzt_0, mzt_1, mzt_B]
theorem c_tak (hE : E.1 ≤ b) : vInchBorders_take___I E N (put b A S) (some b) = some (aI A 1, put b (sI A 1 (Int32.ofNat 0)) S) := by
  simp only [vInchBorders_take___I, f_cls]
  simp only [bX1_take_0, fX1_take, pq_lit]
  simp (disch := omega) only [↓f_1, ↓f_p1, ↓gbd_s, gbd_s, ↓gbx_s, gbx_s, ↓gnn_s, ↓grf_s, eq_self, ↓reduceIte, Nat.reduceEqDiff, Nat.reduceLeDiff, Nat.reduceLT, Nat.reduceMul, Nat.reduceAdd, not_true_eq_false, not_false_eq_true, Bool.false_eq_true, pq_lit, pq_add, pq_le, pq_lt, pq_eq, pq_en, pq_ne, pq_nle, pq_nlt, pq_len, pq_ltn, pB_z, pB_o, mzt_0, mzt_1, mzt_B]
theorem o_sentence (h : Rel E b A S M) (hN : 3000 ≤ N) : OpX E b S 2000 25000 (fX1_sentence E N (put b A S) b) (fX5_sentence N M) := by
  have hh := h
  obtain ⟨r1, ⟨t1, ⟨tp, htp, t2, t2'⟩, t3⟩, ⟨a, d, u, h3, h0, hs, hW, hU⟩, r4⟩ := h
  have hE := r1.1
  have hb := r1.2.1
  obtain ⟨A1, hA1⟩ : ∃ A1, A1 = sI (sI A 1 (Int32.ofNat 0)) 2 (Int32.ofNat 0) := ⟨_, rfl⟩
  have a10 : aV A1 0 = aV A 0 := by rw [hA1]; rfl
  have a13 : aR A1 3 = some a := by rw [hA1]; exact h3
  obtain ⟨S1, hS1⟩ : ∃ S1, S1 = gpush S (.inr (18, gdf 18)) (gdf 18).length := ⟨_, rfl⟩
  have x1 : Ext S S1 := by rw [hS1]; exact Ext.push _ _ _
  have z1 : S1.2 = (S.2.1 + 1, S.2.2.1 + 1, S.2.2.2 + 12) := by rw [hS1]; rfl
  have c1 : Cel b S1 S.2.1 (.inr (18, [.null, .int (Int32.ofNat 0), .int (Int32.ofNat 0), .int (Int32.ofNat 0), .int (Int32.ofNat 0), .int (Int32.ofNat 0), .int (Int32.ofNat 0), .int (Int32.ofNat 0), .null, .null, .int (Int32.ofNat 0), .int (Int32.ofNat 0)])) := by rw [hS1]; exact Cel.push hb _ _
  obtain ⟨S2, hS2⟩ : ∃ S2, S2 = gup S1 S.2.1 (.inr (18, rdV b tp 200 (Int32.ofNat 0) (Int32.ofNat 0) (Int32.ofNat 0) (Int32.ofNat 0) (Int32.ofNat 0) (E.2.1 23) (sEx a 0 0))) := ⟨_, rfl⟩
  have c2 : Cel b S2 S.2.1 (.inr (18, rdV b tp 200 (Int32.ofNat 0) (Int32.ofNat 0) (Int32.ofNat 0) (Int32.ofNat 0) (Int32.ofNat 0) (E.2.1 23) (sEx a 0 0))) := by rw [hS2]; exact c1.up _
  have x2 : Ext S S2 := by rw [hS2]; exact x1.gup (Nat.le_refl _)
  have z2 : S2.2 = (S.2.1 + 1, S.2.2.1 + 1, S.2.2.2 + 12) := by rw [hS2]; exact z1
  obtain ⟨Mi, hMi⟩ : ∃ Mi, Mi = mF (mF (mF (mF (mF (mF (mF (mF (mF (mF (mF M 0 (Int32.ofNat 0)) 3 (Int32.ofNat tp)) 2 (Int32.ofNat 0)) 4 (Int32.ofNat 0)) 5 (Int32.ofNat 200)) 15 (Int32.ofNat 0)) 51 (Int32.ofNat 0)) 52 (Int32.ofNat 0)) 53 (Int32.ofNat 0)) 54 (Int32.ofNat 1)) 55 (Int32.ofNat 0) := ⟨_, rfl⟩
  have smi : mSm [0, 2, 3, 4, 5, 15, 51, 52, 53, 54, 55] M Mi := by
    rw [hMi]
    exact ((((((((((mSm.rf.mF _ (by decide)).mF _ (by decide)).mF _ (by decide)).mF _ (by decide)).mF _ (by decide)).mF _ (by decide)).mF _ (by decide)).mF _ (by decide)).mF _ (by decide)).mF _ (by decide)).mF _ (by decide)
  have mM : fX5_sentence N M = mbd (fX5_next N Mi) (fun _ S_13 => bX5_sentence_48L N N S_13 (Int32.ofNat 1)) := by
    rw [hMi]
    simp only [fX5_sentence, bX5_sentence_0, bX5_taken_0, fX5_taken, pq_lit]
    simp (disch := omega) only [↓mpt, ↓mbd_s, mF_ne, t2', ↓mbd_s, mbd_s, eq_self, ↓reduceIte, Nat.reduceEqDiff, Nat.reduceLeDiff, Nat.reduceLT, Nat.reduceMul, Nat.reduceAdd, not_true_eq_false, not_false_eq_true, Bool.false_eq_true, pq_lit, pq_add, pq_le, pq_lt, pq_eq, pq_en, pq_ne, pq_nle, pq_nlt, pq_len, pq_ltn, pB_z, pB_o, mzt_0, mzt_1, mzt_B]
  have e6 : Mi.2.2.1 6 = M.2.2.1 6 := (smi.2 6 (by decide)).2
  have hWi : World b S a (aR A 6) (M.2.2.1 6) (Mi.2.2.2 9) d := by rw [smi.1]; exact hW
  have cx : SCx E N b A1 S Mi S.2.1 a (nL (M.2.2.1 6)) d.1.1 d.2.1 := by
    refine ⟨r1, hN, Nat.le_refl _, fun k w hk => ?_, hWi.nml, ?_, ?_⟩
    · rw [smi.1]; exact r4.2.2.2.2.2.2.2.2.2 k w hk
    · obtain ⟨ln, hc⟩ := hW.1.1
      exact ⟨ln, _, _, hc⟩
    · rw [e6]; exact hW.2.2.2.1.c0
  have rp : Rp b A1 S2 Mi S.2.1 18 (sEx a 0 0) tp 200 0 := by
    refine ⟨_, _, _, _, _, c2, by omega, htp, by omega, ?_, ?_, ?_, ?_, Or.inr (Or.inr rfl)⟩
    · rw [hMi]; rfl
    · rw [hMi]; rfl
    · rw [hMi]; rfl
    · rw [a10, (smi.2 1 (by decide)).2]; exact t1
  obtain ⟨S3, M3, fr, t, gc, gm, h3d, hfr, xo3, fx3, sm3, p1, p2⟩ := j_go (E := E) (N := N) hE (by omega) (by rw [z2]; show b + 111 ≤ S.2.1 + 1; omega) (by omega) rp
  have x3 : Ext S S3 := xo3.ext x2 (Nat.le_refl _)
  have sni : SnM Mi [] [] 0 false := by
    refine ⟨by rw [hMi]; rfl, fun i x hx => by simp at hx, by rw [hMi]; rfl, fun i x hx => by simp at hx, by rw [hMi]; rfl, by rw [hMi]; rfl, by rw [hMi]; rfl, Nat.le_refl _, by omega, fun x hx => by cases hx⟩
  have sn3 : SnM M3 [] [] 0 false := sni.sm sm3 (by decide)
  have k31 : S3.2.2.1 ≤ S.2.2.1 + 5 := by have : S2.2.2.1 = S.2.2.1 + 1 := by rw [z2]
                                          omega
  have k32 : S3.2.2.2 ≤ S.2.2.2 + 52 := by have : S2.2.2.2 = S.2.2.2 + 12 := by rw [z2]
                                           omega
  have hN' : ∀ j, j ≤ 210 → ∃ k, N = k + j := fun j hj => ⟨N - j, by omega⟩
  have rd0 : Cel b S2 S.2.1 (.inr (18, _)) := c2
  have w43 := fun {β : Type} (K : GS → Option β) => w18_51 (E := E) c1 (show E.1 ≤ S.2.1 by omega) A1 (.ref (E.2.1 23)) K
  have hg : E.1 ≤ S.2.1 := by omega
  -- up to the reading itself
  have preC : fX1_sentence E N (put b A S) b = bX1_sentence_26 E N b (put b A1 S2) (some S.2.1) := by
    have a0 : ∀ {β : Type} (K : Option Nat → Option β), ggr (put b A1 S1) (some b) 0 K = K (some (b + 1)) := fun K => f_0 K
    have a3 : ∀ {β : Type} (K : Option Nat → Option β), ggr (put b A1 S1) (some b) 3 K = K (some a) := fun K => by rw [f_3, a13]
    have tk := c_tak (E := E) (N := N) (A := A) (S := S) hE
    rw [t2] at tk
    simp only [fX1_sentence, bX1_sentence_0, bX1_sentence_4, bX1_sentence_13, bX25_init_0, fX25_init, bX6_init_0, fX6_init, pq_lit]
    simp (disch := omega) only [↓gbd_h (tk), tk, ↓f_p2, ← hA1, ↓gnw_n hb, ← hS1, ↓a0, ↓a3, g_rfs, ↓w18_51 c1 hg, ↓w18_43 (c1.up _) hg, ↓w18_44 (c1.up _) hg, ↓w18_45 (c1.up _) hg, ↓w18_97 (c1.up _) hg, gup_gup, ↓gbd_s, gbd_s, ↓gbx_s, gbx_s, ↓gnn_s, ↓grf_s, eq_self, ↓reduceIte, Nat.reduceEqDiff, Nat.reduceLeDiff, Nat.reduceLT, Nat.reduceMul, Nat.reduceAdd, not_true_eq_false, not_false_eq_true, Bool.false_eq_true, pq_lit, pq_add, pq_le, pq_lt, pq_eq, pq_en, pq_ne, pq_nle, pq_nlt, pq_len, pq_ltn, pB_z, pB_o, mzt_0, mzt_1, mzt_B]
    rw [hS2]
  have vr : vInchBorders_SentenceReader_read___LInchBorders_Cond_ E N (put b A1 S2) (some S.2.1) = gbx ((zX25_bracket E N 64).1 (put b A1 S3) (some S.2.1)) (fun r_1 S_2 => bX25_read_8 E N S.2.1 S_2 r_1) := by
    have vg : vInchBorders_SentenceReader_go___V E N (put b A1 S2) (some S.2.1) = fX6_go E N (put b A1 S2) S.2.1 := by
      simp only [vInchBorders_SentenceReader_go___V]; rw [kc c2]; rfl
    simp only [vInchBorders_SentenceReader_read___LInchBorders_Cond_]
    rw [kc c2]
    show fX25_read E N (put b A1 S2) S.2.1 = _
    unfold fX25_read bX25_read_0
    rw [vg, gbd_h gc]
    rfl
  -- a failure
  have fl : ∀ oc, SF N b A1 S Mi 200 S3 M3 fr oc → vInchBorders_SentenceReader_read___LInchBorders_Cond_ E N (put b A1 S2) (some S.2.1) = oc → OpX E b S 2000 25000 (fX1_sentence E N (put b A S) b) (fX5_sentence N M) := by
    intro oc sf eo
    obtain ⟨fa, kd, pl, S', M', j, e1, e2, e3, ⟨y0, y1, y2, y3, y4, y5, e4⟩, e5, e6', e7, e8, e9, e10⟩ := sf
    obtain ⟨k, hk⟩ := hN' j (by omega)
    have r59 := fun {β : Type} (K : Int32 → Option β) => r5_59 e4 A1 K
    have r60 := fun {β : Type} (K : Int32 → Option β) => r5_60 e4 (sI A1 2 kd) K
    have s12 : mSn rdx M M' := (smi.sn.su (by decide)).tr (e7.su (by decide))
    have m2 : M'.1 2 = Int32.ofNat 0 := by rw [(e7.1 2 (by decide)).1, hMi]; rfl
    have rel : Rel E b (sI (sI A 1 (Int32.ofNat 0)) 2 kd) S' M' := hh.rdf e3 s12 (t := 0) (by omega) rfl m2 e5.symm
    refine ⟨-Int32.ofNat 1 - pl, sI (sI A 1 (Int32.ofNat 0)) 2 kd, S', M', ?_, ?_, rel, by omega, by omega⟩
    · rw [preC]
      unfold bX1_sentence_26
      rw [eo, gbc_x e1]
      have eA : sI A1 2 kd = sI (sI A 1 (Int32.ofNat 0)) 2 kd := by rw [hA1, sI_sI]
      simp only [bX1_sentence_40, pq_lit]
      simp (disch := omega) only [↓r59, ↓f_p2, ↓r60, ↓gbd_s, gbd_s, ↓gbx_s, gbx_s, ↓gnn_s, ↓grf_s, eq_self, ↓reduceIte, Nat.reduceEqDiff, Nat.reduceLeDiff, Nat.reduceLT, Nat.reduceMul, Nat.reduceAdd, not_true_eq_false, not_false_eq_true, Bool.false_eq_true, pq_lit, pq_add, pq_le, pq_lt, pq_eq, pq_en, pq_ne, pq_nle, pq_nlt, pq_len, pq_ltn, pB_z, pB_o, mzt_0, mzt_1, mzt_B]
      rw [eA]
    · rw [mM, mbd_h gm]
      show sL N N M3 = _
      rw [hk]
      have := e2 k
      rw [hk] at this
      exact this
  rcases p_top (n := tp) (lim := 200) cx S3 M3 fr t 0 [] [] x3 (sm3.su (by decide)) h3d sn3 rfl (fun x s' e => by cases e) with ss | sf
  · obtain ⟨r, S4, M4, c, cs4, st4, on4, fr4, t4, j, e1, e2, h4, ⟨q10, q11⟩, s4, hR, hcd, hl, xo4, x4, sm4, hf4, k1, k2⟩ := ss
    rw [List.nil_append] at hR
    have hR' : jns true (nts cs4 st4).1 (nts cs4 st4).2 = (c, []) := hR
    have hh4 := h4
    have fl4 := h4.m12.2
    by_cases e0 : t4.1 = 0
    · obtain ⟨M5, s5, w5, n5, h5, eb, es⟩ := m_bj (N := N) cx x4 h4 s4 hR' q10 q11
      obtain ⟨g51, g8, g53, g50, g52, g54, g55, glen, go20, gx⟩ := n5
      have glen' : c.length + 0 + 1 ≤ 2 * on4 := glen
      obtain ⟨s', hs'⟩ : ∃ s', s' = cpF (upd (M.2.2.1 6) 138 (Int32.ofNat c.length)) (M5.2.2.1 8) 139 0 (3 * c.length) := ⟨_, rfl⟩
      have sm05 : mSm rdx M M5 := ((smi.su (by decide)).tr (sm4.su (by decide))).tr (s5.su (by decide))
      have e56 : M5.2.2.1 6 = M.2.2.1 6 := (sm05.2 6 (by decide)).2
      have lo : ∀ k, k < 138 → s' k = M.2.2.1 6 k := fun k hk => by
        rw [hs']; unfold cpF; rw [if_neg (by omega), upd_o _ _ (by omega)]
      have hp : put b (sT (sR A1 6 (some r)) 0 ((aT A 0).1, (aT A 0).2.1, s')) S4 = put b (sR A1 6 (some r)) S4 := by
        have e := put_eq (b := b) (A := sR A1 6 (some r)) (S := S4) (j := 0) (x := ((aT A 0).1, (aT A 0).2.1, s')) (y := aT (sR A1 6 (some r)) 0) (by rw [hA1]; rfl) (by rw [hA1]; rfl) (fun k h1 h2 => by
          show s' k = (aT (sR A1 6 (some r)) 0).2.2 k
          rw [lo k (by omega), ← hs, hA1]; rfl)
        rw [e, sT_id]
      have s98 := fun {β : Type} (K : Int32 → Option β) => sr_98 (A := sR A1 6 (some r)) (M := M4) (t := t4) (show Rd b (sR A1 6 (some r)) S4 M4 S.2.1 18 (sEx a on4 0) tp 200 fr4 t4 from by
        obtain ⟨p, kd, nu, sg, wr, cq, g1, g2, g3, g4, g5, g6, g7, rest⟩ := h4
        exact ⟨p, kd, nu, sg, wr, cq, g1, g2, g3, g4, g5, g6, g7, rest⟩) K
      refine ⟨Int32.ofNat on4, sT (sR A1 6 (some r)) 0 ((aT A 0).1, (aT A 0).2.1, s'), S4, mR M5 6 s', ?_, ?_, ?_, by omega, by omega⟩
      · rw [hp, preC]
        have hh4' := h4
        obtain ⟨p, kd, nu, sg, wr, cq, g1, g2, g3, g4, g5, g6, g7, hk, g9, g10, g11, g12⟩ := h4
        have r47 := fun {β : Type} (K : Int32 → Option β) => rd_47 hk cq A1 K
        have kd0 : kd = Int32.ofNat 0 := by
          rcases g12 with h | h | h | h | h | h
          · exact h.2.1
          · omega
          · omega
          · omega
          · omega
          · omega
        have n1 := c_need1 (E := E) (N := N) (b := b) (A := A1) (S := S4) (q := S.2.1) (Int32.ofNat 1)
        have rdr : vInchBorders_SentenceReader_read___LInchBorders_Cond_ E N (put b A1 S2) (some S.2.1) = some (Sum.inl (some r), put b A1 S4) := by
          rw [vr, gbx_h e1]
          simp only [bX25_read_8, bX25_read_22, bX25_read_26, pq_lit]
          simp (disch := omega) only [↓r47, kd0, v_need hh4', ↓gbx_h n1, ↓gbd_s, gbd_s, ↓gbx_s, gbx_s, ↓gnn_s, ↓grf_s, eq_self, ↓reduceIte, Nat.reduceEqDiff, Nat.reduceLeDiff, Nat.reduceLT, Nat.reduceMul, Nat.reduceAdd, not_true_eq_false, not_false_eq_true, Bool.false_eq_true, pq_lit, pq_add, pq_le, pq_lt, pq_eq, pq_en, pq_ne, pq_nle, pq_nlt, pq_len, pq_ltn, pB_z, pB_o, mzt_0, mzt_1, mzt_B]
        unfold bX1_sentence_26
        rw [gbc_h rdr]
        simp only [bX1_sentence_32, pq_lit]
        simp (disch := omega) only [↓f_p6, ↓s98, ↓gbd_s, gbd_s, ↓gbx_s, gbx_s, ↓gnn_s, ↓grf_s, eq_self, ↓reduceIte, Nat.reduceEqDiff, Nat.reduceLeDiff, Nat.reduceLT, Nat.reduceMul, Nat.reduceAdd, not_true_eq_false, not_false_eq_true, Bool.false_eq_true, pq_lit, pq_add, pq_le, pq_lt, pq_eq, pq_en, pq_ne, pq_nle, pq_nlt, pq_len, pq_ltn, pB_z, pB_o, mzt_0, mzt_1, mzt_B]
      · rw [mM, mbd_h gm]
        show sL N N M3 = _
        obtain ⟨k, hk⟩ := hN' (j + 2) (by omega)
        have eN : N = k + 1 + 1 + j := by omega
        rw [show sL N N M3 = sL N (k + 1 + 1 + j) M3 by rw [← eN], e2, es (k + 1) (h4.m11.mpr e0)]
        have g53' : M5.1 53 = Int32.ofNat 0 := g53
        rw [g53', if_pos (by rw [pq_le (by omega) (by omega)]; omega)]
        have lp := m_146 (N := N) (cl := c.length) (by omega) (3 * c.length) 0 N (mR M5 6 (upd (M5.2.2.1 6) 138 (Int32.ofNat c.length))) (by omega) g51 (by omega)
        rw [mR_mR, mA_e, mA_n _ _ (by omega), mA_i, g52, e56] at lp
        rw [← hs'] at lp
        rw [← lp]
        simp only [bX5_sentence_48L, bX5_sentence_48, pq_lit]
        simp (disch := omega) only [↓mwr_n, mwr_n, g51, ma_s, e56, ↓mbd_s, mbd_s, eq_self, ↓reduceIte, Nat.reduceEqDiff, Nat.reduceLeDiff, Nat.reduceLT, Nat.reduceMul, Nat.reduceAdd, not_true_eq_false, not_false_eq_true, Bool.false_eq_true, pq_lit, pq_add, pq_le, pq_lt, pq_eq, pq_en, pq_ne, pq_nle, pq_nlt, pq_len, pq_ltn, pB_z, pB_o, mzt_0, mzt_1, mzt_B]
      · -- the relation
        have eA : aI (sT (sR A1 6 (some r)) 0 ((aT A 0).1, (aT A 0).2.1, s')) 1 = Int32.ofNat 0 := by rw [hA1]; rfl
        have wn : World b S4 a (some r) s' ((mR M5 6 s').2.2.2 9) d := by
          obtain ⟨w1, w2, w3, w4⟩ := hW.ext x4
          have mp : Mp (M.2.2.1 6) s' := fun k hk => lo k (by omega)
          refine ⟨w1.mp w4.1 mp, ⟨fun l hl => ?_, fun p hp => ?_⟩, Or.inr ⟨r, c.length, c, rfl, by omega, ?_, hl, by omega, ?_, fun i x hx => ?_⟩, w4.lo lo⟩
          · rw [show nL s' = nL (M.2.2.1 6) from mp.eL] at hl
            rw [mA_L, sm05.1]; exact w2.1 l hl
          · rw [show nP s' = nP (M.2.2.1 6) from mp.eP] at hp
            rw [mA_L, sm05.1]; exact w2.2 p hp
          · rw [show nL s' = nL (M.2.2.1 6) from mp.eL]; exact hcd
          · rw [hs']; unfold cpF; rw [if_neg (by omega), upd_s]
          · have hi : i < c.length := (List.getElem?_eq_some_iff.mp hx).1
            have := g8 i x hx
            rw [Nat.zero_add] at this
            rw [hs']
            unfold cpF
            rw [if_pos (by omega), if_pos (by omega), if_pos (by omega), show 0 + (139 + 3 * i - 139) = 3 * i by omega, show 0 + (139 + 3 * i + 1 - 139) = 3 * i + 1 by omega, show 0 + (139 + 3 * i + 2 - 139) = 3 * i + 2 by omega]
            exact this
        have sm06 : mSm (6 :: rdx) M (mR M5 6 s') := (sm05.su (by decide)).mR _ (by decide)
        refine ⟨r1.ext x4, ⟨?_, ⟨0, by omega, eA, ?_⟩, ?_⟩, ⟨a, d, u, ?_, ?_, ?_, wn, ?_⟩, r4.eq x4 ?_ (mRst.of sm06 (by decide))⟩
        · rw [(sm06.2 1 (by decide)).2, ← t1, hA1]; rfl
        · rw [mA_i, (s5.2 2 (by decide)).1, (sm4.2 2 (by decide)).1, hMi]; rfl
        · rw [mA_i, (s5.2 15 (by decide)).1, (sm4.2 15 (by decide)).1, hMi, hA1]; rfl
        · rw [hA1]; exact h3
        · show ((aT A 0).1) = some a; exact h0
        · rw [mA_e]; rfl
        · obtain ⟨u1, u2, u3, u4⟩ := hU
          refine ⟨u1, ?_, by rw [(sm06.2 23 (by decide)).1]; exact u3, fun j hj => ?_⟩
          · rw [hA1]; exact u2
          · have eb2 : ∀ k, k < 138 → bk s' ((mR M5 6 s').2.2.1 21) (47 * j) k = bk (M.2.2.1 6) (M.2.2.1 21) (47 * j) k := fun k hk => by
              rw [(sm06.2 21 (by decide)).2]
              unfold bk cpF
              by_cases e : 91 ≤ k ∧ k < 91 + 47
              · rw [if_pos e, if_pos e]
              · rw [if_neg e, if_neg e]; exact lo k hk
            obtain ⟨v1, v2, v3⟩ := u4 j hj
            have ea : aT (sT (sR A1 6 (some r)) 0 ((aT A 0).1, (aT A 0).2.1, s')) (bi (aC A) j) = aT A (bi (aC A) j) := by
              rw [aT_sTo _ _ (by have := bi_ge (aC A) j; omega), hA1]; rfl
            refine ⟨?_, fun k h1 h2 => ?_, ?_⟩
            · rw [hA1] at ea ⊢; exact (congrArg (·.1) ea).trans v1
            · have e2 : tS (sT (sR A1 6 (some r)) 0 ((aT A 0).1, (aT A 0).2.1, s')) (bi (aC A) j) k = tS A (bi (aC A) j) k := by unfold tS; rw [ea]
              rw [(sm06.2 21 (by decide)).2, ← v2 k h1 h2, ← e2, hA1]; rfl
            · rw [mA_e]; exact v3.lo eb2
        · refine ⟨fun k hk => ?_, fun _ _ => by rw [hA1]; rfl, by rw [hA1]; rfl, fun _ => by rw [hA1]; rfl, ?_, ?_⟩
          · rw [hA1]
            show va_up (va_up A.2.1 1 _) 2 _ k = _
            unfold va_up
            rw [if_neg (by rintro rfl; revert hk; decide), if_neg (by rintro rfl; revert hk; decide)]
          · rw [aT_sTo _ _ (by omega), hA1]; rfl
          · rw [aT_sTo _ _ (by omega), hA1]; rfl
    · have hh4' := h4
      obtain ⟨p, kd, nu, sg, wr, cq, g1, g2, g3, g4, g5, g6, g7, hk, g9, g10, g11, g12⟩ := h4
      have r47 := fun {β : Type} (K : Int32 → Option β) => rd_47 hk cq A1 K
      have nk : ¬ kd = Int32.ofNat 0 := by
        rcases g12 with h | h | h | h | h | h
        · exact absurd h.1 e0
        · rcases h.2.1 with q | q <;> rw [q] <;> decide
        · rw [h.2.1]; decide
        · rw [h.2.1]; decide
        · rw [h.2.1]; decide
        · rw [h.2.1]; decide
      refine fl _ (SF.tr (j1 := j) (S1 := S4) (M1 := M4) (fr1 := fr4) (j_bx (E := E) (oc := vInchBorders_SentenceReader_read___LInchBorders_Cond_ E N (put b A1 S2) (some S.2.1)) cx x4 sm4 hh4' s4 hR' q10 q11 (Or.inr ⟨e0, Or.inr rfl⟩) (fun S' e => ?_)) e2 hf4 k1 k2) rfl
      rw [vr, gbx_h e1]
      simp only [bX25_read_8, bX25_read_22, pq_lit]
      simp (disch := omega) only [↓r47, nk, v_need hh4', ↓gbx_x e, ↓gbd_s, gbd_s, ↓gbx_s, gbx_s, ↓gnn_s, ↓grf_s, eq_self, ↓reduceIte, Nat.reduceEqDiff, Nat.reduceLeDiff, Nat.reduceLT, Nat.reduceMul, Nat.reduceAdd, not_true_eq_false, not_false_eq_true, Bool.false_eq_true, pq_lit, pq_add, pq_le, pq_lt, pq_eq, pq_en, pq_ne, pq_nle, pq_nlt, pq_len, pq_ltn, pB_z, pB_o, mzt_0, mzt_1, mzt_B]
  · exact fl _ (sf.oc (oc' := vInchBorders_SentenceReader_read___LInchBorders_Cond_ E N (put b A1 S2) (some S.2.1)) (fun fa S' e => by rw [vr, gbx_x e])) rfl
end SK
