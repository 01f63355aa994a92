/-! maps: a line that tells a person, a road -/
section MH
variable {E : gE} {N b : Nat} {A : FA} {S0 S S' : GS} {M M' : MS} {q a n lim fr : Nat} {d : AD} {ee : Ee} {t : Tk}
theorem l_person (cx : MCx E N b S0 q) (x : Ext S0 S) (hr : ResR M) (h : Rd b A S M q 4 (mEx a) n lim fr t) (ht : t.1 = 2) (z : MB E b S0 S M a d ee) : LR E b A S0 q a n lim S M fr 32 420 4 (bX7_person_11 E N q (put b A S)) (fX5_readPerson N M) ∨ JF b A S0 M (S.2.2.1 + 60) (S.2.2.2 + 800) (bX7_person_11 E N q (put b A S)) (fX5_readPerson N M) := by
  have cx' := cx
  obtain ⟨kok, hN, hq⟩ := cx
  have hE := kok.1
  have hb0 := kok.2.1
  obtain ⟨_, fs, c⟩ := h.cl
  have vb := z.2.2.2.2.2.2.2.2
  have a0 := vb.1.1
  have a2 := vb.1.2.2.2.2.1
  have h7 := vb.1.2.1
  have h6 := vb.1.2.2.2.2.2
  obtain ⟨nl, hnl⟩ : ∃ nl, nl = nL (M.2.2.1 7) := ⟨_, rfl⟩
  obtain ⟨np, hnp⟩ : ∃ np, np = nP (M.2.2.1 7) := ⟨_, rfl⟩
  rw [← hnl] at a0 h7
  rw [← hnp] at a2 h6
  have r27 := fun {β : Type} (K : Option Nat → Option β) => r1_27 z.1 A K
  have r52 := fun {β : Type} (K : Option Nat → Option β) => v4_52 h K
  have sz := l_size (E := E) (N := N) (A := A) z.2.2.2.1.1.at
  rw [← hnp] at sz
  rcases j_first cx' x h ht (cnt := np) (mx := 6) h6 (by omega) with ⟨hlt, S1, M1, fr1, t1, gc, gm, h1, hf1, xo1, fx1, sm1, p1, p2⟩ | ⟨heq, jf⟩
  · have ne6 : ¬ np = 6 := by omega
    have x1 := xo1.ext x hq
    obtain ⟨_, fs1, c1⟩ := h1.cl
    have z1 : MB E b S0 S1 M1 a d ee := z.sm c xo1 fx1 sm1 (by decide) (by decide) (by decide)
    have e17 : M1.2.2.1 7 = M.2.2.1 7 := (sm1.2 7 (by decide)).2
    have sn1 : mSn rdk M M1 := (sm1.su (by decide)).sn
    rcases j_fresh (N := N) kok x1 hq hN (sn1.res hr) h1 z1 (r := 20 + np) (by omega) (by omega) with ⟨S2, M2, fr2, t2, nm, u, fc, fm, su, wu, h2, hf2, xo2, fx2, o2, g9, o9, sn2, p3, p4⟩ | jf
    · have x2 := xo2.ext x1 hq
      have z2 : MB E b S0 S2 M1 a d ee := z1.sx c1 xo2 fx2
      have nml := z2.nml (M' := M2) (fun i hi => o9 (13 + i) (by rw [e17, ← hnl] at hi; omega))
      rw [e17, ← hnl] at nml
      have r252 := fun {β : Type} (K : Option Nat → Option β) => r1_25 z2.1 A K
      have r522 := fun {β : Type} (K : Option Nat → Option β) => v4_52 h2 K
      have e27 : M2.2.2.1 7 = M.2.2.1 7 := by rw [(o2 7 (by decide)).2, e17]
      have a02 : M2.2.2.1 7 0 = Int32.ofNat nl := by rw [e27]; exact a0
      have sn12 := sn1.tr sn2
      rcases j_one (N := N) (S0 := S0) (kok.ext x2) x2 (by omega) (sn12.res hr) h2 nml (by omega) with ⟨S3, M3, k3, fr3, t3, k3l, _, oc3, om3, g18, h3, hf3, xo3, fx3, sm3, p5, p6⟩ | jf
      · have x3 := xo3.ext x2 hq
        have hb3 : b + 111 ≤ S3.2.1 := Nat.le_trans hb0 x3.1
        obtain ⟨S4, hS4⟩ : ∃ S4, S4 = gpush S3 (.inr (8, gdf 8)) (gdf 8).length := ⟨_, rfl⟩
        have x34 : Ext S3 S4 := by rw [hS4]; exact Ext.push _ _ _
        have c4 : Cel b S4 S3.2.1 (.inr (8, [.null, .int (Int32.ofNat 0), .int (Int32.ofNat 0)])) := by rw [hS4]; exact Cel.push hb3 _ _
        have z4 : S4.2 = (S3.2.1 + 1, S3.2.2.1 + 1, S3.2.2.2 + 3) := by rw [hS4]; rfl
        have z41 : S4.2.2.1 = S3.2.2.1 + 1 := by rw [z4]
        have z42 : S4.2.2.2 = S3.2.2.2 + 3 := by rw [z4]
        obtain ⟨Ma, hMa⟩ : ∃ Ma, Ma = mR M3 7 (upd (M3.2.2.1 7) (79 + np) (Int32.ofNat k3)) := ⟨_, rfl⟩
        have h4 : Rd b A S4 Ma q 4 (mEx a) n lim fr3 t3 := by rw [hMa]; exact (h3.ext x34).r7 _
        have x4 := x3.tr x34
        have sna : mSn rdk M Ma := by
          rw [hMa]
          exact (sn12.tr (sm3.su (by decide)).sn).tr ((mSm.rf.mR _ (by decide)).sn)
        have z3 : MB E b S0 S3 M1 a d ee := z1.sx c1 (xo2.tr xo3) (fx2.tr fx3)
        have r273 := fun {β : Type} (K : Option Nat → Option β) => r1_27 z3.1 A K
        have r523 := fun {β : Type} (K : Option Nat → Option β) => v4_52 h3 K
        have e37 : M3.2.2.1 7 = M.2.2.1 7 := by rw [(sm3.2 7 (by decide)).2, e27]
        rcases j_num (E := E) (N := N) (S0 := S0) hE (Nat.le_trans hb0 x4.1) x4 (by omega) h4 (by omega) (lo := 1) (hi := 240) (by omega) (by omega) with ⟨S5, M5, k5, fr5, t5, _, k5l, _, _, nc5, nm5, g18', h5, hf5, xo5, fx5, sm5, p7, p8⟩ | jf
        · left
          have x5 := xo5.ext x4 hq
          have hq3 := h3.lt
          have c5 := xo5.cel c4 (by omega)
          obtain ⟨S6, hS6⟩ : ∃ S6, S6 = gup S5 S3.2.1 (.inr (8, [.ref nm, .int (Int32.ofNat k3), .int (Int32.ofNat k5)])) := ⟨_, rfl⟩
          have c6 : Cel b S6 S3.2.1 (.inr (8, [.ref nm, .int (Int32.ofNat k3), .int (Int32.ofNat k5)])) := by rw [hS6]; exact c5.up _
          have h6 : Rd b A S6 M5 q 4 (mEx a) n lim fr5 t5 := by rw [hS6]; exact h5.up c5.1 rfl (by omega) _
          have xo16 : Xo q S1 S6 := by
            rw [hS6]
            exact (((xo2.tr xo3).tr x34.xo).tr xo5).gu (Nat.le_trans xo2.1 xo3.1) _
          have xo26 : Xo q S2 S6 := by
            rw [hS6]
            exact ((xo3.tr x34.xo).tr xo5).gu xo3.1 _
          have x6 := xo16.ext x1 hq
          have z6 : MB E b S0 S6 M1 a d ee := z1.sx c1 xo16 (h1.xf xo16)
          have su6 : StrAt b S6 nm u := su.fx (h2.xf xo26)
          have hg : E.1 ≤ S3.2.1 := by omega
          obtain ⟨M6, hM6⟩ : ∃ M6, M6 = mR M5 7 (upd (upd (M5.2.2.1 7) (85 + np) (Int32.ofNat k5)) 2 (Int32.ofNat (np + 1))) := ⟨_, rfl⟩
          have e57 : M5.2.2.1 7 = upd (M.2.2.1 7) (79 + np) (Int32.ofNat k3) := by rw [(sm5.2 7 (by decide)).2, hMa, mA_e, e37]
          have i19 : ∀ k, k ∉ [4, 7, 11, 12, 13, 14, 18] → M6.1 k = M1.1 k := fun k hk => by
            have hk' : k ∉ [4, 11, 12, 13, 14, 18] := by
              intro q'; apply hk; revert q'; simp only [List.mem_cons, List.not_mem_nil, or_false]; omega
            have hk2 : k ∉ [4, 11, 12, 13, 14] := by
              intro q'; apply hk; revert q'; simp only [List.mem_cons, List.not_mem_nil, or_false]; omega
            rw [hM6, mA_i, (sm5.2 k hk').1, hMa, mA_i, (sm3.2 k hk').1, (o2 k hk2).1]
          have l9 : M6.2.2.2 9 = M2.2.2.2 9 := by
            rw [hM6, mA_L, sm5.1, hMa, mA_L, sm3.1]
          obtain ⟨S7, d7, e7, ad, z7, dd, f7, x7, k7, p9, p10⟩ := z6.addP (N := N) (A := A) (M' := M6) (v := S3.2.1) (nm := nm) (u := u) (x := k3) (y := k5) hE hb0 x6 (by rw [e17, ← hnl]; exact k3l) k5l (by rw [e17, ← hnp]; omega) c6 su6 wu (i19 19 (by decide)) (i19 20 (by decide)) (by rw [e17, ← hnp, hM6, mA_e, e57]) (fun i hi => by
            rw [e17, ← hnp] at hi
            rw [l9, o9 i hi]) (by rw [e17, ← hnp, l9]; exact g9)
          have h7 : Rd b A S7 M6 q 4 (mEx a) n lim fr5 t5 := by rw [hM6]; exact (h6.k4c f7 k7).r7 _
          have q61 : S6.2.2.1 = S5.2.2.1 := by rw [hS6]; rfl
          have q62 : S6.2.2.2 = S5.2.2.2 := by rw [hS6]; rfl
          refine ⟨S7, M6, d7, e7, fr5, t5, ?_, ?_, h7, z7, x7, ?_, by rw [i19 15 (by decide), (sm1.2 15 (by decide)).1], by omega, by omega, by omega⟩
          · simp only [bX7_person_11, bX7_person_22, bX7_person_27, bX7_person_31, bX7_person_43, bX7_person_54, bX7_person_65, bX7_person_68, bX7_person_71, bX12_init_0, fX12_init, bX9_init_0, fX9_init, pq_lit]
            simp (disch := omega) only [↓r52, ↓r27, ↓gbd_h (sz), sz, v4_first h, ↓gbx_h gc, v4_fresh h1, ↓gbx_h fc, ↓r522, ↓r252, v4_one h2, ↓gbx_h oc3, ↓r523, ↓r273, ↓gnw_n hb3, ← hS4, v4_number h4, ↓gbx_h nc5, g_rfs, ↓w8_61 c5 hg, ↓w8_71 (c5.up _) hg, ↓w8_72 (c5.up _) hg, gup_gup, ← hS6, ↓gbd_h (ad), ad, ↓gbd_s, gbd_s, ↓gbx_s, gbx_s, ↓gnn_s, ↓grf_s, eq_self, ↓reduceIte, Nat.reduceEqDiff, Nat.reduceLeDiff, Nat.reduceLT, Nat.reduceMul, Nat.reduceAdd, not_true_eq_false, not_false_eq_true, Bool.false_eq_true, pq_lit, pq_add, pq_le, pq_lt, pq_eq, pq_en, pq_ne, pq_nle, pq_nlt, pq_len, pq_ltn, pB_z, pB_o, mzt_0, mzt_1, mzt_B]
          · have m0 : M5.2.2.1 7 2 = Int32.ofNat np := by rw [e57, upd_o _ _ (by omega)]; exact a2
            rw [hM6]
            simp only [fX5_readPerson, bX5_readPerson_0, bX5_puts_0, fX5_puts, pq_lit]
            simp (disch := omega) only [↓mrd_n, mrd_n, a2, ne6, ↓mbd_h (gm), gm, pq_add, ↓mbd_h (fm), fm, a02, ↓mbd_h (om3), om3, g18, ↓mwr_n, mwr_n, ma_s, ← hMa, ↓mbd_h (nm5), nm5, g18', mA_e, upd_o, m0, mR_mR, ↓mbd_s, mbd_s, eq_self, ↓reduceIte, Nat.reduceEqDiff, Nat.reduceLeDiff, Nat.reduceLT, Nat.reduceMul, Nat.reduceAdd, not_true_eq_false, not_false_eq_true, Bool.false_eq_true, pq_lit, pq_add, pq_le, pq_lt, pq_eq, pq_en, pq_ne, pq_nle, pq_nlt, pq_len, pq_ltn, pB_z, pB_o, mzt_0, mzt_1, mzt_B]
          · rw [hM6]
            exact (sna.tr (sm5.su (by decide)).sn).tr ((mSm.rf.mR _ (by decide)).sn)
        · right
          refine jf.mo sna (fun fa S' e => ?_) (fun M' e => ?_) (by omega) (by omega)
          · simp only [bX7_person_11, bX7_person_22, bX7_person_27, bX7_person_31, bX7_person_43, bX7_person_54, pq_lit]
            simp (disch := omega) only [↓r52, ↓r27, ↓gbd_h (sz), sz, v4_first h, ↓gbx_h gc, v4_fresh h1, ↓gbx_h fc, ↓r522, ↓r252, v4_one h2, ↓gbx_h oc3, ↓r523, ↓r273, ↓gnw_n hb3, ← hS4, v4_number h4, ↓gbx_x e, ↓gbd_s, gbd_s, ↓gbx_s, gbx_s, ↓gnn_s, ↓grf_s, eq_self, ↓reduceIte, Nat.reduceEqDiff, Nat.reduceLeDiff, Nat.reduceLT, Nat.reduceMul, Nat.reduceAdd, not_true_eq_false, not_false_eq_true, Bool.false_eq_true, pq_lit, pq_add, pq_le, pq_lt, pq_eq, pq_en, pq_ne, pq_nle, pq_nlt, pq_len, pq_ltn, pB_z, pB_o, mzt_0, mzt_1, mzt_B]
          · simp only [fX5_readPerson, bX5_readPerson_0, bX5_puts_0, fX5_puts, pq_lit]
            simp (disch := omega) only [↓mrd_n, mrd_n, a2, ne6, ↓mbd_h (gm), gm, pq_add, ↓mbd_h (fm), fm, a02, ↓mbd_h (om3), om3, g18, ↓mwr_n, mwr_n, ma_s, ← hMa, ↓mbd_h (e), e, ↓mbd_s, mbd_s, eq_self, ↓reduceIte, Nat.reduceEqDiff, Nat.reduceLeDiff, Nat.reduceLT, Nat.reduceMul, Nat.reduceAdd, not_true_eq_false, not_false_eq_true, Bool.false_eq_true, pq_lit, pq_add, pq_le, pq_lt, pq_eq, pq_en, pq_ne, pq_nle, pq_nlt, pq_len, pq_ltn, pB_z, pB_o, mzt_0, mzt_1, mzt_B]
      · right
        refine jf.mo sn12 (fun fa S' e => ?_) (fun M' e => ?_) (by omega) (by omega)
        · simp only [bX7_person_11, bX7_person_22, bX7_person_27, bX7_person_31, pq_lit]
          simp (disch := omega) only [↓r52, ↓r27, ↓gbd_h (sz), sz, v4_first h, ↓gbx_h gc, v4_fresh h1, ↓gbx_h fc, ↓r522, ↓r252, v4_one h2, ↓gbx_x e, ↓gbd_s, gbd_s, ↓gbx_s, gbx_s, ↓gnn_s, ↓grf_s, eq_self, ↓reduceIte, Nat.reduceEqDiff, Nat.reduceLeDiff, Nat.reduceLT, Nat.reduceMul, Nat.reduceAdd, not_true_eq_false, not_false_eq_true, Bool.false_eq_true, pq_lit, pq_add, pq_le, pq_lt, pq_eq, pq_en, pq_ne, pq_nle, pq_nlt, pq_len, pq_ltn, pB_z, pB_o, mzt_0, mzt_1, mzt_B]
        · simp only [fX5_readPerson, bX5_readPerson_0, bX5_readPerson_49, pq_lit]
          simp (disch := omega) only [↓mrd_n, mrd_n, a2, ne6, ↓mbd_h (gm), gm, pq_add, ↓mbd_h (fm), fm, a02, ↓mbd_h (e), e, ↓mbd_s, mbd_s, eq_self, ↓reduceIte, Nat.reduceEqDiff, Nat.reduceLeDiff, Nat.reduceLT, Nat.reduceMul, Nat.reduceAdd, not_true_eq_false, not_false_eq_true, Bool.false_eq_true, pq_lit, pq_add, pq_le, pq_lt, pq_eq, pq_en, pq_ne, pq_nle, pq_nlt, pq_len, pq_ltn, pB_z, pB_o, mzt_0, mzt_1, mzt_B]
    · right
      refine jf.mo sn1 (fun fa S' e => ?_) (fun M' e => ?_) (by omega) (by omega)
      · simp only [bX7_person_11, bX7_person_22, bX7_person_27, pq_lit]
        simp (disch := omega) only [↓r52, ↓r27, ↓gbd_h (sz), sz, v4_first h, ↓gbx_h gc, v4_fresh h1, ↓gbx_x e, ↓gbd_s, gbd_s, ↓gbx_s, gbx_s, ↓gnn_s, ↓grf_s, eq_self, ↓reduceIte, Nat.reduceEqDiff, Nat.reduceLeDiff, Nat.reduceLT, Nat.reduceMul, Nat.reduceAdd, not_true_eq_false, not_false_eq_true, Bool.false_eq_true, pq_lit, pq_add, pq_le, pq_lt, pq_eq, pq_en, pq_ne, pq_nle, pq_nlt, pq_len, pq_ltn, pB_z, pB_o, mzt_0, mzt_1, mzt_B]
      · simp only [fX5_readPerson, bX5_readPerson_0, bX5_readPerson_49, pq_lit]
        simp (disch := omega) only [↓mrd_n, mrd_n, a2, ne6, ↓mbd_h (gm), gm, pq_add, ↓mbd_h (e), e, ↓mbd_s, mbd_s, eq_self, ↓reduceIte, Nat.reduceEqDiff, Nat.reduceLeDiff, Nat.reduceLT, Nat.reduceMul, Nat.reduceAdd, not_true_eq_false, not_false_eq_true, Bool.false_eq_true, pq_lit, pq_add, pq_le, pq_lt, pq_eq, pq_en, pq_ne, pq_nle, pq_nlt, pq_len, pq_ltn, pB_z, pB_o, mzt_0, mzt_1, mzt_B]
  · right
    refine jf.mo mSn.rf (fun fa S' e => ?_) (fun M' e => ?_) (by omega) (by omega)
    · simp only [bX7_person_11, bX7_person_22, pq_lit]
      simp (disch := omega) only [↓r52, ↓r27, ↓gbd_h (sz), sz, v4_first h, ↓gbx_x e, ↓gbd_s, gbd_s, ↓gbx_s, gbx_s, ↓gnn_s, ↓grf_s, eq_self, ↓reduceIte, Nat.reduceEqDiff, Nat.reduceLeDiff, Nat.reduceLT, Nat.reduceMul, Nat.reduceAdd, not_true_eq_false, not_false_eq_true, Bool.false_eq_true, pq_lit, pq_add, pq_le, pq_lt, pq_eq, pq_en, pq_ne, pq_nle, pq_nlt, pq_len, pq_ltn, pB_z, pB_o, mzt_0, mzt_1, mzt_B]
    · simp only [fX5_readPerson, bX5_readPerson_0, pq_lit]
      simp (disch := omega) only [↓mrd_n, mrd_n, a2, heq, ↓mbd_h (e), e, ↓mbd_s, mbd_s, eq_self, ↓reduceIte, Nat.reduceEqDiff, Nat.reduceLeDiff, Nat.reduceLT, Nat.reduceMul, Nat.reduceAdd, not_true_eq_false, not_false_eq_true, Bool.false_eq_true, pq_lit, pq_add, pq_le, pq_lt, pq_eq, pq_en, pq_ne, pq_nle, pq_nlt, pq_len, pq_ltn, pB_z, pB_o, mzt_0, mzt_1, mzt_B]
theorem l_road (cx : MCx E N b S0 q) (x : Ext S0 S) (hr : ResR M) (h : Rd b A S M q 4 (mEx a) n lim fr t) (ht : t.1 = 2) (z : MB E b S0 S M a d ee) : LR E b A S0 q a n lim S M fr 40 500 5 (fX7_road E N (put b A S) q) (fX5_readRoad N M) ∨ JF b A S0 M (S.2.2.1 + 60) (S.2.2.2 + 800) (fX7_road E N (put b A S) q) (fX5_readRoad N M) := by
  have cx' := cx
  obtain ⟨kok, hN, hq⟩ := cx
  have hE := kok.1
  have hb0 := kok.2.1
  obtain ⟨_, fs, c⟩ := h.cl
  have vb := z.2.2.2.2.2.2.2.2
  have a0 := vb.1.1
  have a1 := vb.1.2.2.1
  have h7 := vb.1.2.1
  have h12 := vb.1.2.2.2.1
  obtain ⟨nl, hnl⟩ : ∃ nl, nl = nL (M.2.2.1 7) := ⟨_, rfl⟩
  obtain ⟨nr, hnr⟩ : ∃ nr, nr = nR (M.2.2.1 7) := ⟨_, rfl⟩
  rw [← hnl] at a0 h7
  rw [← hnr] at a1 h12
  have r26 := fun {β : Type} (K : Option Nat → Option β) => r1_26 z.1 A K
  have r52 := fun {β : Type} (K : Option Nat → Option β) => v4_52 h K
  have sz := l_size (E := E) (N := N) (A := A) z.2.2.1.1.at
  rw [← hnr] at sz
  rcases j_first cx' x h ht (cnt := nr) (mx := 12) h12 (by omega) with ⟨hlt, S1, M1, fr1, t1, gc, gm, h1, hf1, xo1, fx1, sm1, p1, p2⟩ | ⟨heq, jf⟩
  · have ne12 : ¬ nr = 12 := by omega
    have x1 := xo1.ext x hq
    obtain ⟨_, fs1, c1⟩ := h1.cl
    have z1 : MB E b S0 S1 M1 a d ee := z.sm c xo1 fx1 sm1 (by decide) (by decide) (by decide)
    have e17 : M1.2.2.1 7 = M.2.2.1 7 := (sm1.2 7 (by decide)).2
    have sn1 : mSn rdk M M1 := (sm1.su (by decide)).sn
    have r251 := fun {β : Type} (K : Option Nat → Option β) => r1_25 z1.1 A K
    have r521 := fun {β : Type} (K : Option Nat → Option β) => v4_52 h1 K
    have nml := z1.nml (M' := M1) (fun _ _ => rfl)
    rw [e17, ← hnl] at nml
    have a01 : M1.2.2.1 7 0 = Int32.ofNat nl := by rw [e17]; exact a0
    rcases j_one (N := N) (S0 := S0) (kok.ext x1) x1 (by omega) (sn1.res hr) h1 nml (by omega) with ⟨S2, M2, k, fr2, t2, hk, _, oc, om, g18, h2, hf2, xo2, fx2, sm2, p3, p4⟩ | jf
    · have x2 := xo2.ext x1 hq
      obtain ⟨_, fs2, c2⟩ := h2.cl
      have z2 : MB E b S0 S2 M2 a d ee := z1.sm c1 xo2 fx2 sm2 (by decide) (by decide) (by decide)
      have e27 : M2.2.2.1 7 = M.2.2.1 7 := by rw [(sm2.2 7 (by decide)).2, e17]
      have sn2 : mSn rdk M M2 := sn1.tr (sm2.su (by decide)).sn
      have r252 := fun {β : Type} (K : Option Nat → Option β) => r1_25 z2.1 A K
      have r522 := fun {β : Type} (K : Option Nat → Option β) => v4_52 h2 K
      have nml2 := z2.nml (M' := M2) (fun _ _ => rfl)
      rw [e27, ← hnl] at nml2
      have a02 : M2.2.2.1 7 0 = Int32.ofNat nl := by rw [e27]; exact a0
      rcases j_hold (N := N) (S0 := S0) (kok.ext x2) x2 (sn2.res hr) h2 nml2 (by omega) with ⟨S3, y, hy, ht2, hc, hm, x23, p5, p6⟩ | jf
      · obtain ⟨M3, hM3⟩ : ∃ M3, M3 = mF M2 18 (Int32.ofNat y) := ⟨_, rfl⟩
        rw [← hM3] at hm
        have h3 : Rd b A S3 M3 q 4 (mEx a) n lim fr2 t2 := by rw [hM3]; exact (h2.ext x23).mm (fun k hk => mF_ne _ _ (by rintro rfl; revert hk; decide)) rfl rfl
        have x3 := x2.tr x23
        have hb3 : b + 111 ≤ S3.2.1 := Nat.le_trans hb0 x3.1
        have sm3 : mSm [18] M2 M3 := by rw [hM3]; exact mSm.rf.mF _ (by decide)
        have z3 : MB E b S0 S3 M3 a d ee := z2.sm c2 x23.xo x23.fx sm3 (by decide) (by decide) (by decide)
        have e37 : M3.2.2.1 7 = M.2.2.1 7 := by rw [(sm3.2 7 (by decide)).2, e27]
        have g183 : M3.1 18 = Int32.ofNat y := by rw [hM3]; exact mF_e _ _ _
        have sn3 : mSn rdk M M3 := sn2.tr (sm3.su (by decide)).sn
        have r523 := fun {β : Type} (K : Option Nat → Option β) => v4_52 h3 K
        have n3 := c_need1 (E := E) (N := N) (b := b) (A := A) (S := S3) (q := q) (Int32.ofNat 3)
        obtain ⟨Sb, b1, b2, xb, fl, y1, y2⟩ := j_bad (E := E) (N := N) hE hb3 h3 (k := 3) (Or.inr (by omega))
        by_cases eky : k = y
        · refine Or.inr (JF.bad (M1 := M3) x3 xb fl sn3 ?_ ?_ (by omega) (by omega))
          · simp only [fX7_road, bX7_road_0, bX7_road_11, bX7_road_16, bX7_road_27, bX7_road_39, bX7_road_63, bX7_road_64, pq_lit]
            simp (disch := omega) only [↓r52, ↓r26, ↓gbd_h (sz), sz, v4_first h, ↓gbx_h gc, ↓r521, ↓r251, v4_one h1, ↓gbx_h oc, ↓r522, ↓r252, v4_hold h2, ↓gbx_h hc, eky, v4_need h3, ↓gbx_x b1, ↓gbd_s, gbd_s, ↓gbx_s, gbx_s, ↓gnn_s, ↓grf_s, eq_self, ↓reduceIte, Nat.reduceEqDiff, Nat.reduceLeDiff, Nat.reduceLT, Nat.reduceMul, Nat.reduceAdd, not_true_eq_false, not_false_eq_true, Bool.false_eq_true, pq_lit, pq_add, pq_le, pq_lt, pq_eq, pq_en, pq_ne, pq_nle, pq_nlt, pq_len, pq_ltn, pB_z, pB_o, mzt_0, mzt_1, mzt_B]
          · simp only [fX5_readRoad, bX5_readRoad_0, pq_lit]
            simp (disch := omega) only [↓mrd_n, mrd_n, a1, ne12, ↓mbd_h (gm), gm, a01, ↓mbd_h (om), om, a02, ↓mbd_h (hm), hm, g183, g18, eky, ↓mbd_h (b2), b2, ↓mbd_s, mbd_s, eq_self, ↓reduceIte, Nat.reduceEqDiff, Nat.reduceLeDiff, Nat.reduceLT, Nat.reduceMul, Nat.reduceAdd, not_true_eq_false, not_false_eq_true, Bool.false_eq_true, pq_lit, pq_add, pq_le, pq_lt, pq_eq, pq_en, pq_ne, pq_nle, pq_nlt, pq_len, pq_ltn, pB_z, pB_o, mzt_0, mzt_1, mzt_B]
        · have eky' : ¬ y = k := fun q' => eky q'.symm
          obtain ⟨i1, i2, i3, iv⟩ := z3.2.2.2.2.2.2.2.2.iv (M3.2.2.1 7)
          have rd := a_road (E := E) (N := N) (A := A) (z3.ats (s := begF (M3.2.2.1 7) (M3.2.2.1 7)) (fun k hk => begF_lo hk)) iv.1 (by omega) (Int32.ofNat k) (Int32.ofNat y)
          have ro : roadO (begF (M3.2.2.1 7) (M3.2.2.1 7)) (Int32.ofNat k) (Int32.ofNat y) = roadF (M3.2.2.1 7) (Int32.ofNat k) (Int32.ofNat y) 0 nr := by
            unfold roadO
            rw [i2, e37, ← hnr]
            exact roadF_c nr 0 (by omega) (fun i hi => begF_lo (by omega))
          rw [ro] at rd
          obtain ⟨o1, o2⟩ := oI_m (roadF (M3.2.2.1 7) (Int32.ofNat k) (Int32.ofNat y) 0 nr) (fun j e => by have := roadF_lt _ _ e; omega)
          have l78 := m_78 (N := N) (M := M3) (nr := nr) (x := k) (y := y) h12 (by omega) (by omega) g183 nr 0 N (by omega) (by omega)
          have preM : fX5_readRoad N M = bX5_readRoad_78L N N M3 (Int32.ofNat nr) (Int32.ofNat k) (Int32.ofNat 0) := by
            simp only [fX5_readRoad, bX5_readRoad_0, pq_lit]
            simp (disch := omega) only [↓mrd_n, mrd_n, a1, ne12, ↓mbd_h (gm), gm, a01, ↓mbd_h (om), om, a02, ↓mbd_h (hm), hm, g183, g18, eky', ↓mbd_s, mbd_s, eq_self, ↓reduceIte, Nat.reduceEqDiff, Nat.reduceLeDiff, Nat.reduceLT, Nat.reduceMul, Nat.reduceAdd, not_true_eq_false, not_false_eq_true, Bool.false_eq_true, pq_lit, pq_add, pq_le, pq_lt, pq_eq, pq_en, pq_ne, pq_nle, pq_nlt, pq_len, pq_ltn, pB_z, pB_o, mzt_0, mzt_1, mzt_B]
          obtain ⟨vr, hvr⟩ : ∃ vr, vr = oI (roadF (M3.2.2.1 7) (Int32.ofNat k) (Int32.ofNat y) 0 nr) := ⟨_, rfl⟩
          rw [← hvr] at rd o1
          have preC : fX7_road E N (put b A S) q = bX7_road_55 E N q (put b A S3) (Int32.ofNat k) (Int32.ofNat y) (some q) vr := by
            simp only [fX7_road, bX7_road_0, bX7_road_11, bX7_road_16, bX7_road_27, bX7_road_39, pq_lit]
            simp (disch := omega) only [↓r52, ↓r26, ↓gbd_h (sz), sz, v4_first h, ↓gbx_h gc, ↓r521, ↓r251, v4_one h1, ↓gbx_h oc, ↓r522, ↓r252, v4_hold h2, ↓gbx_h hc, eky, ↓r523, ↓gbd_h (rd), rd, ↓gbd_s, gbd_s, ↓gbx_s, gbx_s, ↓gnn_s, ↓grf_s, eq_self, ↓reduceIte, Nat.reduceEqDiff, Nat.reduceLeDiff, Nat.reduceLT, Nat.reduceMul, Nat.reduceAdd, not_true_eq_false, not_false_eq_true, Bool.false_eq_true, pq_lit, pq_add, pq_le, pq_lt, pq_eq, pq_en, pq_ne, pq_nle, pq_nlt, pq_len, pq_ltn, pB_z, pB_o, mzt_0, mzt_1, mzt_B]
          by_cases er : roadF (M3.2.2.1 7) (Int32.ofNat k) (Int32.ofNat y) 0 nr = none
          · rw [if_pos er] at l78
            have wv : vr = -Int32.ofNat 1 := o1.mpr er
            obtain ⟨Ma, hMa⟩ : ∃ Ma, Ma = mR M3 7 (upd (upd (M3.2.2.1 7) (24 + nr) (Int32.ofNat k)) (36 + nr) (Int32.ofNat y)) := ⟨_, rfl⟩
            have h3a : Rd b A S3 Ma q 4 (mEx a) n lim fr2 t2 := by rw [hMa]; exact h3.r7 _
            obtain ⟨S4, M4, fr4, t4, gc4, gm4, h4, hf4, xo4, fx4, sm4, p7, p8⟩ := j_gw (E := E) (N := N) hE (by omega) hb3 (by omega) h3a (by omega)
            have x4 := xo4.ext x3 hq
            have hb4 : b + 111 ≤ S4.2.1 := Nat.le_trans hb0 x4.1
            have sna : mSn rdk M Ma := by rw [hMa]; exact sn3.tr ((mSm.rf.mR _ (by decide)).sn)
            have sn4 : mSn rdk M M4 := sna.tr (sm4.su (by decide)).sn
            have preC2 : fX7_road E N (put b A S) q = bX7_road_72 E N q (put b A S4) (Int32.ofNat k) (Int32.ofNat y) := by
              rw [preC, wv]
              simp only [bX7_road_55, bX7_road_64, bX7_road_68, pq_lit]
              simp (disch := omega) only [v4_need h3, ↓gbx_h n3, v4_go h3a, ↓gbd_h (gc4), gc4, ↓gbd_s, gbd_s, ↓gbx_s, gbx_s, ↓gnn_s, ↓grf_s, eq_self, ↓reduceIte, Nat.reduceEqDiff, Nat.reduceLeDiff, Nat.reduceLT, Nat.reduceMul, Nat.reduceAdd, not_true_eq_false, not_false_eq_true, Bool.false_eq_true, pq_lit, pq_add, pq_le, pq_lt, pq_eq, pq_en, pq_ne, pq_nle, pq_nlt, pq_len, pq_ltn, pB_z, pB_o, mzt_0, mzt_1, mzt_B]
            have lenr : Int32.ofNat nr ≤ Int32.ofNat nr := by rw [pq_le (by omega) (by omega)]; omega
            have g18a : (mR M3 7 (upd (M3.2.2.1 7) (24 + nr) (Int32.ofNat k))).1 18 = Int32.ofNat y := g183
            have preM2 : fX5_readRoad N M = mbd (fX5_puts N M4 (Int32.ofNat (48 + nr)) (Int32.ofNat 0) (Int32.ofNat 240)) (fun r_9 S_10 => if r_9 = Int32.ofNat 0 then bX5_readRoad_218 N S_10 else mrd (S_10.2.2.1 7) 91 (Int32.ofNat (48 + nr)) (fun v_13 => mbd (fX5_puts N S_10 (Int32.ofNat (60 + nr)) v_13 (Int32.ofNat 240)) (fun r_15 S_16 => if r_15 = Int32.ofNat 0 then bX5_readRoad_218 N S_16 else mrd (S_16.2.2.1 7) 91 (Int32.ofNat 1) (fun v_19 => mwr S_16 7 91 (Int32.ofNat 1) (v_19 + Int32.ofNat 1) (fun S_21 => mzt (Int32.ofNat 1) (some (Int32.ofNat 1, S_21))))))) := by
              rw [preM, l78]
              unfold bX5_readRoad_78
              rw [if_pos lenr]
              simp only [pq_lit]
              simp (disch := omega) only [pq_add, ↓mwr_n, mwr_n, ma_s, g18a, mA_e, mR_mR, ← hMa, ↓mbd_h (gm4), gm4, ↓mbd_s]
            rcases j_num (E := E) (N := N) (S0 := S0) hE hb4 x4 (by omega) h4 (by omega) (lo := 0) (hi := 240) (by omega) (by omega) with ⟨S5, M5, k5, fr5, t5, _, k5l, _, _, nc5, nm5, g185, h5, hf5, xo5, fx5, sm5, p9, p10⟩ | jf
            · have x5 := xo5.ext x4 hq
              have hb5 : b + 111 ≤ S5.2.1 := Nat.le_trans hb0 x5.1
              obtain ⟨S6, hS6⟩ : ∃ S6, S6 = gpush S5 (.inr (7, gdf 7)) (gdf 7).length := ⟨_, rfl⟩
              have x56 : Ext S5 S6 := by rw [hS6]; exact Ext.push _ _ _
              have c6 : Cel b S6 S5.2.1 (.inr (7, [.int (Int32.ofNat 0), .int (Int32.ofNat 0), .int (Int32.ofNat 0), .int (Int32.ofNat 0)])) := by rw [hS6]; exact Cel.push hb5 _ _
              have z6 : S6.2 = (S5.2.1 + 1, S5.2.2.1 + 1, S5.2.2.2 + 4) := by rw [hS6]; rfl
              have z61 : S6.2.2.1 = S5.2.2.1 + 1 := by rw [z6]
              have z62 : S6.2.2.2 = S5.2.2.2 + 4 := by rw [z6]
              obtain ⟨Mb, hMb⟩ : ∃ Mb, Mb = mR M5 7 (upd (M5.2.2.1 7) (48 + nr) (Int32.ofNat k5)) := ⟨_, rfl⟩
              have h6 : Rd b A S6 Mb q 4 (mEx a) n lim fr5 t5 := by rw [hMb]; exact (h5.ext x56).r7 _
              have x6 := x5.tr x56
              obtain ⟨_, fs3, c3⟩ := h3.cl
              have snb : mSn rdk M Mb := by rw [hMb]; exact (sn4.tr (sm5.su (by decide)).sn).tr ((mSm.rf.mR _ (by decide)).sn)
              have z5 : MB E b S0 S5 M3 a d ee := z3.sx c3 (xo4.tr xo5) (fx4.tr fx5)
              have r265 := fun {β : Type} (K : Option Nat → Option β) => r1_26 z5.1 A K
              have r525 := fun {β : Type} (K : Option Nat → Option β) => v4_52 h5 K
              have pu5 : fX5_puts N M4 (Int32.ofNat (48 + nr)) (Int32.ofNat 0) (Int32.ofNat 240) = some (Int32.ofNat 1, Mb) := by
                rw [hMb]
                simp only [bX5_puts_0, fX5_puts, pq_lit]
                simp (disch := omega) only [↓mbd_h (nm5), nm5, g185, ↓mwr_n, mwr_n, ma_s, ↓mbd_s, mbd_s, eq_self, ↓reduceIte, Nat.reduceEqDiff, Nat.reduceLeDiff, Nat.reduceLT, Nat.reduceMul, Nat.reduceAdd, not_true_eq_false, not_false_eq_true, Bool.false_eq_true, pq_lit, pq_add, pq_le, pq_lt, pq_eq, pq_en, pq_ne, pq_nle, pq_nlt, pq_len, pq_ltn, pB_z, pB_o, mzt_0, mzt_1, mzt_B]
              have eb48 : Mb.2.2.1 7 (48 + nr) = Int32.ofNat k5 := by rw [hMb, mA_e, upd_s]
              have preM3 : fX5_readRoad N M = mbd (fX5_puts N Mb (Int32.ofNat (60 + nr)) (Int32.ofNat k5) (Int32.ofNat 240)) (fun r_15 S_16 => if r_15 = Int32.ofNat 0 then bX5_readRoad_218 N S_16 else mrd (S_16.2.2.1 7) 91 (Int32.ofNat 1) (fun v_19 => mwr S_16 7 91 (Int32.ofNat 1) (v_19 + Int32.ofNat 1) (fun S_21 => mzt (Int32.ofNat 1) (some (Int32.ofNat 1, S_21))))) := by
                rw [preM2, mbd_h pu5, if_neg (by decide), mrd_n (by omega) (by omega), eb48]
              have preC3 : fX7_road E N (put b A S) q = gbx (fX6_number E N (put b A S6) q (Int32.ofNat k5) (Int32.ofNat 240)) (fun r_1 S_2 => bX7_road_103 E N q S_2 (some d.1.2.1) (some S5.2.1) (some S5.2.1) (Int32.ofNat k) (Int32.ofNat y) (Int32.ofNat k5) r_1) := by
                rw [preC2]
                simp only [bX7_road_72, bX7_road_80, bX7_road_91, pq_lit]
                simp (disch := omega) only [v4_number h4, ↓gbx_h nc5, ↓r525, ↓r265, ↓gnw_n hb5, ← hS6, v4_number h6, eq_self, ↓reduceIte, Nat.reduceEqDiff, Nat.reduceLeDiff, Nat.reduceLT, Nat.reduceMul, Nat.reduceAdd, not_true_eq_false, not_false_eq_true, Bool.false_eq_true]
              rcases j_num (E := E) (N := N) (S0 := S0) hE (Nat.le_trans hb0 x6.1) x6 (by omega) h6 (by omega) (lo := k5) (hi := 240) (by omega) (by omega) with ⟨S7, M7, k7, fr7, t7, _, k7l, _, _, nc7, nm7, g187, h7', hf7, xo7, fx7, sm7, p11, p12⟩ | jf
              · left
                have x7 := xo7.ext x6 hq
                have hq5 := h5.lt
                have c7 := xo7.cel c6 (by omega)
                obtain ⟨S8, hS8⟩ : ∃ S8, S8 = gup S7 S5.2.1 (.inr (7, [.int (Int32.ofNat k), .int (Int32.ofNat y), .int (Int32.ofNat k5), .int (Int32.ofNat k7)])) := ⟨_, rfl⟩
                have c8 : Cel b S8 S5.2.1 (.inr (7, [.int (Int32.ofNat k), .int (Int32.ofNat y), .int (Int32.ofNat k5), .int (Int32.ofNat k7)])) := by rw [hS8]; exact c7.up _
                have h8 : Rd b A S8 M7 q 4 (mEx a) n lim fr7 t7 := by rw [hS8]; exact h7'.up c7.1 rfl (by omega) _
                have xo38 : Xo q S3 S8 := by
                  rw [hS8]
                  exact (((xo4.tr xo5).tr x56.xo).tr xo7).gu (Nat.le_trans xo4.1 xo5.1) _
                have x8 := xo38.ext x3 hq
                have z8 : MB E b S0 S8 M3 a d ee := z3.sx c3 xo38 (h3.xf xo38)
                have hg : E.1 ≤ S5.2.1 := by omega
                obtain ⟨M8, hM8⟩ : ∃ M8, M8 = mR M7 7 (upd (upd (M7.2.2.1 7) (60 + nr) (Int32.ofNat k7)) 1 (Int32.ofNat (nr + 1))) := ⟨_, rfl⟩
                have e77 : M7.2.2.1 7 = upd (upd (upd (M3.2.2.1 7) (24 + nr) (Int32.ofNat k)) (36 + nr) (Int32.ofNat y)) (48 + nr) (Int32.ofNat k5) := by
                  rw [(sm7.2 7 (by decide)).2, hMb, mA_e, (sm5.2 7 (by decide)).2, (sm4.2 7 (by decide)).2, hMa, mA_e]
                have i19 : ∀ k, k ∉ [4, 7, 11, 12, 13, 14, 18] → M8.1 k = M3.1 k := fun k hk => by
                  have hk' : k ∉ [4, 11, 12, 13, 14, 18] := by
                    intro q'; apply hk; revert q'; simp only [List.mem_cons, List.not_mem_nil, or_false]; omega
                  have hk2 : k ∉ [4, 11, 12, 13, 14] := by
                    intro q'; apply hk; revert q'; simp only [List.mem_cons, List.not_mem_nil, or_false]; omega
                  rw [hM8, mA_i, (sm7.2 k hk').1, hMb, mA_i, (sm5.2 k hk').1, (sm4.2 k hk2).1, hMa, mA_i]
                have l9 : M8.2.2.2 9 = M3.2.2.2 9 := by
                  rw [hM8, mA_L, sm7.1, hMb, mA_L, sm5.1, sm4.1, hMa, mA_L]
                have hn3 : nR (M3.2.2.1 7) = nr := by rw [e37, ← hnr]
                have hl3 : nL (M3.2.2.1 7) = nl := by rw [e37, ← hnl]
                obtain ⟨S9, d9, e9, ad, z9, dd, f9, x9, k9, p13, p14⟩ := z8.addR (N := N) (A := A) (M' := M8) (v := S5.2.1) (x := k) (y := y) (v5 := Int32.ofNat k5) (v6 := Int32.ofNat k7) hE hb0 x8 (by omega) (by omega) (by omega) c8 (i19 19 (by decide)) (i19 20 (by decide)) (by rw [hn3, hM8, mA_e, e77]) l9
                have h9 : Rd b A S9 M8 q 4 (mEx a) n lim fr7 t7 := by rw [hM8]; exact (h8.k4c f9 k9).r7 _
                have q81 : S8.2.2.1 = S7.2.2.1 := by rw [hS8]; rfl
                have q82 : S8.2.2.2 = S7.2.2.2 := by rw [hS8]; rfl
                refine ⟨S9, M8, d9, e9, fr7, t7, ?_, ?_, h9, z9, x9, ?_, by rw [i19 15 (by decide), (sm3.2 15 (by decide)).1, (sm2.2 15 (by decide)).1, (sm1.2 15 (by decide)).1], by omega, by omega, by omega⟩
                · rw [preC3, gbx_h nc7]
                  simp only [bX7_road_103, bX7_road_106, bX7_road_109, bX11_init_0, fX11_init, pq_lit]
                  simp (disch := omega) only [↓w7_67 c7 hg, ↓w7_68 (c7.up _) hg, ↓w7_69 (c7.up _) hg, ↓w7_70 (c7.up _) hg, gup_gup, ← hS8, ↓gbd_h (ad), ad, ↓gbd_s, gbd_s, ↓gbx_s, gbx_s, ↓gnn_s, ↓grf_s, eq_self, ↓reduceIte, Nat.reduceEqDiff, Nat.reduceLeDiff, Nat.reduceLT, Nat.reduceMul, Nat.reduceAdd, not_true_eq_false, not_false_eq_true, Bool.false_eq_true, pq_lit, pq_add, pq_le, pq_lt, pq_eq, pq_en, pq_ne, pq_nle, pq_nlt, pq_len, pq_ltn, pB_z, pB_o, mzt_0, mzt_1, mzt_B]
                · have m1 : M7.2.2.1 7 1 = Int32.ofNat nr := by
                    rw [e77, upd_o _ _ (by omega), upd_o _ _ (by omega), upd_o _ _ (by omega), e37]; exact a1
                  rw [preM3, hM8]
                  simp only [bX5_puts_0, fX5_puts, pq_lit]
                  simp (disch := omega) only [↓mbd_h (nm7), nm7, g187, ↓mwr_n, mwr_n, ma_s, ↓mrd_n, mrd_n, mA_e, upd_o, m1, mR_mR, ↓mbd_s, mbd_s, eq_self, ↓reduceIte, Nat.reduceEqDiff, Nat.reduceLeDiff, Nat.reduceLT, Nat.reduceMul, Nat.reduceAdd, not_true_eq_false, not_false_eq_true, Bool.false_eq_true, pq_lit, pq_add, pq_le, pq_lt, pq_eq, pq_en, pq_ne, pq_nle, pq_nlt, pq_len, pq_ltn, pB_z, pB_o, mzt_0, mzt_1, mzt_B]
                · rw [hM8]
                  exact (snb.tr (sm7.su (by decide)).sn).tr ((mSm.rf.mR _ (by decide)).sn)
              · right
                refine jf.mo snb (fun fa S' e => ?_) (fun M' e => ?_) (by omega) (by omega)
                · rw [preC3, gbx_x e]
                · rw [preM3]
                  simp only [bX5_puts_0, fX5_puts, bX5_readRoad_218, pq_lit]
                  simp (disch := omega) only [↓mbd_h (e), e, ↓mbd_s, mbd_s, eq_self, ↓reduceIte, Nat.reduceEqDiff, Nat.reduceLeDiff, Nat.reduceLT, Nat.reduceMul, Nat.reduceAdd, not_true_eq_false, not_false_eq_true, Bool.false_eq_true, pq_lit, pq_add, pq_le, pq_lt, pq_eq, pq_en, pq_ne, pq_nle, pq_nlt, pq_len, pq_ltn, pB_z, pB_o, mzt_0, mzt_1, mzt_B]
            · right
              refine jf.mo sn4 (fun fa S' e => ?_) (fun M' e => ?_) (by omega) (by omega)
              · rw [preC2]
                simp only [bX7_road_72, pq_lit]
                simp (disch := omega) only [v4_number h4, ↓gbx_x e, ↓gbd_s, gbd_s, ↓gbx_s, gbx_s, ↓gnn_s, ↓grf_s, eq_self, ↓reduceIte, Nat.reduceEqDiff, Nat.reduceLeDiff, Nat.reduceLT, Nat.reduceMul, Nat.reduceAdd, not_true_eq_false, not_false_eq_true, Bool.false_eq_true, pq_lit, pq_add, pq_le, pq_lt, pq_eq, pq_en, pq_ne, pq_nle, pq_nlt, pq_len, pq_ltn, pB_z, pB_o, mzt_0, mzt_1, mzt_B]
              · rw [preM2]
                simp only [bX5_puts_0, fX5_puts, bX5_readRoad_218, pq_lit]
                simp (disch := omega) only [↓mbd_h (e), e, ↓mbd_s, mbd_s, eq_self, ↓reduceIte, Nat.reduceEqDiff, Nat.reduceLeDiff, Nat.reduceLT, Nat.reduceMul, Nat.reduceAdd, not_true_eq_false, not_false_eq_true, Bool.false_eq_true, pq_lit, pq_add, pq_le, pq_lt, pq_eq, pq_en, pq_ne, pq_nle, pq_nlt, pq_len, pq_ltn, pB_z, pB_o, mzt_0, mzt_1, mzt_B]
          · rw [if_neg er] at l78
            have wv : ¬ vr = -Int32.ofNat 1 := fun q' => er (o1.mp q')
            refine Or.inr (JF.bad (M1 := M3) x3 xb fl sn3 ?_ ?_ (by omega) (by omega))
            · rw [preC]
              simp only [bX7_road_55, bX7_road_63, bX7_road_64, pq_lit]
              simp (disch := omega) only [wv, v4_need h3, ↓gbx_x b1, ↓gbd_s, gbd_s, ↓gbx_s, gbx_s, ↓gnn_s, ↓grf_s, eq_self, ↓reduceIte, Nat.reduceEqDiff, Nat.reduceLeDiff, Nat.reduceLT, Nat.reduceMul, Nat.reduceAdd, not_true_eq_false, not_false_eq_true, Bool.false_eq_true, pq_lit, pq_add, pq_le, pq_lt, pq_eq, pq_en, pq_ne, pq_nle, pq_nlt, pq_len, pq_ltn, pB_z, pB_o, mzt_0, mzt_1, mzt_B]
            · rw [preM, l78]
              simp only [bX5_readRoad_141, pq_lit]
              simp (disch := omega) only [↓mbd_h (b2), b2, ↓mbd_s, mbd_s, eq_self, ↓reduceIte, Nat.reduceEqDiff, Nat.reduceLeDiff, Nat.reduceLT, Nat.reduceMul, Nat.reduceAdd, not_true_eq_false, not_false_eq_true, Bool.false_eq_true, pq_lit, pq_add, pq_le, pq_lt, pq_eq, pq_en, pq_ne, pq_nle, pq_nlt, pq_len, pq_ltn, pB_z, pB_o, mzt_0, mzt_1, mzt_B]
      · right
        refine jf.mo sn2 (fun fa S' e => ?_) (fun M' e => ?_) (by omega) (by omega)
        · simp only [fX7_road, bX7_road_0, bX7_road_11, bX7_road_16, bX7_road_27, pq_lit]
          simp (disch := omega) only [↓r52, ↓r26, ↓gbd_h (sz), sz, v4_first h, ↓gbx_h gc, ↓r521, ↓r251, v4_one h1, ↓gbx_h oc, ↓r522, ↓r252, v4_hold h2, ↓gbx_x e, ↓gbd_s, gbd_s, ↓gbx_s, gbx_s, ↓gnn_s, ↓grf_s, eq_self, ↓reduceIte, Nat.reduceEqDiff, Nat.reduceLeDiff, Nat.reduceLT, Nat.reduceMul, Nat.reduceAdd, not_true_eq_false, not_false_eq_true, Bool.false_eq_true, pq_lit, pq_add, pq_le, pq_lt, pq_eq, pq_en, pq_ne, pq_nle, pq_nlt, pq_len, pq_ltn, pB_z, pB_o, mzt_0, mzt_1, mzt_B]
        · simp only [fX5_readRoad, bX5_readRoad_0, pq_lit]
          simp (disch := omega) only [↓mrd_n, mrd_n, a1, ne12, ↓mbd_h (gm), gm, a01, ↓mbd_h (om), om, a02, ↓mbd_h (e), e, ↓mbd_s, mbd_s, eq_self, ↓reduceIte, Nat.reduceEqDiff, Nat.reduceLeDiff, Nat.reduceLT, Nat.reduceMul, Nat.reduceAdd, not_true_eq_false, not_false_eq_true, Bool.false_eq_true, pq_lit, pq_add, pq_le, pq_lt, pq_eq, pq_en, pq_ne, pq_nle, pq_nlt, pq_len, pq_ltn, pB_z, pB_o, mzt_0, mzt_1, mzt_B]
    · right
      refine jf.mo sn1 (fun fa S' e => ?_) (fun M' e => ?_) (by omega) (by omega)
      · simp only [fX7_road, bX7_road_0, bX7_road_11, bX7_road_16, pq_lit]
        simp (disch := omega) only [↓r52, ↓r26, ↓gbd_h (sz), sz, v4_first h, ↓gbx_h gc, ↓r521, ↓r251, v4_one h1, ↓gbx_x e, ↓gbd_s, gbd_s, ↓gbx_s, gbx_s, ↓gnn_s, ↓grf_s, eq_self, ↓reduceIte, Nat.reduceEqDiff, Nat.reduceLeDiff, Nat.reduceLT, Nat.reduceMul, Nat.reduceAdd, not_true_eq_false, not_false_eq_true, Bool.false_eq_true, pq_lit, pq_add, pq_le, pq_lt, pq_eq, pq_en, pq_ne, pq_nle, pq_nlt, pq_len, pq_ltn, pB_z, pB_o, mzt_0, mzt_1, mzt_B]
      · simp only [fX5_readRoad, bX5_readRoad_0, pq_lit]
        simp (disch := omega) only [↓mrd_n, mrd_n, a1, ne12, ↓mbd_h (gm), gm, a01, ↓mbd_h (e), e, ↓mbd_s, mbd_s, eq_self, ↓reduceIte, Nat.reduceEqDiff, Nat.reduceLeDiff, Nat.reduceLT, Nat.reduceMul, Nat.reduceAdd, not_true_eq_false, not_false_eq_true, Bool.false_eq_true, pq_lit, pq_add, pq_le, pq_lt, pq_eq, pq_en, pq_ne, pq_nle, pq_nlt, pq_len, pq_ltn, pB_z, pB_o, mzt_0, mzt_1, mzt_B]
  · right
    refine jf.mo mSn.rf (fun fa S' e => ?_) (fun M' e => ?_) (by omega) (by omega)
    · simp only [fX7_road, bX7_road_0, bX7_road_11, pq_lit]
      simp (disch := omega) only [↓r52, ↓r26, ↓gbd_h (sz), sz, v4_first h, ↓gbx_x e, ↓gbd_s, gbd_s, ↓gbx_s, gbx_s, ↓gnn_s, ↓grf_s, eq_self, ↓reduceIte, Nat.reduceEqDiff, Nat.reduceLeDiff, Nat.reduceLT, Nat.reduceMul, Nat.reduceAdd, not_true_eq_false, not_false_eq_true, Bool.false_eq_true, pq_lit, pq_add, pq_le, pq_lt, pq_eq, pq_en, pq_ne, pq_nle, pq_nlt, pq_len, pq_ltn, pB_z, pB_o, mzt_0, mzt_1, mzt_B]
    · simp only [fX5_readRoad, bX5_readRoad_0, pq_lit]
      simp (disch := omega) only [↓mrd_n, mrd_n, a1, heq, ↓mbd_h (e), e, ↓mbd_s, mbd_s, eq_self, ↓reduceIte, Nat.reduceEqDiff, Nat.reduceLeDiff, Nat.reduceLT, Nat.reduceMul, Nat.reduceAdd, not_true_eq_false, not_false_eq_true, Bool.false_eq_true, pq_lit, pq_add, pq_le, pq_lt, pq_eq, pq_en, pq_ne, pq_nle, pq_nlt, pq_len, pq_ltn, pB_z, pB_o, mzt_0, mzt_1, mzt_B]
end MH
