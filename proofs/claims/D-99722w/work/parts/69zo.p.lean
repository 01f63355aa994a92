/-! maps: a line that tells a land -/
def MCx (E : gE) (N b : Nat) (S0 : GS) (q : Nat) : Prop := KOk E b S0 ∧ 3000 ≤ N ∧ S0.2.1 ≤ q
def LR (E : gE) (b : Nat) (A : FA) (S0 : GS) (q a n lim : Nat) (S : GS) (M : MS) (fr dc dt df : Nat) (oc : Option ((Int32 ⊕ Nat) × GS)) (om : Option (Int32 × MS)) : Prop := ∃ S' M' d' e' fr' t', oc = some (.inl (Int32.ofNat 0), put b A S') ∧ om = some (Int32.ofNat 1, M') ∧ Rd b A S' M' q 4 (mEx a) n lim fr' t' ∧ MB E b S0 S' M' a d' e' ∧ Ext S0 S' ∧ mSn rdk M M' ∧ M'.1 15 = M.1 15 ∧ fr + df ≤ fr' ∧ S'.2.2.1 ≤ S.2.2.1 + dc ∧ S'.2.2.2 ≤ S.2.2.2 + dt
section ME
variable {E : gE} {N b : Nat} {A : FA} {S0 S S' : GS} {M M' : MS} {q a n lim fr : Nat} {d : AD} {ee : Ee} {t : Tk}
theorem MB.sm (z : MB E b S0 S M a d ee) {fs : List Value} (cq : Cel b S q (.inr (4, fs))) (xo : Xo q S S') (hf : Fx S S') {ks : List Nat} (s : mSm ks M M') (h19 : 19 ∉ ks) (h20 : 20 ∉ ks) (h7 : 7 ∉ ks) : MB E b S0 S' M' a d ee :=
  z.st cq xo hf (s.2 19 h19).1 (s.2 20 h20).1 (s.2 7 h7).2 (fun _ _ => by rw [s.1]) (fun _ _ => by rw [s.1])
theorem Rd.r7 {ex : List Value} {ci : Nat} (h : Rd b A S M q ci ex n lim fr t) (g : St) : Rd b A S (mR M 7 g) q ci ex n lim fr t := h.mm (fun _ _ => rfl) (mA_n _ _ (by omega)) rfl
theorem Rd.k4c {ex : List Value} {ci : Nat} (h : Rd b A S M q ci ex n lim fr t) (x : Fx S S') (k : ∀ a fs, Cel b S a (.inr (ci, fs)) → Cel b S' a (.inr (ci, fs))) : Rd b A S' M q ci ex n lim fr t := by
  obtain ⟨_, fs, c⟩ := h.cl
  exact h.fx x ((k _ _ c).1.trans c.1.symm)
theorem j_first (cx : MCx E N b S0 q) (x : Ext S0 S) (h : Rd b A S M q 4 (mEx a) n lim fr t) (ht : t.1 = 2) {cnt mx : Nat} (hc : cnt ≤ mx) (hm : mx ≤ 20) : (cnt < mx ∧ ∃ S' M' fr' t', fX7_first E N (put b A S) q (Int32.ofNat cnt) (Int32.ofNat mx) = some (Sum.inl (Int32.ofNat 0), put b A S') ∧ fX5_next N M = some (Int32.ofNat 0, M') ∧ Rd b A S' M' q 4 (mEx a) n lim fr' t' ∧ fr + 1 ≤ fr' ∧ Xo q S S' ∧ Fx S S' ∧ mSm [4, 11, 12, 13, 14] M M' ∧ S'.2.2.1 ≤ S.2.2.1 + 4 ∧ S'.2.2.2 ≤ S.2.2.2 + 40) ∨ (cnt = mx ∧ JF b A S0 M (S.2.2.1 + 8) (S.2.2.2 + 98) (fX7_first E N (put b A S) q (Int32.ofNat cnt) (Int32.ofNat mx)) (fX5_bad N M (Int32.ofNat 4))) := by
  obtain ⟨kok, hN, hq⟩ := cx
  have hE := kok.1
  have hb0 := kok.2.1
  have hb : b + 111 ≤ S.2.1 := Nat.le_trans hb0 x.1
  by_cases e : mx ≤ cnt
  · right
    obtain ⟨S2, b1, b2, x2, fl, y1, y2⟩ := j_bad (E := E) (N := N) hE hb h (k := 4) (Or.inr (by omega))
    refine ⟨by omega, JF.bad (M1 := M) x x2 fl mSn.rf ?_ b2 (by omega) (by omega)⟩
    simp only [fX7_first, bX7_first_0, bX7_first_11, pq_lit]
    simp (disch := omega) only [e, v4_need h, ↓gbx_x b1, ↓gbd_s, gbd_s, ↓gbx_s, gbx_s, ↓gnn_s, ↓grf_s, eq_self, ↓reduceIte, Nat.reduceEqDiff, Nat.reduceLeDiff, Nat.reduceLT, Nat.reduceMul, Nat.reduceAdd, not_true_eq_false, not_false_eq_true, Bool.false_eq_true, pq_lit, pq_add, pq_le, pq_lt, pq_eq, pq_en, pq_ne, pq_nle, pq_nlt, pq_len, pq_ltn, pB_z, pB_o, mzt_0, mzt_1, mzt_B]
  · left
    obtain ⟨S2, M2, fr2, t2, gc, gm, h2, hfr, xo, fx, sm, p1, p2⟩ := j_gw (E := E) (N := N) hE (by omega) hb (by omega) h (by omega)
    have n1 := c_need1 (E := E) (N := N) (b := b) (A := A) (S := S) (q := q) (Int32.ofNat 4)
    refine ⟨by omega, S2, M2, fr2, t2, ?_, gm, h2, hfr, xo, fx, sm, p1, p2⟩
    simp only [fX7_first, bX7_first_0, bX7_first_11, bX7_first_15, bX7_first_19, pq_lit]
    simp (disch := omega) only [e, v4_need h, ↓gbx_h n1, v4_go h, ↓gbd_h (gc), gc, ↓gbd_s, gbd_s, ↓gbx_s, gbx_s, ↓gnn_s, ↓grf_s, eq_self, ↓reduceIte, Nat.reduceEqDiff, Nat.reduceLeDiff, Nat.reduceLT, Nat.reduceMul, Nat.reduceAdd, not_true_eq_false, not_false_eq_true, Bool.false_eq_true, pq_lit, pq_add, pq_le, pq_lt, pq_eq, pq_en, pq_ne, pq_nle, pq_nlt, pq_len, pq_ltn, pB_z, pB_o, mzt_0, mzt_1, mzt_B]
theorem l_land (cx : MCx E N b S0 q) (x : Ext S0 S) (hr : ResR M) (h : Rd b A S M q 4 (mEx a) n lim fr t) (ht : t.1 = 2) (z : MB E b S0 S M a d ee) : LR E b A S0 q a n lim S M fr 26 330 4 (fX7_land E N (put b A S) q) (fX5_readLand N M) ∨ JF b A S0 M (S.2.2.1 + 60) (S.2.2.2 + 800) (fX7_land E N (put b A S) q) (fX5_readLand N M) := by
  have cx' := cx
  obtain ⟨kok, hN, hq⟩ := cx
  have hE := kok.1
  have hb0 := kok.2.1
  obtain ⟨_, fs, c⟩ := h.cl
  have vb := z.2.2.2.2.2.2.2.2
  have a0 := vb.1.1
  have h7 := vb.1.2.1
  obtain ⟨nl, hnl⟩ : ∃ nl, nl = nL (M.2.2.1 7) := ⟨_, rfl⟩
  rw [← hnl] at a0 h7
  have r25 := fun {β : Type} (K : Option Nat → Option β) => r1_25 z.1 A K
  have r52 := fun {β : Type} (K : Option Nat → Option β) => v4_52 h K
  have sz := l_size (E := E) (N := N) (A := A) z.2.1.1.at
  rw [← hnl] at sz
  rcases j_first cx' x h ht (cnt := nl) (mx := 7) h7 (by omega) with ⟨hlt, S1, M1, fr1, t1, gc, gm, h1, hf1, xo1, fx1, sm1, p1, p2⟩ | ⟨heq, jf⟩
  · have ne7 : ¬ nl = 7 := by omega
    have x1 := xo1.ext x hq
    obtain ⟨_, fs1, c1⟩ := h1.cl
    have z1 : MB E b S0 S1 M1 a d ee := z.sm c xo1 fx1 sm1 (by decide) (by decide) (by decide)
    have e17 : M1.2.2.1 7 = M.2.2.1 7 := (sm1.2 7 (by decide)).2
    have sn1 : mSn rdk M M1 := (sm1.su (by decide)).sn
    rcases j_fresh (N := N) kok x1 hq hN (sn1.res hr) h1 z1 (r := 13 + nl) (by omega) (by omega) with ⟨S2, M2, fr2, t2, nm, u, fc, fm, su, wu, h2, hf2, xo2, fx2, o2, g9, o9, sn2, p3, p4⟩ | jf
    · have x2 := xo2.ext x1 hq
      rcases j_num (E := E) (N := N) (S0 := S0) hE (Nat.le_trans hb0 x2.1) x2 (by omega) h2 (by omega) (lo := 0) (hi := 20) (by omega) (by omega) with ⟨S3, M3, k3, fr3, t3, _, k3l, _, _, nc3, nm3, g18, h3, hf3, xo3, fx3, sm3, p5, p6⟩ | jf
      · have x3 := xo3.ext x2 hq
        have hb3 : b + 111 ≤ S3.2.1 := Nat.le_trans hb0 x3.1
        obtain ⟨S4, hS4⟩ : ∃ S4, S4 = gpush S3 (.inr (6, gdf 6)) (gdf 6).length := ⟨_, rfl⟩
        have x34 : Ext S3 S4 := by rw [hS4]; exact Ext.push _ _ _
        have c4 : Cel b S4 S3.2.1 (.inr (6, [.null, .int (Int32.ofNat 0), .int (Int32.ofNat 0), .int (Int32.ofNat 0), .int (Int32.ofNat 0), .int (Int32.ofNat 0)])) := by rw [hS4]; exact Cel.push hb3 _ _
        have z4 : S4.2 = (S3.2.1 + 1, S3.2.2.1 + 1, S3.2.2.2 + 6) := by rw [hS4]; rfl
        have z41 : S4.2.2.1 = S3.2.2.1 + 1 := by rw [z4]
        have z42 : S4.2.2.2 = S3.2.2.2 + 6 := by rw [z4]
        obtain ⟨Ma, hMa⟩ : ∃ Ma, Ma = mR M3 7 (upd (M3.2.2.1 7) (3 + nl) (Int32.ofNat k3)) := ⟨_, rfl⟩
        have h4 : Rd b A S4 Ma q 4 (mEx a) n lim fr3 t3 := by rw [hMa]; exact (h3.ext x34).r7 _
        have x4 := x3.tr x34
        have sna : mSn rdk M Ma := by
          rw [hMa]
          exact (((sn1.tr sn2).tr (sm3.su (by decide)).sn)).tr ((mSm.rf.mR _ (by decide)).sn)
        have z3 : MB E b S0 S3 M1 a d ee := z1.sx c1 (xo2.tr xo3) (fx2.tr fx3)
        have r253 := fun {β : Type} (K : Option Nat → Option β) => r1_25 z3.1 A K
        have r523 := fun {β : Type} (K : Option Nat → Option β) => v4_52 h3 K
        have e37 : M3.2.2.1 7 = M.2.2.1 7 := by rw [(sm3.2 7 (by decide)).2, (o2 7 (by decide)).2, e17]
        rcases j_num (E := E) (N := N) (S0 := S0) hE (Nat.le_trans hb0 x4.1) x4 (by omega) h4 (by omega) (lo := 0) (hi := 20) (by omega) (by omega) with ⟨S5, M5, k5, fr5, t5, _, k5l, _, _, nc5, nm5, g18', h5, hf5, xo5, fx5, sm5, p7, p8⟩ | jf
        · left
          have x5 := xo5.ext x4 hq
          have hq3 := h3.lt
          have c5 := xo5.cel c4 (by omega)
          obtain ⟨S6, hS6⟩ : ∃ S6, S6 = gup S5 S3.2.1 (.inr (6, [.ref nm, .int (Int32.ofNat k3), .int (Int32.ofNat k5), .int (Int32.ofNat 0), .int (Int32.ofNat 0), .int (Int32.ofNat 0)])) := ⟨_, rfl⟩
          have c6 : Cel b S6 S3.2.1 (.inr (6, [.ref nm, .int (Int32.ofNat k3), .int (Int32.ofNat k5), .int (Int32.ofNat 0), .int (Int32.ofNat 0), .int (Int32.ofNat 0)])) := by rw [hS6]; exact c5.up _
          have h6 : Rd b A S6 M5 q 4 (mEx a) n lim fr5 t5 := by rw [hS6]; exact h5.up c5.1 rfl (by omega) _
          have xo16 : Xo q S1 S6 := by
            rw [hS6]
            exact (((xo2.tr xo3).tr x34.xo).tr xo5).gu (Nat.le_trans xo2.1 xo3.1) _
          have xo26 : Xo q S2 S6 := by
            rw [hS6]
            exact ((xo3.tr x34.xo).tr xo5).gu xo3.1 _
          have x6 := xo16.ext x1 hq
          have z6 : MB E b S0 S6 M1 a d ee := z1.sx c1 xo16 (h1.xf xo16)
          have su6 : StrAt b S6 nm u := su.fx (h2.xf xo26)
          have hg : E.1 ≤ S3.2.1 := by omega
          obtain ⟨M6, hM6⟩ : ∃ M6, M6 = mR M5 7 (upd (upd (M5.2.2.1 7) (10 + nl) (Int32.ofNat k5)) 0 (Int32.ofNat (nl + 1))) := ⟨_, rfl⟩
          have e57 : M5.2.2.1 7 = upd (M.2.2.1 7) (3 + nl) (Int32.ofNat k3) := by rw [(sm5.2 7 (by decide)).2, hMa, mA_e, e37]
          have i19 : ∀ k, k ∉ [4, 7, 11, 12, 13, 14, 18] → M6.1 k = M1.1 k := fun k hk => by
            have hk' : k ∉ [4, 11, 12, 13, 14, 18] := by
              intro q'; apply hk; revert q'; simp only [List.mem_cons, List.not_mem_nil, or_false]; omega
            have hk2 : k ∉ [4, 11, 12, 13, 14] := by
              intro q'; apply hk; revert q'; simp only [List.mem_cons, List.not_mem_nil, or_false]; omega
            rw [hM6, mA_i, (sm5.2 k hk').1, hMa, mA_i, (sm3.2 k hk').1, (o2 k hk2).1]
          have l9 : M6.2.2.2 9 = M2.2.2.2 9 := by
            rw [hM6, mA_L, sm5.1, hMa, mA_L, sm3.1]
          obtain ⟨S7, d7, e7, ad, z7, dd, f7, x7, k7, p9, p10⟩ := z6.addL (N := N) (A := A) (M' := M6) (v := S3.2.1) (nm := nm) (u := u) (x := k3) (y := k5) hE hb0 x6 k3l k5l (by rw [e17, ← hnl]; omega) c6 (by have := x3.1; omega) (fun i hi q' => by
            have := (z1.lc hi).1.2.2
            have := xo2.1
            have := xo3.1
            omega) su6 wu (i19 19 (by decide)) (i19 20 (by decide)) (by rw [e17, ← hnl, hM6, mA_e, e57]) (fun i hi => by
            rw [e17, ← hnl] at hi
            rw [l9, o9 i hi]) (by rw [e17, ← hnl, l9]; exact g9)
          have h7 : Rd b A S7 M6 q 4 (mEx a) n lim fr5 t5 := by rw [hM6]; exact (h6.k4c f7 k7).r7 _
          have q61 : S6.2.2.1 = S5.2.2.1 := by rw [hS6]; rfl
          have q62 : S6.2.2.2 = S5.2.2.2 := by rw [hS6]; rfl
          refine ⟨S7, M6, d7, e7, fr5, t5, ?_, ?_, h7, z7, x7, ?_, by rw [i19 15 (by decide), (sm1.2 15 (by decide)).1], by omega, by omega, by omega⟩
          · simp only [fX7_land, bX7_land_0, bX7_land_11, bX7_land_16, bX7_land_20, bX7_land_28, bX7_land_39, bX7_land_49, bX7_land_52, bX7_land_55, bX10_init_0, fX10_init, bX9_init_0, fX9_init, pq_lit]
            simp (disch := omega) only [↓r52, ↓r25, ↓gbd_h (sz), sz, v4_first h, ↓gbx_h gc, v4_fresh h1, ↓gbx_h fc, v4_number h2, ↓gbx_h nc3, ↓r523, ↓r253, ↓gnw_n hb3, ← hS4, v4_number h4, ↓gbx_h nc5, g_rfs, ↓w6_61 c5 hg, ↓w6_62 (c5.up _) hg, ↓w6_63 (c5.up _) hg, gup_gup, ← hS6, ↓gbd_h (ad), ad, ↓gbd_s, gbd_s, ↓gbx_s, gbx_s, ↓gnn_s, ↓grf_s, eq_self, ↓reduceIte, Nat.reduceEqDiff, Nat.reduceLeDiff, Nat.reduceLT, Nat.reduceMul, Nat.reduceAdd, not_true_eq_false, not_false_eq_true, Bool.false_eq_true, pq_lit, pq_add, pq_le, pq_lt, pq_eq, pq_en, pq_ne, pq_nle, pq_nlt, pq_len, pq_ltn, pB_z, pB_o, mzt_0, mzt_1, mzt_B]
          · have m0 : M5.2.2.1 7 0 = Int32.ofNat nl := by rw [e57, upd_o _ _ (by omega)]; exact a0
            rw [hM6]
            simp only [fX5_readLand, bX5_readLand_0, bX5_puts_0, fX5_puts, pq_lit]
            simp (disch := omega) only [↓mrd_n, mrd_n, a0, ne7, ↓mbd_h (gm), gm, pq_add, ↓mbd_h (fm), fm, ↓mbd_h (nm3), nm3, g18, ↓mwr_n, mwr_n, ma_s, ← hMa, ↓mbd_h (nm5), nm5, g18', mA_e, upd_o, m0, mR_mR, ↓mbd_s, mbd_s, eq_self, ↓reduceIte, Nat.reduceEqDiff, Nat.reduceLeDiff, Nat.reduceLT, Nat.reduceMul, Nat.reduceAdd, not_true_eq_false, not_false_eq_true, Bool.false_eq_true, pq_lit, pq_add, pq_le, pq_lt, pq_eq, pq_en, pq_ne, pq_nle, pq_nlt, pq_len, pq_ltn, pB_z, pB_o, mzt_0, mzt_1, mzt_B]
          · rw [hM6]
            exact (sna.tr (sm5.su (by decide)).sn).tr ((mSm.rf.mR _ (by decide)).sn)
        · right
          refine jf.mo sna (fun fa S' e => ?_) (fun M' e => ?_) (by omega) (by omega)
          · simp only [fX7_land, bX7_land_0, bX7_land_11, bX7_land_16, bX7_land_20, bX7_land_28, bX7_land_39, pq_lit]
            simp (disch := omega) only [↓r52, ↓r25, ↓gbd_h (sz), sz, v4_first h, ↓gbx_h gc, v4_fresh h1, ↓gbx_h fc, v4_number h2, ↓gbx_h nc3, ↓r523, ↓r253, ↓gnw_n hb3, ← hS4, v4_number h4, ↓gbx_x e, ↓gbd_s, gbd_s, ↓gbx_s, gbx_s, ↓gnn_s, ↓grf_s, eq_self, ↓reduceIte, Nat.reduceEqDiff, Nat.reduceLeDiff, Nat.reduceLT, Nat.reduceMul, Nat.reduceAdd, not_true_eq_false, not_false_eq_true, Bool.false_eq_true, pq_lit, pq_add, pq_le, pq_lt, pq_eq, pq_en, pq_ne, pq_nle, pq_nlt, pq_len, pq_ltn, pB_z, pB_o, mzt_0, mzt_1, mzt_B]
          · simp only [fX5_readLand, bX5_readLand_0, bX5_readLand_61, bX5_puts_0, fX5_puts, pq_lit]
            simp (disch := omega) only [↓mrd_n, mrd_n, a0, ne7, ↓mbd_h (gm), gm, pq_add, ↓mbd_h (fm), fm, ↓mbd_h (nm3), nm3, g18, ↓mwr_n, mwr_n, ma_s, ← hMa, ↓mbd_h (e), e, ↓mbd_s, mbd_s, eq_self, ↓reduceIte, Nat.reduceEqDiff, Nat.reduceLeDiff, Nat.reduceLT, Nat.reduceMul, Nat.reduceAdd, not_true_eq_false, not_false_eq_true, Bool.false_eq_true, pq_lit, pq_add, pq_le, pq_lt, pq_eq, pq_en, pq_ne, pq_nle, pq_nlt, pq_len, pq_ltn, pB_z, pB_o, mzt_0, mzt_1, mzt_B]
      · right
        refine jf.mo (sn1.tr sn2) (fun fa S' e => ?_) (fun M' e => ?_) (by omega) (by omega)
        · simp only [fX7_land, bX7_land_0, bX7_land_11, bX7_land_16, bX7_land_20, pq_lit]
          simp (disch := omega) only [↓r52, ↓r25, ↓gbd_h (sz), sz, v4_first h, ↓gbx_h gc, v4_fresh h1, ↓gbx_h fc, v4_number h2, ↓gbx_x e, ↓gbd_s, gbd_s, ↓gbx_s, gbx_s, ↓gnn_s, ↓grf_s, eq_self, ↓reduceIte, Nat.reduceEqDiff, Nat.reduceLeDiff, Nat.reduceLT, Nat.reduceMul, Nat.reduceAdd, not_true_eq_false, not_false_eq_true, Bool.false_eq_true, pq_lit, pq_add, pq_le, pq_lt, pq_eq, pq_en, pq_ne, pq_nle, pq_nlt, pq_len, pq_ltn, pB_z, pB_o, mzt_0, mzt_1, mzt_B]
        · simp only [fX5_readLand, bX5_readLand_0, bX5_readLand_61, bX5_puts_0, fX5_puts, pq_lit]
          simp (disch := omega) only [↓mrd_n, mrd_n, a0, ne7, ↓mbd_h (gm), gm, pq_add, ↓mbd_h (fm), fm, ↓mbd_h (e), e, ↓mbd_s, mbd_s, eq_self, ↓reduceIte, Nat.reduceEqDiff, Nat.reduceLeDiff, Nat.reduceLT, Nat.reduceMul, Nat.reduceAdd, not_true_eq_false, not_false_eq_true, Bool.false_eq_true, pq_lit, pq_add, pq_le, pq_lt, pq_eq, pq_en, pq_ne, pq_nle, pq_nlt, pq_len, pq_ltn, pB_z, pB_o, mzt_0, mzt_1, mzt_B]
    · right
      refine jf.mo sn1 (fun fa S' e => ?_) (fun M' e => ?_) (by omega) (by omega)
      · simp only [fX7_land, bX7_land_0, bX7_land_11, bX7_land_16, pq_lit]
        simp (disch := omega) only [↓r52, ↓r25, ↓gbd_h (sz), sz, v4_first h, ↓gbx_h gc, v4_fresh h1, ↓gbx_x e, ↓gbd_s, gbd_s, ↓gbx_s, gbx_s, ↓gnn_s, ↓grf_s, eq_self, ↓reduceIte, Nat.reduceEqDiff, Nat.reduceLeDiff, Nat.reduceLT, Nat.reduceMul, Nat.reduceAdd, not_true_eq_false, not_false_eq_true, Bool.false_eq_true, pq_lit, pq_add, pq_le, pq_lt, pq_eq, pq_en, pq_ne, pq_nle, pq_nlt, pq_len, pq_ltn, pB_z, pB_o, mzt_0, mzt_1, mzt_B]
      · simp only [fX5_readLand, bX5_readLand_0, bX5_readLand_61, pq_lit]
        simp (disch := omega) only [↓mrd_n, mrd_n, a0, ne7, ↓mbd_h (gm), gm, pq_add, ↓mbd_h (e), e, ↓mbd_s, mbd_s, eq_self, ↓reduceIte, Nat.reduceEqDiff, Nat.reduceLeDiff, Nat.reduceLT, Nat.reduceMul, Nat.reduceAdd, not_true_eq_false, not_false_eq_true, Bool.false_eq_true, pq_lit, pq_add, pq_le, pq_lt, pq_eq, pq_en, pq_ne, pq_nle, pq_nlt, pq_len, pq_ltn, pB_z, pB_o, mzt_0, mzt_1, mzt_B]
  · right
    refine jf.mo mSn.rf (fun fa S' e => ?_) (fun M' e => ?_) (by omega) (by omega)
    · simp only [fX7_land, bX7_land_0, bX7_land_11, pq_lit]
      simp (disch := omega) only [↓r52, ↓r25, ↓gbd_h (sz), sz, v4_first h, ↓gbx_x e, ↓gbd_s, gbd_s, ↓gbx_s, gbx_s, ↓gnn_s, ↓grf_s, eq_self, ↓reduceIte, Nat.reduceEqDiff, Nat.reduceLeDiff, Nat.reduceLT, Nat.reduceMul, Nat.reduceAdd, not_true_eq_false, not_false_eq_true, Bool.false_eq_true, pq_lit, pq_add, pq_le, pq_lt, pq_eq, pq_en, pq_ne, pq_nle, pq_nlt, pq_len, pq_ltn, pB_z, pB_o, mzt_0, mzt_1, mzt_B]
    · simp only [fX5_readLand, bX5_readLand_0, pq_lit]
      simp (disch := omega) only [↓mrd_n, mrd_n, a0, heq, ↓mbd_h (e), e, ↓mbd_s, mbd_s, eq_self, ↓reduceIte, Nat.reduceEqDiff, Nat.reduceLeDiff, Nat.reduceLT, Nat.reduceMul, Nat.reduceAdd, not_true_eq_false, not_false_eq_true, Bool.false_eq_true, pq_lit, pq_add, pq_le, pq_lt, pq_eq, pq_en, pq_ne, pq_nle, pq_nlt, pq_len, pq_ltn, pB_z, pB_o, mzt_0, mzt_1, mzt_B]
end ME
