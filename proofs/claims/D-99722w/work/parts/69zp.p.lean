/-! maps: a line that tells a store, a treaty -/
section MF
variable {E : gE} {N b : Nat} {A : FA} {S0 S S' : GS} {M M' : MS} {q a n lim fr : Nat} {d : AD} {ee : Ee} {t : Tk}
theorem l_store (cx : MCx E N b S0 q) (x : Ext S0 S) (hr : ResR M) (h : Rd b A S M q 4 (mEx a) n lim fr t) (ht : t.1 = 2) (z : MB E b S0 S M a d ee) : LR E b A S0 q a n lim S M fr 26 330 3 (fX7_store E N (put b A S) q) (fX5_readStore N M) ∨ JF b A S0 M (S.2.2.1 + 60) (S.2.2.2 + 800) (fX7_store E N (put b A S) q) (fX5_readStore N M) := by
  have cx' := cx
  obtain ⟨kok, hN, hq⟩ := cx
  have hE := kok.1
  have hb0 := kok.2.1
  have hb : b + 111 ≤ S.2.1 := Nat.le_trans hb0 x.1
  obtain ⟨_, fs, c⟩ := h.cl
  have vb := z.2.2.2.2.2.2.2.2
  have a0 := vb.1.1
  have h7 := vb.1.2.1
  obtain ⟨nl, hnl⟩ : ∃ nl, nl = nL (M.2.2.1 7) := ⟨_, rfl⟩
  rw [← hnl] at a0 h7
  obtain ⟨S1, M1, fr1, t1, gc, gm, h1, hf1, xo1, fx1, sm1, p1h, p2⟩ := j_gw (E := E) (N := N) hE (by omega) hb (by omega) h (by omega)
  have x1 := xo1.ext x hq
  obtain ⟨_, fs1, c1⟩ := h1.cl
  have z1 : MB E b S0 S1 M1 a d ee := z.sm c xo1 fx1 sm1 (by decide) (by decide) (by decide)
  have e17 : M1.2.2.1 7 = M.2.2.1 7 := (sm1.2 7 (by decide)).2
  have sn1 : mSn rdk M M1 := (sm1.su (by decide)).sn
  have r25 := fun {β : Type} (K : Option Nat → Option β) => r1_25 z1.1 A K
  have r52 := fun {β : Type} (K : Option Nat → Option β) => v4_52 h1 K
  have nml := z1.nml (M' := M1) (fun _ _ => rfl)
  rw [e17, ← hnl] at nml
  have a01 : M1.2.2.1 7 0 = Int32.ofNat nl := by rw [e17]; exact a0
  rcases j_hold (N := N) (S0 := S0) (kok.ext x1) x1 (sn1.res hr) h1 nml (by omega) with ⟨S2, k, hk, ht1, hc, hm, x12, p3, p4⟩ | jf
  · obtain ⟨M2, hM2⟩ : ∃ M2, M2 = mF M1 18 (Int32.ofNat k) := ⟨_, rfl⟩
    rw [← hM2] at hm
    have h2 : Rd b A S2 M2 q 4 (mEx a) n lim fr1 t1 := by rw [hM2]; exact (h1.ext x12).mm (fun k hk => mF_ne _ _ (by rintro rfl; revert hk; decide)) rfl rfl
    have x2 := x1.tr x12
    have hb2 : b + 111 ≤ S2.2.1 := Nat.le_trans hb0 x2.1
    have sm2 : mSm [18] M1 M2 := by rw [hM2]; exact mSm.rf.mF _ (by decide)
    have z2 : MB E b S0 S2 M2 a d ee := z1.sm c1 x12.xo x12.fx sm2 (by decide) (by decide) (by decide)
    have e27 : M2.2.2.1 7 = M.2.2.1 7 := by rw [(sm2.2 7 (by decide)).2, e17]
    have g18 : M2.1 18 = Int32.ofNat k := by rw [hM2]; exact mF_e _ _ _
    have hk2 : k < nL (M2.2.2.1 7) := by rw [e27, ← hnl]; exact hk
    obtain ⟨cl, cl0⟩ := z2.lc hk2
    have lg := l_get (E := E) (N := N) (A := A) z2.2.1.1.at hk2
    have r66 := fun {β : Type} (K : Int32 → Option β) => r6_66 cl A K
    have cc : ∀ {β : Type} (K : Option β), gcc (put b A S2) (some (d.2.1 k)) [6] K = K := fun K => gcc_at (cl.at A) (by decide) K
    have mb := m_bt (N := N) (S := M2) (M2.1 20) (Int32.ofNat k)
    have sn2 : mSn rdk M M2 := sn1.tr (sm2.su (by decide)).sn
    by_cases hbt : bt (M2.1 20) (Int32.ofNat k) = true
    · rw [pB_t hbt] at mb
      obtain ⟨S3, b1, b2, x3, fl, y1, y2⟩ := j_bad (E := E) (N := N) hE hb2 h2 (k := 3) (Or.inr (by omega))
      refine Or.inr (JF.bad (M1 := M2) x2 x3 fl sn2 ?_ ?_ (by omega) (by omega))
      · simp only [fX7_store, bX7_store_0, bX7_store_4, bX7_store_22, bX7_store_25, bX7_store_42, pq_lit]
        simp (disch := omega) only [v4_go h, ↓gbd_h (gc), gc, ↓r52, ↓r25, v4_hold h1, ↓gbx_h hc, ↓gbd_h (lg), lg, ↓cc, ↓r66, hbt, v4_need h2, ↓gbx_x b1, ↓gbd_s, gbd_s, ↓gbx_s, gbx_s, ↓gnn_s, ↓grf_s, eq_self, ↓reduceIte, Nat.reduceEqDiff, Nat.reduceLeDiff, Nat.reduceLT, Nat.reduceMul, Nat.reduceAdd, not_true_eq_false, not_false_eq_true, Bool.false_eq_true, pq_lit, pq_add, pq_le, pq_lt, pq_eq, pq_en, pq_ne, pq_nle, pq_nlt, pq_len, pq_ltn, pB_z, pB_o, mzt_0, mzt_1, mzt_B]
      · simp only [fX5_readStore, bX5_readStore_0, pq_lit]
        simp (disch := omega) only [↓mbd_h (gm), gm, ↓mrd_n, mrd_n, a01, ↓mbd_h (hm), hm, g18, ↓mbd_h (mb), mb, ↓mbd_h (b2), b2, ↓mbd_s, mbd_s, eq_self, ↓reduceIte, Nat.reduceEqDiff, Nat.reduceLeDiff, Nat.reduceLT, Nat.reduceMul, Nat.reduceAdd, not_true_eq_false, not_false_eq_true, Bool.false_eq_true, pq_lit, pq_add, pq_le, pq_lt, pq_eq, pq_en, pq_ne, pq_nle, pq_nlt, pq_len, pq_ltn, pB_z, pB_o, mzt_0, mzt_1, mzt_B]
    · rw [pB_f hbt] at mb
      have n3 := c_need1 (E := E) (N := N) (b := b) (A := A) (S := S2) (q := q) (Int32.ofNat 3)
      obtain ⟨M3, hM3⟩ : ∃ M3, M3 = mF M2 20 (M2.1 20 ||| p1 k) := ⟨_, rfl⟩
      have m37 : M3.2.2.1 7 = M2.2.2.1 7 := by rw [hM3]; rfl
      have m320 : M3.1 20 = M2.1 20 ||| p1 k := by rw [hM3]; exact mF_e _ _ _
      have bt1 : pB (bt (M3.1 20) (Int32.ofNat k) = true) = Int32.ofNat 1 := by
        rw [m320, bt_or (by omega), bt_p1 (by omega) (by omega)]
        exact pB_t (by simp)
      obtain ⟨S3, hS3⟩ : ∃ S3, S3 = gup S2 (d.2.1 k) (.inr (6, [.ref (d.2.2.2.2.1 k), .int (M2.2.2.1 7 (3 + k)), .int (M2.2.2.1 7 (10 + k)), .int (M2.2.2.1 7 (17 + k)), .int (M2.2.2.1 7 (72 + k)), .int (Int32.ofNat 1)])) := ⟨_, rfl⟩
      obtain ⟨z3, f3, x3, k3⟩ := z2.setL (S' := S3) (M' := M3) hk2 x2 (fun i _ _ => by rw [m37]) (fun l hl ne => by
        rw [m320, bt_or (by omega), bt_p1 (by omega) (by omega), show decide (k = l) = false from decide_eq_false (by omega), Bool.or_false]) (by rw [m37, m320]; exact z2.2.2.2.2.2.2.2.2.bit hk2) (by rw [hM3]; exact mF_ne _ _ (by omega)) (by rw [hM3]; rfl) (by rw [m37, bt1]; exact hS3)
      have h3 : Rd b A S3 M3 q 4 (mEx a) n lim fr1 t1 := by rw [hM3]; exact (h2.k4c f3 k3).mm (fun k hk => mF_ne _ _ (by rintro rfl; revert hk; decide)) rfl rfl
      have hb3 : b + 111 ≤ S3.2.1 := Nat.le_trans hb0 x3.1
      have q31 : S3.2.2.1 = S2.2.2.1 := by rw [hS3]; rfl
      have q32 : S3.2.2.2 = S2.2.2.2 := by rw [hS3]; rfl
      have hg : E.1 ≤ d.2.1 k := by omega
      have w66 := fun {β : Type} (K : GS → Option β) => w6_66 (E := E) cl hg A (.int (Int32.ofNat 1)) K
      have w66' : ∀ {β : Type} (K : GS → Option β), gpv E (put b A S2) (some (d.2.1 k)) 66 (.int (Int32.ofNat 1)) K = K (put b A S3) := fun K => by rw [w66, ← hS3]
      obtain ⟨S4, M4, fr4, t4, gc4, gm4, h4, hf4, xo4, fx4, sm4, p5, p6⟩ := j_gw (E := E) (N := N) hE (by omega) hb3 (by omega) h3 (by omega)
      have x4 := xo4.ext x3 hq
      have hb4 : b + 111 ≤ S4.2.1 := Nat.le_trans hb0 x4.1
      have sn3 : mSn rdk M M3 := by rw [hM3]; exact sn2.tr (mSm.rf.mF _ (by decide)).sn
      have sn4 : mSn rdk M M4 := sn3.tr (sm4.su (by decide)).sn
      rcases j_num (E := E) (N := N) (S0 := S0) hE hb4 x4 (by omega) h4 (by omega) (lo := 0) (hi := 99) (by omega) (by omega) with ⟨S5, M5, k5, fr5, t5, _, k5l, _, _, nc5, nm5, g18', h5, hf5, xo5, fx5, sm5, p7, p8⟩ | jf
      · left
        have x5 := xo5.ext x4 hq
        obtain ⟨_, fs3, c3⟩ := h3.cl
        have sm35 : mSm [4, 11, 12, 13, 14, 18] M3 M5 := (sm4.su (by decide)).tr sm5
        have z5 : MB E b S0 S5 M5 a d ee := z3.sm c3 (xo4.tr xo5) (fx4.tr fx5) sm35 (by decide) (by decide) (by decide)
        have e57 : M5.2.2.1 7 = M2.2.2.1 7 := by rw [(sm35.2 7 (by decide)).2, m37]
        have hk5 : k < nL (M5.2.2.1 7) := by rw [e57]; exact hk2
        obtain ⟨cl5, cl50⟩ := z5.lc hk5
        obtain ⟨M6, hM6⟩ : ∃ M6, M6 = mR M5 7 (upd (M5.2.2.1 7) (17 + k) (Int32.ofNat k5)) := ⟨_, rfl⟩
        have m67 : M6.2.2.1 7 = upd (M5.2.2.1 7) (17 + k) (Int32.ofNat k5) := by rw [hM6, mA_e]
        have m620 : M6.1 20 = M5.1 20 := by rw [hM6]; rfl
        obtain ⟨S6, hS6⟩ : ∃ S6, S6 = gup S5 (d.2.1 k) (.inr (6, [.ref (d.2.2.2.2.1 k), .int (M5.2.2.1 7 (3 + k)), .int (M5.2.2.1 7 (10 + k)), .int (Int32.ofNat k5), .int (M5.2.2.1 7 (72 + k)), .int (pB (bt (M5.1 20) (Int32.ofNat k) = true))])) := ⟨_, rfl⟩
        obtain ⟨z6, f6, x6, k6⟩ := z5.setL (S' := S6) (M' := M6) hk5 x5 (fun i i1 _ => by rw [m67, upd_o _ _ i1]) (fun l hl ne => by rw [m620]) (by rw [m67, m620]; exact z5.2.2.2.2.2.2.2.2.sto hk5 k5l) (by rw [hM6]; rfl) (by rw [hM6]; rfl) (by rw [m67, m620, upd_s, upd_o _ _ (by omega), upd_o _ _ (by omega), upd_o _ _ (by omega)]; exact hS6)
        have h6 : Rd b A S6 M6 q 4 (mEx a) n lim fr5 t5 := by rw [hM6]; exact (h5.k4c f6 k6).r7 _
        have w64 := fun {β : Type} (K : GS → Option β) => w6_64 (E := E) cl5 hg A (.int (Int32.ofNat k5)) K
        have w64' : ∀ {β : Type} (K : GS → Option β), gpv E (put b A S5) (some (d.2.1 k)) 64 (.int (Int32.ofNat k5)) K = K (put b A S6) := fun K => by rw [w64, ← hS6]
        have q61 : S6.2.2.1 = S5.2.2.1 := by rw [hS6]; rfl
        have q62 : S6.2.2.2 = S5.2.2.2 := by rw [hS6]; rfl
        have hk7 : k < 7 := by omega
        refine ⟨S6, M6, d, ee, fr5, t5, ?_, ?_, h6, z6, x6, ?_, by rw [hM6, mA_i, (sm35.2 15 (by decide)).1, hM3, mF_ne _ _ (by omega), (sm2.2 15 (by decide)).1, (sm1.2 15 (by decide)).1], by omega, by omega, by omega⟩
        · simp only [fX7_store, bX7_store_0, bX7_store_4, bX7_store_22, bX7_store_25, bX7_store_42, bX7_store_46, bX7_store_55, bX7_store_63, pq_lit]
          simp (disch := omega) only [v4_go h, ↓gbd_h (gc), gc, ↓r52, ↓r25, v4_hold h1, ↓gbx_h hc, ↓gbd_h (lg), lg, ↓cc, ↓r66, hbt, v4_need h2, ↓gbx_h n3, ↓w66', v4_go h3, ↓gbd_h (gc4), gc4, v4_number h4, ↓gbx_h nc5, ↓w64', ↓gbd_s, gbd_s, ↓gbx_s, gbx_s, ↓gnn_s, ↓grf_s, eq_self, ↓reduceIte, Nat.reduceEqDiff, Nat.reduceLeDiff, Nat.reduceLT, Nat.reduceMul, Nat.reduceAdd, not_true_eq_false, not_false_eq_true, Bool.false_eq_true, pq_lit, pq_add, pq_le, pq_lt, pq_eq, pq_en, pq_ne, pq_nle, pq_nlt, pq_len, pq_ltn, pB_z, pB_o, mzt_0, mzt_1, mzt_B]
        · rw [hM6]
          simp only [fX5_readStore, bX5_readStore_0, bX5_puts_0, fX5_puts, pq_lit]
          simp (disch := omega) only [↓mbd_h (gm), gm, ↓mrd_n, mrd_n, a01, ↓mbd_h (hm), hm, g18, ↓mbd_h (mb), mb, ↓mpt, p1_e, ← hM3, ↓mbd_h (gm4), gm4, ↓mbd_h (nm5), nm5, g18', pq_add, ↓mwr_n, mwr_n, ma_s, ↓mbd_s, mbd_s, eq_self, ↓reduceIte, Nat.reduceEqDiff, Nat.reduceLeDiff, Nat.reduceLT, Nat.reduceMul, Nat.reduceAdd, not_true_eq_false, not_false_eq_true, Bool.false_eq_true, pq_lit, pq_add, pq_le, pq_lt, pq_eq, pq_en, pq_ne, pq_nle, pq_nlt, pq_len, pq_ltn, pB_z, pB_o, mzt_0, mzt_1, mzt_B]
        · rw [hM6]
          exact (sn4.tr (sm5.su (by decide)).sn).tr ((mSm.rf.mR _ (by decide)).sn)
      · right
        refine jf.mo sn4 (fun fa S' e => ?_) (fun M' e => ?_) (by omega) (by omega)
        · simp only [fX7_store, bX7_store_0, bX7_store_4, bX7_store_22, bX7_store_25, bX7_store_42, bX7_store_46, bX7_store_55, pq_lit]
          simp (disch := omega) only [v4_go h, ↓gbd_h (gc), gc, ↓r52, ↓r25, v4_hold h1, ↓gbx_h hc, ↓gbd_h (lg), lg, ↓cc, ↓r66, hbt, v4_need h2, ↓gbx_h n3, ↓w66', v4_go h3, ↓gbd_h (gc4), gc4, v4_number h4, ↓gbx_x e, ↓gbd_s, gbd_s, ↓gbx_s, gbx_s, ↓gnn_s, ↓grf_s, eq_self, ↓reduceIte, Nat.reduceEqDiff, Nat.reduceLeDiff, Nat.reduceLT, Nat.reduceMul, Nat.reduceAdd, not_true_eq_false, not_false_eq_true, Bool.false_eq_true, pq_lit, pq_add, pq_le, pq_lt, pq_eq, pq_en, pq_ne, pq_nle, pq_nlt, pq_len, pq_ltn, pB_z, pB_o, mzt_0, mzt_1, mzt_B]
        · simp only [fX5_readStore, bX5_readStore_0, bX5_puts_0, fX5_puts, pq_lit]
          simp (disch := omega) only [↓mbd_h (gm), gm, ↓mrd_n, mrd_n, a01, ↓mbd_h (hm), hm, g18, ↓mbd_h (mb), mb, ↓mpt, p1_e, ← hM3, ↓mbd_h (gm4), gm4, ↓mbd_h (e), e, ↓mbd_s, mbd_s, eq_self, ↓reduceIte, Nat.reduceEqDiff, Nat.reduceLeDiff, Nat.reduceLT, Nat.reduceMul, Nat.reduceAdd, not_true_eq_false, not_false_eq_true, Bool.false_eq_true, pq_lit, pq_add, pq_le, pq_lt, pq_eq, pq_en, pq_ne, pq_nle, pq_nlt, pq_len, pq_ltn, pB_z, pB_o, mzt_0, mzt_1, mzt_B]
  · right
    refine jf.mo sn1 (fun fa S' e => ?_) (fun M' e => ?_) (by omega) (by omega)
    · simp only [fX7_store, bX7_store_0, bX7_store_4, pq_lit]
      simp (disch := omega) only [v4_go h, ↓gbd_h (gc), gc, ↓r52, ↓r25, v4_hold h1, ↓gbx_x e, ↓gbd_s, gbd_s, ↓gbx_s, gbx_s, ↓gnn_s, ↓grf_s, eq_self, ↓reduceIte, Nat.reduceEqDiff, Nat.reduceLeDiff, Nat.reduceLT, Nat.reduceMul, Nat.reduceAdd, not_true_eq_false, not_false_eq_true, Bool.false_eq_true, pq_lit, pq_add, pq_le, pq_lt, pq_eq, pq_en, pq_ne, pq_nle, pq_nlt, pq_len, pq_ltn, pB_z, pB_o, mzt_0, mzt_1, mzt_B]
    · simp only [fX5_readStore, bX5_readStore_0, pq_lit]
      simp (disch := omega) only [↓mbd_h (gm), gm, ↓mrd_n, mrd_n, a01, ↓mbd_h (e), e, ↓mbd_s, mbd_s, eq_self, ↓reduceIte, Nat.reduceEqDiff, Nat.reduceLeDiff, Nat.reduceLT, Nat.reduceMul, Nat.reduceAdd, not_true_eq_false, not_false_eq_true, Bool.false_eq_true, pq_lit, pq_add, pq_le, pq_lt, pq_eq, pq_en, pq_ne, pq_nle, pq_nlt, pq_len, pq_ltn, pB_z, pB_o, mzt_0, mzt_1, mzt_B]
theorem l_treaty (cx : MCx E N b S0 q) (x : Ext S0 S) (hr : ResR M) (h : Rd b A S M q 4 (mEx a) n lim fr t) (ht : t.1 = 2) (z : MB E b S0 S M a d ee) : LR E b A S0 q a n lim S M fr 26 330 3 (fX7_treaty E N (put b A S) q) (fX5_readTreaty N M) ∨ JF b A S0 M (S.2.2.1 + 60) (S.2.2.2 + 800) (fX7_treaty E N (put b A S) q) (fX5_readTreaty N M) := by
  have cx' := cx
  obtain ⟨kok, hN, hq⟩ := cx
  have hE := kok.1
  have hb0 := kok.2.1
  have hb : b + 111 ≤ S.2.1 := Nat.le_trans hb0 x.1
  obtain ⟨_, fs, c⟩ := h.cl
  have vb := z.2.2.2.2.2.2.2.2
  have a0 := vb.1.1
  have h7 := vb.1.2.1
  obtain ⟨nl, hnl⟩ : ∃ nl, nl = nL (M.2.2.1 7) := ⟨_, rfl⟩
  rw [← hnl] at a0 h7
  obtain ⟨S1, M1, fr1, t1, gc, gm, h1, hf1, xo1, fx1, sm1, p1', p2⟩ := j_gw (E := E) (N := N) hE (by omega) hb (by omega) h (by omega)
  have x1 := xo1.ext x hq
  obtain ⟨_, fs1, c1⟩ := h1.cl
  have z1 : MB E b S0 S1 M1 a d ee := z.sm c xo1 fx1 sm1 (by decide) (by decide) (by decide)
  have e17 : M1.2.2.1 7 = M.2.2.1 7 := (sm1.2 7 (by decide)).2
  have sn1 : mSn rdk M M1 := (sm1.su (by decide)).sn
  have r25 := fun {β : Type} (K : Option Nat → Option β) => r1_25 z1.1 A K
  have r52 := fun {β : Type} (K : Option Nat → Option β) => v4_52 h1 K
  have nml := z1.nml (M' := M1) (fun _ _ => rfl)
  rw [e17, ← hnl] at nml
  have a01 : M1.2.2.1 7 0 = Int32.ofNat nl := by rw [e17]; exact a0
  rcases j_one (N := N) (S0 := S0) (kok.ext x1) x1 (by omega) (sn1.res hr) h1 nml (by omega) with ⟨S2, M2, k, fr2, t2, hk, _, oc, om, g18, h2, hf2, xo2, fx2, sm2, p3, p4⟩ | jf
  · have x2 := xo2.ext x1 hq
    obtain ⟨_, fs2, c2⟩ := h2.cl
    have z2 : MB E b S0 S2 M2 a d ee := z1.sm c1 xo2 fx2 sm2 (by decide) (by decide) (by decide)
    have e27 : M2.2.2.1 7 = M.2.2.1 7 := by rw [(sm2.2 7 (by decide)).2, e17]
    have sn2 : mSn rdk M M2 := sn1.tr (sm2.su (by decide)).sn
    have r252 := fun {β : Type} (K : Option Nat → Option β) => r1_25 z2.1 A K
    have r522 := fun {β : Type} (K : Option Nat → Option β) => v4_52 h2 K
    have nml2 := z2.nml (M' := M2) (fun _ _ => rfl)
    rw [e27, ← hnl] at nml2
    have a02 : M2.2.2.1 7 0 = Int32.ofNat nl := by rw [e27]; exact a0
    rcases j_hold (N := N) (S0 := S0) (kok.ext x2) x2 (sn2.res hr) h2 nml2 (by omega) with ⟨S3, y, hy, ht2, hc, hm, x23, p5, p6⟩ | jf
    · obtain ⟨M3, hM3⟩ : ∃ M3, M3 = mF M2 18 (Int32.ofNat y) := ⟨_, rfl⟩
      rw [← hM3] at hm
      have h3 : Rd b A S3 M3 q 4 (mEx a) n lim fr2 t2 := by rw [hM3]; exact (h2.ext x23).mm (fun k hk => mF_ne _ _ (by rintro rfl; revert hk; decide)) rfl rfl
      have x3 := x2.tr x23
      have hb3 : b + 111 ≤ S3.2.1 := Nat.le_trans hb0 x3.1
      have sm3 : mSm [18] M2 M3 := by rw [hM3]; exact mSm.rf.mF _ (by decide)
      have z3 : MB E b S0 S3 M3 a d ee := z2.sm c2 x23.xo x23.fx sm3 (by decide) (by decide) (by decide)
      have e37 : M3.2.2.1 7 = M.2.2.1 7 := by rw [(sm3.2 7 (by decide)).2, e27]
      have g183 : M3.1 18 = Int32.ofNat y := by rw [hM3]; exact mF_e _ _ _
      have hk3 : k < nL (M3.2.2.1 7) := by rw [e37, ← hnl]; exact hk
      have hy3 : y < nL (M3.2.2.1 7) := by rw [e37, ← hnl]; exact hy
      have sn3 : mSn rdk M M3 := sn2.tr (sm3.su (by decide)).sn
      have r253 := fun {β : Type} (K : Option Nat → Option β) => r1_25 z3.1 A K
      have r523 := fun {β : Type} (K : Option Nat → Option β) => v4_52 h3 K
      have n3 := c_need1 (E := E) (N := N) (b := b) (A := A) (S := S3) (q := q) (Int32.ofNat 3)
      obtain ⟨Sb, b1, b2, xb, fl, y1, y2⟩ := j_bad (E := E) (N := N) hE hb3 h3 (k := 3) (Or.inr (by omega))
      by_cases eky : k = y
      · refine Or.inr (JF.bad (M1 := M3) x3 xb fl sn3 ?_ ?_ (by omega) (by omega))
        · simp only [fX7_treaty, bX7_treaty_0, bX7_treaty_4, bX7_treaty_15, bX7_treaty_27, bX7_treaty_62, bX7_treaty_63, pq_lit]
          simp (disch := omega) only [v4_go h, ↓gbd_h (gc), gc, ↓r52, ↓r25, v4_one h1, ↓gbx_h oc, ↓r522, ↓r252, v4_hold h2, ↓gbx_h hc, eky, v4_need h3, ↓gbx_x b1, ↓gbd_s, gbd_s, ↓gbx_s, gbx_s, ↓gnn_s, ↓grf_s, eq_self, ↓reduceIte, Nat.reduceEqDiff, Nat.reduceLeDiff, Nat.reduceLT, Nat.reduceMul, Nat.reduceAdd, not_true_eq_false, not_false_eq_true, Bool.false_eq_true, pq_lit, pq_add, pq_le, pq_lt, pq_eq, pq_en, pq_ne, pq_nle, pq_nlt, pq_len, pq_ltn, pB_z, pB_o, mzt_0, mzt_1, mzt_B]
        · simp only [fX5_readTreaty, bX5_readTreaty_0, bX5_readTreaty_70, pq_lit]
          simp (disch := omega) only [↓mbd_h (gm), gm, ↓mrd_n, mrd_n, a01, ↓mbd_h (om), om, a02, ↓mbd_h (hm), hm, g183, g18, eky, ↓mbd_h (b2), b2, ↓mbd_s, mbd_s, eq_self, ↓reduceIte, Nat.reduceEqDiff, Nat.reduceLeDiff, Nat.reduceLT, Nat.reduceMul, Nat.reduceAdd, not_true_eq_false, not_false_eq_true, Bool.false_eq_true, pq_lit, pq_add, pq_le, pq_lt, pq_eq, pq_en, pq_ne, pq_nle, pq_nlt, pq_len, pq_ltn, pB_z, pB_o, mzt_0, mzt_1, mzt_B]
      · obtain ⟨cl, cl0⟩ := z3.lc hk3
        have lg := l_get (E := E) (N := N) (A := A) z3.2.1.1.at hk3
        have r65 := fun {β : Type} (K : Int32 → Option β) => r6_65 cl A K
        have cc : ∀ {β : Type} (K : Option β), gcc (put b A S3) (some (d.2.1 k)) [6] K = K := fun K => gcc_at (cl.at A) (by decide) K
        have mb := m_bt (N := N) (S := M3) (M3.2.2.1 7 (72 + k)) (Int32.ofNat y)
        have cb := c_bt (E := E) (N := N) (S := put b A S3) (M3.2.2.1 7 (72 + k)) (Int32.ofNat y)
        have eky' : ¬ y = k := fun q' => eky q'.symm
        by_cases hbt : bt (M3.2.2.1 7 (72 + k)) (Int32.ofNat y) = true
        · rw [pB_t hbt] at mb cb
          refine Or.inr (JF.bad (M1 := M3) x3 xb fl sn3 ?_ ?_ (by omega) (by omega))
          · simp only [fX7_treaty, bX7_treaty_0, bX7_treaty_4, bX7_treaty_15, bX7_treaty_27, bX7_treaty_45, bX7_treaty_55, bX7_treaty_62, bX7_treaty_63, pq_lit]
            simp (disch := omega) only [v4_go h, ↓gbd_h (gc), gc, ↓r52, ↓r25, v4_one h1, ↓gbx_h oc, ↓r522, ↓r252, v4_hold h2, ↓gbx_h hc, eky, ↓r523, ↓r253, ↓gbd_h (lg), lg, ↓cc, ↓r65, ↓gbd_h (cb), cb, v4_need h3, ↓gbx_x b1, ↓gbd_s, gbd_s, ↓gbx_s, gbx_s, ↓gnn_s, ↓grf_s, eq_self, ↓reduceIte, Nat.reduceEqDiff, Nat.reduceLeDiff, Nat.reduceLT, Nat.reduceMul, Nat.reduceAdd, not_true_eq_false, not_false_eq_true, Bool.false_eq_true, pq_lit, pq_add, pq_le, pq_lt, pq_eq, pq_en, pq_ne, pq_nle, pq_nlt, pq_len, pq_ltn, pB_z, pB_o, mzt_0, mzt_1, mzt_B]
          · simp only [fX5_readTreaty, bX5_readTreaty_0, bX5_readTreaty_70, pq_lit]
            simp (disch := omega) only [↓mbd_h (gm), gm, ↓mrd_n, mrd_n, a01, ↓mbd_h (om), om, a02, ↓mbd_h (hm), hm, g183, g18, eky', pq_add, ↓mbd_h (mb), mb, ↓mbd_h (b2), b2, ↓mbd_s, mbd_s, eq_self, ↓reduceIte, Nat.reduceEqDiff, Nat.reduceLeDiff, Nat.reduceLT, Nat.reduceMul, Nat.reduceAdd, not_true_eq_false, not_false_eq_true, Bool.false_eq_true, pq_lit, pq_add, pq_le, pq_lt, pq_eq, pq_en, pq_ne, pq_nle, pq_nlt, pq_len, pq_ltn, pB_z, pB_o, mzt_0, mzt_1, mzt_B]
        · rw [pB_f hbt] at mb cb
          left
          obtain ⟨M4, hM4⟩ : ∃ M4, M4 = mR M3 7 (upd (M3.2.2.1 7) (72 + k) (M3.2.2.1 7 (72 + k) ||| p1 y)) := ⟨_, rfl⟩
          have m47 : M4.2.2.1 7 = upd (M3.2.2.1 7) (72 + k) (M3.2.2.1 7 (72 + k) ||| p1 y) := by rw [hM4, mA_e]
          have m420 : M4.1 20 = M3.1 20 := by rw [hM4]; rfl
          obtain ⟨S4, hS4⟩ : ∃ S4, S4 = gup S3 (d.2.1 k) (.inr (6, [.ref (d.2.2.2.2.1 k), .int (M3.2.2.1 7 (3 + k)), .int (M3.2.2.1 7 (10 + k)), .int (M3.2.2.1 7 (17 + k)), .int (M3.2.2.1 7 (72 + k) ||| p1 y), .int (pB (bt (M3.1 20) (Int32.ofNat k) = true))])) := ⟨_, rfl⟩
          have hk7 : k < 7 := by omega
          obtain ⟨z4, f4, x4, k4⟩ := z3.setL (S' := S4) (M' := M4) hk3 x3 (fun i _ i2 => by rw [m47, upd_o _ _ i2]) (fun l hl ne => by rw [m420]) (by rw [m47, m420]; exact z3.2.2.2.2.2.2.2.2.tre hk3 hy3) (by rw [hM4]; rfl) (by rw [hM4]; rfl) (by rw [m47, m420, upd_s, upd_o _ _ (by omega), upd_o _ _ (by omega), upd_o _ _ (by omega)]; exact hS4)
          have h4 : Rd b A S4 M4 q 4 (mEx a) n lim fr2 t2 := by rw [hM4]; exact (h3.k4c f4 k4).r7 _
          have hg : E.1 ≤ d.2.1 k := by omega
          have w65 := fun {β : Type} (K : GS → Option β) => w6_65 (E := E) cl hg A (.int (M3.2.2.1 7 (72 + k) ||| p1 y)) K
          have w65' : ∀ {β : Type} (K : GS → Option β), gpv E (put b A S3) (some (d.2.1 k)) 65 (.int (M3.2.2.1 7 (72 + k) ||| p1 y)) K = K (put b A S4) := fun K => by rw [w65, ← hS4]
          have hb4 : b + 111 ≤ S4.2.1 := Nat.le_trans hb0 x4.1
          have q41 : S4.2.2.1 = S3.2.2.1 := by rw [hS4]; rfl
          have q42 : S4.2.2.2 = S3.2.2.2 := by rw [hS4]; rfl
          obtain ⟨S5, M5, fr5, t5, gc5, gm5, h5, hf5, xo5, fx5, sm5, p7, p8⟩ := j_gw (E := E) (N := N) hE (by omega) hb4 (by omega) h4 (by omega)
          have x5 := xo5.ext x4 hq
          obtain ⟨_, fs4, c4⟩ := h4.cl
          have z5 : MB E b S0 S5 M5 a d ee := z4.sm c4 xo5 fx5 sm5 (by decide) (by decide) (by decide)
          refine ⟨S5, M5, d, ee, fr5, t5, ?_, ?_, h5, z5, x5, ?_, by rw [(sm5.2 15 (by decide)).1, hM4, mA_i, (sm3.2 15 (by decide)).1, (sm2.2 15 (by decide)).1, (sm1.2 15 (by decide)).1], by omega, by omega, by omega⟩
          · simp only [fX7_treaty, bX7_treaty_0, bX7_treaty_4, bX7_treaty_15, bX7_treaty_27, bX7_treaty_45, bX7_treaty_55, bX7_treaty_63, bX7_treaty_67, bX7_treaty_78, bX7_treaty_96, pq_lit]
            simp (disch := omega) only [v4_go h, ↓gbd_h (gc), gc, ↓r52, ↓r25, v4_one h1, ↓gbx_h oc, ↓r522, ↓r252, v4_hold h2, ↓gbx_h hc, eky, ↓r523, ↓r253, ↓gbd_h (lg), lg, ↓cc, ↓r65, ↓gbd_h (cb), cb, v4_need h3, ↓gbx_h n3, p1_e, ↓w65', v4_go h4, ↓gbd_h (gc5), gc5, ↓gbd_s, gbd_s, ↓gbx_s, gbx_s, ↓gnn_s, ↓grf_s, eq_self, ↓reduceIte, Nat.reduceEqDiff, Nat.reduceLeDiff, Nat.reduceLT, Nat.reduceMul, Nat.reduceAdd, not_true_eq_false, not_false_eq_true, Bool.false_eq_true, pq_lit, pq_add, pq_le, pq_lt, pq_eq, pq_en, pq_ne, pq_nle, pq_nlt, pq_len, pq_ltn, pB_z, pB_o, mzt_0, mzt_1, mzt_B]
          · simp only [fX5_readTreaty, bX5_readTreaty_0, bX5_readTreaty_70, pq_lit]
            simp (disch := omega) only [↓mbd_h (gm), gm, ↓mrd_n, mrd_n, a01, ↓mbd_h (om), om, a02, ↓mbd_h (hm), hm, g183, g18, eky', pq_add, ↓mbd_h (mb), mb, p1_e, ↓mwr_n, mwr_n, ma_s, ← hM4, ↓mbd_h (gm5), gm5, ↓mbd_s, mbd_s, eq_self, ↓reduceIte, Nat.reduceEqDiff, Nat.reduceLeDiff, Nat.reduceLT, Nat.reduceMul, Nat.reduceAdd, not_true_eq_false, not_false_eq_true, Bool.false_eq_true, pq_lit, pq_add, pq_le, pq_lt, pq_eq, pq_en, pq_ne, pq_nle, pq_nlt, pq_len, pq_ltn, pB_z, pB_o, mzt_0, mzt_1, mzt_B]
          · have sn4 : mSn rdk M M4 := by rw [hM4]; exact sn3.tr ((mSm.rf.mR _ (by decide)).sn)
            exact sn4.tr (sm5.su (by decide)).sn
    · right
      refine jf.mo sn2 (fun fa S' e => ?_) (fun M' e => ?_) (by omega) (by omega)
      · simp only [fX7_treaty, bX7_treaty_0, bX7_treaty_4, bX7_treaty_15, pq_lit]
        simp (disch := omega) only [v4_go h, ↓gbd_h (gc), gc, ↓r52, ↓r25, v4_one h1, ↓gbx_h oc, ↓r522, ↓r252, v4_hold h2, ↓gbx_x e, ↓gbd_s, gbd_s, ↓gbx_s, gbx_s, ↓gnn_s, ↓grf_s, eq_self, ↓reduceIte, Nat.reduceEqDiff, Nat.reduceLeDiff, Nat.reduceLT, Nat.reduceMul, Nat.reduceAdd, not_true_eq_false, not_false_eq_true, Bool.false_eq_true, pq_lit, pq_add, pq_le, pq_lt, pq_eq, pq_en, pq_ne, pq_nle, pq_nlt, pq_len, pq_ltn, pB_z, pB_o, mzt_0, mzt_1, mzt_B]
      · simp only [fX5_readTreaty, bX5_readTreaty_0, pq_lit]
        simp (disch := omega) only [↓mbd_h (gm), gm, ↓mrd_n, mrd_n, a01, ↓mbd_h (om), om, a02, ↓mbd_h (e), e, ↓mbd_s, mbd_s, eq_self, ↓reduceIte, Nat.reduceEqDiff, Nat.reduceLeDiff, Nat.reduceLT, Nat.reduceMul, Nat.reduceAdd, not_true_eq_false, not_false_eq_true, Bool.false_eq_true, pq_lit, pq_add, pq_le, pq_lt, pq_eq, pq_en, pq_ne, pq_nle, pq_nlt, pq_len, pq_ltn, pB_z, pB_o, mzt_0, mzt_1, mzt_B]
  · right
    refine jf.mo sn1 (fun fa S' e => ?_) (fun M' e => ?_) (by omega) (by omega)
    · simp only [fX7_treaty, bX7_treaty_0, bX7_treaty_4, pq_lit]
      simp (disch := omega) only [v4_go h, ↓gbd_h (gc), gc, ↓r52, ↓r25, v4_one h1, ↓gbx_x e, ↓gbd_s, gbd_s, ↓gbx_s, gbx_s, ↓gnn_s, ↓grf_s, eq_self, ↓reduceIte, Nat.reduceEqDiff, Nat.reduceLeDiff, Nat.reduceLT, Nat.reduceMul, Nat.reduceAdd, not_true_eq_false, not_false_eq_true, Bool.false_eq_true, pq_lit, pq_add, pq_le, pq_lt, pq_eq, pq_en, pq_ne, pq_nle, pq_nlt, pq_len, pq_ltn, pB_z, pB_o, mzt_0, mzt_1, mzt_B]
    · simp only [fX5_readTreaty, bX5_readTreaty_0, pq_lit]
      simp (disch := omega) only [↓mbd_h (gm), gm, ↓mrd_n, mrd_n, a01, ↓mbd_h (e), e, ↓mbd_s, mbd_s, eq_self, ↓reduceIte, Nat.reduceEqDiff, Nat.reduceLeDiff, Nat.reduceLT, Nat.reduceMul, Nat.reduceAdd, not_true_eq_false, not_false_eq_true, Bool.false_eq_true, pq_lit, pq_add, pq_le, pq_lt, pq_eq, pq_en, pq_ne, pq_nle, pq_nlt, pq_len, pq_ltn, pB_z, pB_o, mzt_0, mzt_1, mzt_B]
end MF
