/-! books: a line as a whole -/
section BB
variable {E : gE} {N b : Nat} {A : FA} {S0 S : GS} {M0 M : MS} {q a l l0 lp n lim fr cnt : Nat} {f0 fp : Nat → Nat} {t : Tk}
theorem b_len (cx : BCx E N b S0 M0 q a l0 lp f0 fp) (x : Ext S0 S) (sm : mSm bkk M0 M) (h : Rd b A S M q 16 (bEx a l) n lim fr t) (hcnt : cnt < 40) (hw : M.2.2.1 8 (4 * cnt) = Int32.ofNat 5) : BS b A S0 M0 q a l n lim cnt 27 303 3 S M fr (fX23_lends E N (put b A S) q) (mbd (fX5_takesName N M (Int32.ofNat 0) (Int32.ofNat (nL (M0.2.2.1 6)))) (fun r_13 S_14 => bX5_bookLine_229 N S_14 (Int32.ofNat (4 * cnt)) (Int32.ofNat 5) r_13)) ∨ JF b A S0 M (S.2.2.1 + 60) (S.2.2.2 + 700) (fX23_lends E N (put b A S) q) (mbd (fX5_takesName N M (Int32.ofNat 0) (Int32.ofNat (nL (M0.2.2.1 6)))) (fun r_13 S_14 => bX5_bookLine_229 N S_14 (Int32.ofNat (4 * cnt)) (Int32.ofNat 5) r_13)) := by
  have cx' := cx
  obtain ⟨kok, hN, hq, hr, hl, hp, ⟨ln, y2, ha⟩, hI⟩ := cx
  have hE := kok.1
  have hb0 := kok.2.1
  have hb : b + 111 ≤ S.2.1 := Nat.le_trans hb0 x.1
  have hEq : E.1 ≤ q := by omega
  have hqS := h.lt
  have hl7 := hI.l7
  have r94 := fun {β : Type} (K : Option Nat → Option β) => br_94 h K
  have r25 := fun {β : Type} (K : Option Nat → Option β) => r1_25 (ha.ext x) A K
  rcases b_ol cx' x sm h with ⟨S1, M1, k, fr1, t1, hk, gc, gm, g18, h1, hf1, xo1, x01, sm1, e8, e47, p1, p2⟩ | jf
  · obtain ⟨M2, hM2⟩ : ∃ M2, M2 = mR M1 8 (upd (M1.2.2.1 8) (4 * cnt + 1) (Int32.ofNat k)) := ⟨_, rfl⟩
    have h2 : Rd b A S1 M2 q 16 (bEx a l) n lim fr1 t1 := by rw [hM2]; exact h1.r8 _
    have sm2 : mSm bkk M0 M2 := by rw [hM2]; exact sm1.mR _ (by decide)
    have q94 := fun {β : Type} (K : Option Nat → Option β) => br_94 h2 K
    have q25 := fun {β : Type} (K : Option Nat → Option β) => r1_25 (ha.ext x01) A K
    have v6 : M2.2.2.1 6 0 = Int32.ofNat (nL (M0.2.2.1 6)) := by rw [(sm2.2 6 (by decide)).2]; exact hI.c0
    have pm : (mbd (fX5_takesName N M (Int32.ofNat 0) (Int32.ofNat (nL (M0.2.2.1 6)))) (fun r_13 S_14 => bX5_bookLine_229 N S_14 (Int32.ofNat (4 * cnt)) (Int32.ofNat 5) r_13)) = mbd (fX5_takesName N M2 (Int32.ofNat 0) (Int32.ofNat (nL (M0.2.2.1 6)))) (fun r_6 S_7 => if r_6 = Int32.ofNat 0 then mzt (Int32.ofNat 0) (some (Int32.ofNat 0, S_7)) else mwr S_7 8 160 (Int32.ofNat (4 * cnt) + Int32.ofNat 2) (S_7.1 18) (fun S_10 => mbd (fX5_takes N S_10 (Int32.ofNat 1) (Int32.ofNat 99)) (fun r_13 S_14 => if r_13 = Int32.ofNat 0 then mzt (Int32.ofNat 0) (some (Int32.ofNat 0, S_14)) else mwr S_14 8 160 (Int32.ofNat (4 * cnt) + Int32.ofNat 3) (S_14.1 18) (fun S_17 => mzt (Int32.ofNat 1) (some (Int32.ofNat 1, S_17)))))) := by
      rw [mbd_h gm, hM2]
      rw [hM2] at v6
      simp only [bX5_bookLine_229, bX5_bookLine_250, pq_lit]
      simp (disch := omega) only [↓mwr_n, mwr_n, g18, ma_s, ↓mrd_n, mrd_n, v6, ↓mbd_s, mbd_s, eq_self, ↓reduceIte, Nat.reduceEqDiff, Nat.reduceLeDiff, Nat.reduceLT, Nat.reduceMul, Nat.reduceAdd, not_true_eq_false, not_false_eq_true, Bool.false_eq_true, pq_lit, pq_add, pq_le, pq_lt, pq_eq, pq_en, pq_ne, pq_nle, pq_nlt, pq_len, pq_ltn, pB_z, pB_o, mzt_0, mzt_1, mzt_B]
    rw [pm]
    have sn2 : mSn rdk M M2 := ((sm.vs sm2).su (by decide)).sn
    rcases b_ol cx' x01 sm2 h2 with ⟨S3, M3, k3, fr3, t3, hk3, gc3, gm3, g183, h3, hf3, xo3, x03, sm3, e83, e473, r1, r2⟩ | jf
    · obtain ⟨S4, hS4⟩ : ∃ S4, S4 = gpush S3 (.inr (11, gdf 11)) (gdf 11).length := ⟨_, rfl⟩
      have hb3 : b + 111 ≤ S3.2.1 := Nat.le_trans hb0 x03.1
      have x4 : Ext S3 S4 := by rw [hS4]; exact Ext.push _ _ _
      have c4 : Cel b S4 S3.2.1 (.inr (11, [.int (Int32.ofNat 0), .int (Int32.ofNat 0), .int (Int32.ofNat 0)])) := by rw [hS4]; exact Cel.push hb3 _ _
      have z4 : S4.2 = (S3.2.1 + 1, S3.2.2.1 + 1, S3.2.2.2 + 3) := by rw [hS4]; rfl
      have z41 : S4.2.2.1 = S3.2.2.1 + 1 := by rw [z4]
      have z42 : S4.2.2.2 = S3.2.2.2 + 3 := by rw [z4]
      obtain ⟨M4, hM4⟩ : ∃ M4, M4 = mR M3 8 (upd (M3.2.2.1 8) (4 * cnt + 2) (Int32.ofNat k3)) := ⟨_, rfl⟩
      have h4 : Rd b A S4 M4 q 16 (bEx a l) n lim fr3 t3 := by rw [hM4]; exact (h3.ext x4).r8 _
      have sm4 : mSm bkk M0 M4 := by rw [hM4]; exact sm3.mR _ (by decide)
      have h3lt := h3.lt
      have pm4 : (mbd (fX5_takesName N M2 (Int32.ofNat 0) (Int32.ofNat (nL (M0.2.2.1 6)))) (fun r_6 S_7 => if r_6 = Int32.ofNat 0 then mzt (Int32.ofNat 0) (some (Int32.ofNat 0, S_7)) else mwr S_7 8 160 (Int32.ofNat (4 * cnt) + Int32.ofNat 2) (S_7.1 18) (fun S_10 => mbd (fX5_takes N S_10 (Int32.ofNat 1) (Int32.ofNat 99)) (fun r_13 S_14 => if r_13 = Int32.ofNat 0 then mzt (Int32.ofNat 0) (some (Int32.ofNat 0, S_14)) else mwr S_14 8 160 (Int32.ofNat (4 * cnt) + Int32.ofNat 3) (S_14.1 18) (fun S_17 => mzt (Int32.ofNat 1) (some (Int32.ofNat 1, S_17))))))) = mbd (fX5_takes N M4 (Int32.ofNat 1) (Int32.ofNat 99)) (fun r_13 S_14 => if r_13 = Int32.ofNat 0 then mzt (Int32.ofNat 0) (some (Int32.ofNat 0, S_14)) else mwr S_14 8 160 (Int32.ofNat (4 * cnt) + Int32.ofNat 3) (S_14.1 18) (fun S_17 => mzt (Int32.ofNat 1) (some (Int32.ofNat 1, S_17)))) := by
        rw [mbd_h gm3, if_neg (by decide), pq_add, mwr_n (by omega) (by omega), g183, ma_s, ← hM4]
      rw [pm4]
      have sn4 : mSn rdk M M4 := ((sm.vs sm4).su (by decide)).sn
      rcases b_nu (E := E) (lo := 1) (hi := 99) cx' (x03.tr x4) sm4 h4 (by omega) (by omega) with ⟨S5, M5, k5, fr5, t5, g1, g2, g3, gc5, gm5, g185, h5, hf5, xo5, x05, sm5, e85, e475, u1, u2⟩ | jf
      · left
        have c5 : Cel b S5 S3.2.1 (.inr (11, [.int (Int32.ofNat 0), .int (Int32.ofNat 0), .int (Int32.ofNat 0)])) := xo5.cel c4 (by omega)
        obtain ⟨S6, hS6⟩ : ∃ S6, S6 = gup S5 S3.2.1 (.inr (11, [.int (Int32.ofNat k), .int (Int32.ofNat k3), .int (Int32.ofNat k5)])) := ⟨_, rfl⟩
        have c6 : Cel b S6 S3.2.1 (.inr (11, [.int (Int32.ofNat k), .int (Int32.ofNat k3), .int (Int32.ofNat k5)])) := by rw [hS6]; exact c5.up _
        have h6 : Rd b A S6 M5 q 16 (bEx a l) n lim fr5 t5 := by rw [hS6]; exact h5.up c5.1 rfl (by omega) _
        have hg : E.1 ≤ S3.2.1 := by omega
        have xo13 := xo1.tr xo3
        have xo6 : Xo q S S6 := by rw [hS6]; exact ((xo13.tr x4.xo).tr xo5).gu xo13.1 _
        have m8 : M5.2.2.1 8 = upd (upd (M.2.2.1 8) (4 * cnt + 1) (Int32.ofNat k)) (4 * cnt + 2) (Int32.ofNat k3) := by rw [e85, hM4, mA_e, e83, hM2, mA_e, e8]
        refine ⟨S3.2.1, S6, mR M5 8 (upd (M5.2.2.1 8) (4 * cnt + 3) (Int32.ofNat k5)), fr5, t5, 5, k, k3, k5, ?_, ?_, h6.r8 _, c6, ⟨by omega, fun q => by omega, fun _ => ⟨hk, hk3⟩, fun q => by omega, fun q => by omega, by omega⟩, ⟨?_, ?_, fun _ => ?_, fun _ => ?_⟩, fun j hj => ?_, xo13.1, xo6, xo6.ext x hq, sm5.mR _ (by decide), ?_, by omega, ?_, ?_⟩
        · simp only [fX23_lends, bX23_lends_0, bX23_lends_11, bX23_lends_23, bX23_lends_27, bX23_lends_37, bX23_lends_40, bX17_init_0, fX17_init, bX16_init_0, fX16_init, bX13_init_0, fX13_init, pq_lit]
          simp (disch := omega) only [↓r94, ↓r25, b_one h, ↓gbx_h gc, ↓q94, ↓q25, b_one h2, ↓gbx_h gc3, ↓gnw_n hb3, ← hS4, b_number h4, ↓gbx_h gc5, ↓w11_77 c5 hg, ↓w11_78 (c5.up _) hg, ↓w11_79 (c5.up _) hg, gup_gup, ← hS6, ↓gbd_s, gbd_s, ↓gbx_s, gbx_s, ↓gnn_s, ↓grf_s, eq_self, ↓reduceIte, Nat.reduceEqDiff, Nat.reduceLeDiff, Nat.reduceLT, Nat.reduceMul, Nat.reduceAdd, not_true_eq_false, not_false_eq_true, Bool.false_eq_true, pq_lit, pq_add, pq_le, pq_lt, pq_eq, pq_en, pq_ne, pq_nle, pq_nlt, pq_len, pq_ltn, pB_z, pB_o, mzt_0, mzt_1, mzt_B]
        · rw [mbd_h gm5, if_neg (by decide), pq_add, mwr_n (by omega) (by omega), g185, ma_s]
          exact mzt_1 _
        · rw [mA_e, upd_o _ _ (by omega), m8, upd_o _ _ (by omega), upd_o _ _ (by omega)]; exact hw
        · rw [mA_e, upd_o _ _ (by omega), m8, upd_o _ _ (by omega), upd_s]
        · rw [mA_e, upd_o _ _ (by omega), m8, upd_s]
        · rw [mA_e, upd_s]
        · rw [mA_e, upd_o _ _ (by omega), m8, upd_o _ _ (by omega), upd_o _ _ (by omega)]
        · rw [mA_i, e475, hM4, mA_i, e473, hM2, mA_i]; exact e47
        · rw [hS6]; show S5.2.2.1 ≤ _; omega
        · rw [hS6]; show S5.2.2.2 ≤ _; omega
      · right
        refine jf.mo sn4 (fun fa S' e => ?_) (fun M' e => ?_) (by omega) (by omega)
        · simp only [fX23_lends, bX23_lends_0, bX23_lends_11, bX23_lends_23, bX23_lends_27, pq_lit]
          simp (disch := omega) only [↓r94, ↓r25, b_one h, ↓gbx_h gc, ↓q94, ↓q25, b_one h2, ↓gbx_h gc3, ↓gnw_n hb3, ← hS4, b_number h4, ↓gbx_x e, ↓gbd_s, gbd_s, ↓gbx_s, gbx_s, ↓gnn_s, ↓grf_s, eq_self, ↓reduceIte, Nat.reduceEqDiff, Nat.reduceLeDiff, Nat.reduceLT, Nat.reduceMul, Nat.reduceAdd, not_true_eq_false, not_false_eq_true, Bool.false_eq_true, pq_lit, pq_add, pq_le, pq_lt, pq_eq, pq_en, pq_ne, pq_nle, pq_nlt, pq_len, pq_ltn, pB_z, pB_o, mzt_0, mzt_1, mzt_B]
        · rw [mbd_h e, if_pos rfl]
          exact mzt_0 _
    · right
      refine jf.mo sn2 (fun fa S' e => ?_) (fun M' e => ?_) (by omega) (by omega)
      · simp only [fX23_lends, bX23_lends_0, bX23_lends_11, pq_lit]
        simp (disch := omega) only [↓r94, ↓r25, b_one h, ↓gbx_h gc, ↓q94, ↓q25, b_one h2, ↓gbx_x e, ↓gbd_s, gbd_s, ↓gbx_s, gbx_s, ↓gnn_s, ↓grf_s, eq_self, ↓reduceIte, Nat.reduceEqDiff, Nat.reduceLeDiff, Nat.reduceLT, Nat.reduceMul, Nat.reduceAdd, not_true_eq_false, not_false_eq_true, Bool.false_eq_true, pq_lit, pq_add, pq_le, pq_lt, pq_eq, pq_en, pq_ne, pq_nle, pq_nlt, pq_len, pq_ltn, pB_z, pB_o, mzt_0, mzt_1, mzt_B]
      · rw [mbd_h e, if_pos rfl]
        exact mzt_0 _
  · right
    refine jf.mo mSn.rf (fun fa S' e => ?_) (fun M' e => ?_) (by omega) (by omega)
    · simp only [fX23_lends, bX23_lends_0, pq_lit]
      simp (disch := omega) only [↓r94, ↓r25, b_one h, ↓gbx_x e, ↓gbd_s, gbd_s, ↓gbx_s, gbx_s, ↓gnn_s, ↓grf_s, eq_self, ↓reduceIte, Nat.reduceEqDiff, Nat.reduceLeDiff, Nat.reduceLT, Nat.reduceMul, Nat.reduceAdd, not_true_eq_false, not_false_eq_true, Bool.false_eq_true, pq_lit, pq_add, pq_le, pq_lt, pq_eq, pq_en, pq_ne, pq_nle, pq_nlt, pq_len, pq_ltn, pB_z, pB_o, mzt_0, mzt_1, mzt_B]
    · simp only [bX5_bookLine_229, pq_lit]
      simp (disch := omega) only [↓mbd_h (e), e, ↓mbd_s, mbd_s, eq_self, ↓reduceIte, Nat.reduceEqDiff, Nat.reduceLeDiff, Nat.reduceLT, Nat.reduceMul, Nat.reduceAdd, not_true_eq_false, not_false_eq_true, Bool.false_eq_true, pq_lit, pq_add, pq_le, pq_lt, pq_eq, pq_en, pq_ne, pq_nle, pq_nlt, pq_len, pq_ltn, pB_z, pB_o, mzt_0, mzt_1, mzt_B]
theorem b_cro (cx : BCx E N b S0 M0 q a l0 lp f0 fp) (x : Ext S0 S) (sm : mSm bkk M0 M) (h : Rd b A S M q 16 (bEx a l) n lim fr t) (hcnt : cnt < 40) {p : Nat} (hp6 : p < nP (M0.2.2.1 6)) (hw : M.2.2.1 8 (4 * cnt) = Int32.ofNat 0) : BS b A S0 M0 q a l n lim cnt 16 172 2 S M fr (fX23_crosses E N (put b A S) q (Int32.ofNat p)) (mbd (fX5_isWord N M (27991845698233715 : Int64)) (fun r_19 S_20 => if r_19 = Int32.ofNat 0 then mbd (fX5_bad N S_20 (Int32.ofNat 1)) (fun r_28 S_29 => mzt r_28 (some (r_28, S_29))) else mbd (fX5_next N S_20) (fun _ S_24 => mwr S_24 8 160 (Int32.ofNat (4 * cnt) + Int32.ofNat 1) (Int32.ofNat p) (fun S_26 => bX5_bookLine_250 N S_26 (Int32.ofNat (4 * cnt)) (Int32.ofNat 0))))) ∨ JF b A S0 M (S.2.2.1 + 40) (S.2.2.2 + 400) (fX23_crosses E N (put b A S) q (Int32.ofNat p)) (mbd (fX5_isWord N M (27991845698233715 : Int64)) (fun r_19 S_20 => if r_19 = Int32.ofNat 0 then mbd (fX5_bad N S_20 (Int32.ofNat 1)) (fun r_28 S_29 => mzt r_28 (some (r_28, S_29))) else mbd (fX5_next N S_20) (fun _ S_24 => mwr S_24 8 160 (Int32.ofNat (4 * cnt) + Int32.ofNat 1) (Int32.ofNat p) (fun S_26 => bX5_bookLine_250 N S_26 (Int32.ofNat (4 * cnt)) (Int32.ofNat 0))))) := by
  have cx' := cx
  obtain ⟨kok, hN, hq, hr, hl, hp, ⟨ln, y2, ha⟩, hI⟩ := cx
  have hE := kok.1
  have hb0 := kok.2.1
  have hb : b + 111 ≤ S.2.1 := Nat.le_trans hb0 x.1
  have hEq : E.1 ≤ q := by omega
  have hqS := h.lt
  have hl7 := hI.l7
  have hp6' := hI.p6
  have sis := j_isC (E := E) (N := N) h ((kok.2.2.1 10 _ rfl).ext x) (by omega)
  have mis := j_isM (N := N) h (bww 6 (by omega))
  rw [← bwe.2.2.2.2.2.2] at mis
  have sis' : fX6_is E N (put b A S) q (some (E.2.1 10)) = some (bI (twd t (bw 6)), put b A S) := sis
  cases et : twd t (bw 6) with
  | false =>
    rw [et] at sis' mis
    right
    obtain ⟨S1, b1, b2, x1, fl, y1, y2⟩ := j_bad (E := E) (N := N) hE hb h (k := 1) (Or.inl rfl)
    refine JF.bad (M1 := M) x x1 fl mSn.rf ?_ ?_ (by omega) (by omega)
    · simp only [fX23_crosses, bX23_crosses_0, bX23_crosses_7, pq_lit]
      simp (disch := omega) only [b_is h, ↓gbd_h (sis'), sis', bI_f, b_need h, ↓gbx_x b1, ↓gbd_s, gbd_s, ↓gbx_s, gbx_s, ↓gnn_s, ↓grf_s, eq_self, ↓reduceIte, Nat.reduceEqDiff, Nat.reduceLeDiff, Nat.reduceLT, Nat.reduceMul, Nat.reduceAdd, not_true_eq_false, not_false_eq_true, Bool.false_eq_true, pq_lit, pq_add, pq_le, pq_lt, pq_eq, pq_en, pq_ne, pq_nle, pq_nlt, pq_len, pq_ltn, pB_z, pB_o, mzt_0, mzt_1, mzt_B]
    · rw [mbd_h mis, if_pos (show bI false = Int32.ofNat 0 from rfl), mbd_h b2]
      exact mzt_0 _
  | true =>
    rw [et] at sis' mis
    have ht : t.1 = 2 := (of_decide_eq_true et).1
    obtain ⟨S1, M1, fr1, t1, gc, gm, h1, hf1, xo1, fx1, sm1, p1, p2⟩ := j_gw (E := E) (N := N) hE (by omega) hb (by omega) h (by omega)
    have x01 := xo1.ext x hq
    have hb1 : b + 111 ≤ S1.2.1 := Nat.le_trans hb0 x01.1
    have n1 := c_need1 (E := E) (N := N) (b := b) (A := A) (S := S) (q := q) (Int32.ofNat 1)
    obtain ⟨S2, hS2⟩ : ∃ S2, S2 = gpush S1 (.inr (9, gdf 9)) (gdf 9).length := ⟨_, rfl⟩
    have x2 : Ext S1 S2 := by rw [hS2]; exact Ext.push _ _ _
    have c2 : Cel b S2 S1.2.1 (.inr (9, [.int (Int32.ofNat 0), .int (Int32.ofNat 0)])) := by rw [hS2]; exact Cel.push hb1 _ _
    have z2 : S2.2 = (S1.2.1 + 1, S1.2.2.1 + 1, S1.2.2.2 + 2) := by rw [hS2]; rfl
    have z21 : S2.2.2.1 = S1.2.2.1 + 1 := by rw [z2]
    have z22 : S2.2.2.2 = S1.2.2.2 + 2 := by rw [z2]
    obtain ⟨M2, hM2⟩ : ∃ M2, M2 = mR M1 8 (upd (M1.2.2.1 8) (4 * cnt + 1) (Int32.ofNat p)) := ⟨_, rfl⟩
    have e8 : M1.2.2.1 8 = M.2.2.1 8 := (sm1.2 8 (by decide)).2
    have e47 : M1.1 47 = M.1 47 := (sm1.2 47 (by decide)).1
    have sm01 : mSm bkk M0 M1 := sm.tr (sm1.su (by decide))
    have h2 : Rd b A S2 M2 q 16 (bEx a l) n lim fr1 t1 := by rw [hM2]; exact (h1.ext x2).r8 _
    have sm2 : mSm bkk M0 M2 := by rw [hM2]; exact sm01.mR _ (by decide)
    have q94 := fun {β : Type} (K : Option Nat → Option β) => br_94 h2 K
    have q25 := fun {β : Type} (K : Option Nat → Option β) => r1_25 (ha.ext (x01.tr x2)) A K
    have h1lt := h1.lt
    have v6 : M2.2.2.1 6 0 = Int32.ofNat (nL (M0.2.2.1 6)) := by rw [(sm2.2 6 (by decide)).2]; exact hI.c0
    have pm : (mbd (fX5_isWord N M (27991845698233715 : Int64)) (fun r_19 S_20 => if r_19 = Int32.ofNat 0 then mbd (fX5_bad N S_20 (Int32.ofNat 1)) (fun r_28 S_29 => mzt r_28 (some (r_28, S_29))) else mbd (fX5_next N S_20) (fun _ S_24 => mwr S_24 8 160 (Int32.ofNat (4 * cnt) + Int32.ofNat 1) (Int32.ofNat p) (fun S_26 => bX5_bookLine_250 N S_26 (Int32.ofNat (4 * cnt)) (Int32.ofNat 0))))) = mbd (fX5_takesName N M2 (Int32.ofNat 0) (Int32.ofNat (nL (M0.2.2.1 6)))) (fun r_6 S_7 => if r_6 = Int32.ofNat 0 then mzt (Int32.ofNat 0) (some (Int32.ofNat 0, S_7)) else mwr S_7 8 160 (Int32.ofNat (4 * cnt) + Int32.ofNat 2) (S_7.1 18) (fun S_10 => mzt (Int32.ofNat 1) (some (Int32.ofNat 1, S_10)))) := by
      rw [mbd_h mis, if_neg (show ¬ bI true = Int32.ofNat 0 by decide), mbd_h gm, pq_add, mwr_n (by omega) (by omega), ma_s, ← hM2]
      simp only [bX5_bookLine_250, pq_lit]
      simp (disch := omega) only [↓mrd_n, mrd_n, v6, ↓mbd_s, mbd_s, eq_self, ↓reduceIte, Nat.reduceEqDiff, Nat.reduceLeDiff, Nat.reduceLT, Nat.reduceMul, Nat.reduceAdd, not_true_eq_false, not_false_eq_true, Bool.false_eq_true, pq_lit, pq_add, pq_le, pq_lt, pq_eq, pq_en, pq_ne, pq_nle, pq_nlt, pq_len, pq_ltn, pB_z, pB_o, mzt_0, mzt_1, mzt_B]
    rw [pm]
    rcases b_ol cx' (x01.tr x2) sm2 h2 with ⟨S3, M3, k3, fr3, t3, hk3, gc3, gm3, g183, h3, hf3, xo3, x03, sm3, e83, e473, r1, r2⟩ | jf
    · left
      have c3 : Cel b S3 S1.2.1 (.inr (9, [.int (Int32.ofNat 0), .int (Int32.ofNat 0)])) := xo3.cel c2 (by omega)
      obtain ⟨S4, hS4⟩ : ∃ S4, S4 = gup S3 S1.2.1 (.inr (9, [.int (Int32.ofNat p), .int (Int32.ofNat k3)])) := ⟨_, rfl⟩
      have c4 : Cel b S4 S1.2.1 (.inr (9, [.int (Int32.ofNat p), .int (Int32.ofNat k3)])) := by rw [hS4]; exact c3.up _
      have h4 : Rd b A S4 M3 q 16 (bEx a l) n lim fr3 t3 := by rw [hS4]; exact h3.up c3.1 rfl (by omega) _
      have hg : E.1 ≤ S1.2.1 := by omega
      have xo4 : Xo q S S4 := by rw [hS4]; exact ((xo1.tr x2.xo).tr xo3).gu xo1.1 _
      have m8 : M3.2.2.1 8 = upd (M.2.2.1 8) (4 * cnt + 1) (Int32.ofNat p) := by rw [e83, hM2, mA_e, e8]
      refine ⟨S1.2.1, S4, mR M3 8 (upd (M3.2.2.1 8) (4 * cnt + 2) (Int32.ofNat k3)), fr3, t3, 0, p, k3, 0, ?_, ?_, h4.r8 _, c4, ⟨by omega, fun _ => ⟨hp6, hk3⟩, fun q => by omega, fun q => by omega, fun q => by omega, by omega⟩, ⟨?_, ?_, fun _ => ?_, fun q => by omega⟩, fun j hj => ?_, xo1.1, xo4, xo4.ext x hq, sm3.mR _ (by decide), ?_, by omega, ?_, ?_⟩
      · simp only [fX23_crosses, bX23_crosses_0, bX23_crosses_7, bX23_crosses_11, bX23_crosses_15, bX23_crosses_18, bX23_crosses_31, bX23_crosses_34, bX14_init_0, fX14_init, bX13_init_0, fX13_init, pq_lit]
        simp (disch := omega) only [b_is h, ↓gbd_h (sis'), sis', bI_t, b_need h, ↓gbx_h n1, b_go h, ↓gbd_h (gc), gc, ↓gnw_n hb1, ← hS2, ↓q94, ↓q25, b_one h2, ↓gbx_h gc3, ↓w9_73 c3 hg, ↓w9_74 (c3.up _) hg, gup_gup, ← hS4, ↓gbd_s, gbd_s, ↓gbx_s, gbx_s, ↓gnn_s, ↓grf_s, eq_self, ↓reduceIte, Nat.reduceEqDiff, Nat.reduceLeDiff, Nat.reduceLT, Nat.reduceMul, Nat.reduceAdd, not_true_eq_false, not_false_eq_true, Bool.false_eq_true, pq_lit, pq_add, pq_le, pq_lt, pq_eq, pq_en, pq_ne, pq_nle, pq_nlt, pq_len, pq_ltn, pB_z, pB_o, mzt_0, mzt_1, mzt_B]
      · rw [mbd_h gm3, if_neg (by decide), pq_add, mwr_n (by omega) (by omega), g183, ma_s]
        exact mzt_1 _
      · rw [mA_e, upd_o _ _ (by omega), m8, upd_o _ _ (by omega)]; exact hw
      · rw [mA_e, upd_o _ _ (by omega), m8, upd_s]
      · rw [mA_e, upd_s]
      · rw [mA_e, upd_o _ _ (by omega), m8, upd_o _ _ (by omega)]
      · rw [mA_i, e473, hM2, mA_i]; exact e47
      · rw [hS4]; show S3.2.2.1 ≤ _; omega
      · rw [hS4]; show S3.2.2.2 ≤ _; omega
    · right
      refine jf.mo (((sm.vs sm2).su (by decide)).sn) (fun fa S' e => ?_) (fun M' e => ?_) (by omega) (by omega)
      · simp only [fX23_crosses, bX23_crosses_0, bX23_crosses_7, bX23_crosses_11, bX23_crosses_15, bX23_crosses_18, pq_lit]
        simp (disch := omega) only [b_is h, ↓gbd_h (sis'), sis', bI_t, b_need h, ↓gbx_h n1, b_go h, ↓gbd_h (gc), gc, ↓gnw_n hb1, ← hS2, ↓q94, ↓q25, b_one h2, ↓gbx_x e, ↓gbd_s, gbd_s, ↓gbx_s, gbx_s, ↓gnn_s, ↓grf_s, eq_self, ↓reduceIte, Nat.reduceEqDiff, Nat.reduceLeDiff, Nat.reduceLT, Nat.reduceMul, Nat.reduceAdd, not_true_eq_false, not_false_eq_true, Bool.false_eq_true, pq_lit, pq_add, pq_le, pq_lt, pq_eq, pq_en, pq_ne, pq_nle, pq_nlt, pq_len, pq_ltn, pB_z, pB_o, mzt_0, mzt_1, mzt_B]
      · rw [mbd_h e, if_pos rfl]
        exact mzt_0 _
end BB
