/-! books: an act is read -/
section BC
variable {E : gE} {N b : Nat} {A : FA} {S0 S : GS} {M0 M : MS} {q a l l0 lp n lim fr cnt : Nat} {f0 fp f : Nat → Nat} {t : Tk}
theorem BS.tr {dc dt df dc' dt' df' : Nat} {S1 : GS} {M1 : MS} {fr1 : Nat} {oc oc' : Option ((Option Nat ⊕ Nat) × GS)} {om om' : Option (Int32 × MS)} (h : BS b A S0 M0 q a l n lim cnt dc dt df S1 M1 fr1 oc om) (xo : Xo q S S1) (e8 : ∀ j, j < 4 * cnt → M1.2.2.1 8 j = M.2.2.1 8 j) (e47 : M1.1 47 = M.1 47) (ec : ∀ v S', oc = some (.inl (some v), S') → oc' = some (.inl (some v), S')) (em : ∀ M', om = some (Int32.ofNat 1, M') → om' = some (Int32.ofNat 1, M')) (hf : fr + df' ≤ fr1 + df) (h1 : S1.2.2.1 + dc ≤ S.2.2.1 + dc') (h2 : S1.2.2.2 + dt ≤ S.2.2.2 + dt') : BS b A S0 M0 q a l n lim cnt dc' dt' df' S M fr oc' om' := by
  obtain ⟨v, S', M', fr', t', k, x, y, z, e1, e2, e3, e4, e5, e6, e7, e8', e9, e10, e11, e12, e13, e14, e15⟩ := h
  have := xo.1
  exact ⟨v, S', M', fr', t', k, x, y, z, ec _ _ e1, em _ e2, e3, e4, e5, e6, fun j hj => (e7 j hj).trans (e8 j hj), by omega, xo.tr e9, e10, e11, e12.trans e47, by omega, by omega, by omega⟩
theorem c_ap (cx : BCx E N b S0 M0 q a l0 lp f0 fp) (x : Ext S0 S) (h : Rd b A S M q 16 (bEx a l) n lim fr t) {i : Nat} (hi : i ≤ 6) (hg : ∀ j, j < 6 → twd t (bw j) = decide (i = j)) : fX23_act E N (put b A S) q = bX23_act_73 E N q (put b A S) (bI (decide (i = 0))) (bI (decide (i = 1))) (bI (decide (i = 2))) (bI (decide (i = 4))) (bI (decide (i = 5))) (bI (decide (i < 6))) := by
  obtain ⟨kok, hN, hq, hr, hl, hp, ha, hI⟩ := cx
  have k2 := kok.2.2.1
  have i0 : fX6_is E N (put b A S) q (some (E.2.1 4)) = some (bI (twd t (bw 0)), put b A S) := j_isC h ((k2 4 _ rfl).ext x) (by omega)
  have i1 : fX6_is E N (put b A S) q (some (E.2.1 5)) = some (bI (twd t (bw 1)), put b A S) := j_isC h ((k2 5 _ rfl).ext x) (by omega)
  have i2 : fX6_is E N (put b A S) q (some (E.2.1 6)) = some (bI (twd t (bw 2)), put b A S) := j_isC h ((k2 6 _ rfl).ext x) (by omega)
  have i4 : fX6_is E N (put b A S) q (some (E.2.1 7)) = some (bI (twd t (bw 4)), put b A S) := j_isC h ((k2 7 _ rfl).ext x) (by omega)
  have i5 : fX6_is E N (put b A S) q (some (E.2.1 8)) = some (bI (twd t (bw 5)), put b A S) := j_isC h ((k2 8 _ rfl).ext x) (by omega)
  have i3 : fX6_is E N (put b A S) q (some (E.2.1 9)) = some (bI (twd t (bw 3)), put b A S) := j_isC h ((k2 9 _ rfl).ext x) (by omega)
  rw [hg 0 (by omega)] at i0
  rw [hg 1 (by omega)] at i1
  rw [hg 2 (by omega)] at i2
  rw [hg 3 (by omega)] at i3
  rw [hg 4 (by omega)] at i4
  rw [hg 5 (by omega)] at i5
  unfold fX23_act bX23_act_0
  rw [b_is h, gbd_h i0]
  unfold bX23_act_6
  rw [b_is h, gbd_h i1]
  unfold bX23_act_13
  rw [b_is h, gbd_h i2]
  unfold bX23_act_20
  rw [b_is h, gbd_h i4]
  unfold bX23_act_27
  rw [b_is h, gbd_h i5]
  have h7 : i = 0 ∨ i = 1 ∨ i = 2 ∨ i = 3 ∨ i = 4 ∨ i = 5 ∨ i = 6 := by omega
  rcases h7 with rfl | rfl | rfl | rfl | rfl | rfl | rfl
  · rfl
  · rfl
  · rfl
  · show gbd (vInchBorders_BookReader_is__Ljava_lang_String__Z E N (put b A S) (some q) (some (E.2.1 9))) (fun r_6 S_7 => bX23_act_65 E N q S_7 _ _ _ _ _ r_6) = _
    rw [b_is h, gbd_h i3]
    rfl
  · rfl
  · rfl
  · show gbd (vInchBorders_BookReader_is__Ljava_lang_String__Z E N (put b A S) (some q) (some (E.2.1 9))) (fun r_6 S_7 => bX23_act_65 E N q S_7 _ _ _ _ _ r_6) = _
    rw [b_is h, gbd_h i3]
    rfl
theorem m_ap (h : Rd b A S M q 16 (bEx a l) n lim fr t) (h47 : M.1 47 = Int32.ofNat cnt) {i : Nat} (hi : i ≤ 6) (hg : ∀ j, j < 6 → twd t (bw j) = decide (i = j)) : fX5_bookLine N M = bX5_bookLine_93 N M (Int32.ofNat (4 * cnt)) (Int32.ofNat (if i = 6 then 0 else i + 1)) := by
  obtain ⟨a0, a1, a2, a3, a4, a5, a6⟩ := bwe
  have k0 := j_isM (N := N) h (bww 0 (by omega))
  have k1 := j_isM (N := N) h (bww 1 (by omega))
  have k2 := j_isM (N := N) h (bww 2 (by omega))
  have k3 := j_isM (N := N) h (bww 3 (by omega))
  have k4 := j_isM (N := N) h (bww 4 (by omega))
  have k5 := j_isM (N := N) h (bww 5 (by omega))
  rw [hg 0 (by omega), ← a0] at k0
  rw [hg 1 (by omega), ← a1] at k1
  rw [hg 2 (by omega), ← a2] at k2
  rw [hg 3 (by omega), ← a3] at k3
  rw [hg 4 (by omega), ← a4] at k4
  rw [hg 5 (by omega), ← a5] at k5
  simp only [fX5_bookLine, bX5_bookLine_0, pq_lit]
  have h7 : i = 0 ∨ i = 1 ∨ i = 2 ∨ i = 3 ∨ i = 4 ∨ i = 5 ∨ i = 6 := by omega
  rcases h7 with rfl | rfl | rfl | rfl | rfl | rfl | rfl
  all_goals simp (disch := omega) only [↓mbd_h (k0), k0, ↓mbd_h (k1), k1, ↓mbd_h (k2), k2, ↓mbd_h (k3), k3, ↓mbd_h (k4), k4, ↓mbd_h (k5), k5, decide_true, decide_false, bI_t, bI_f, h47, pq_mul, ↓mbd_s, mbd_s, eq_self, ↓reduceIte, Nat.reduceEqDiff, Nat.reduceLeDiff, Nat.reduceLT, Nat.reduceMul, Nat.reduceAdd, not_true_eq_false, not_false_eq_true, Bool.false_eq_true, pq_lit, pq_add, pq_le, pq_lt, pq_eq, pq_en, pq_ne, pq_nle, pq_nlt, pq_len, pq_ltn, pB_z, pB_o, mzt_0, mzt_1, mzt_B]
theorem j_act (cx : BCx E N b S0 M0 q a l0 lp f0 fp) (x : Ext S0 S) (sm : mSm bkk M0 M) (h : Rd b A S M q 16 (bEx a l) n lim fr t) (hls : LsAt b S l cnt f) (h47 : M.1 47 = Int32.ofNat cnt) (hc40 : cnt ≤ 40) : (∃ dc dt df, dc ≤ 12 * df ∧ dt ≤ 150 * df ∧ cnt < 40 ∧ BS b A S0 M0 q a l n lim cnt dc dt df S M fr (fX23_act E N (put b A S) q) (fX5_bookLine N M)) ∨ JF b A S0 M (S.2.2.1 + 100) (S.2.2.2 + 1200) (fX23_act E N (put b A S) q) (fX5_bookLine N M) := by
  have cx' := cx
  obtain ⟨kok, hN, hq, hr, hl, hp, ⟨ln, y2, ha⟩, hI⟩ := cx
  have hE := kok.1
  have hb0 := kok.2.1
  have hb : b + 111 ≤ S.2.1 := Nat.le_trans hb0 x.1
  have hEq : E.1 ≤ q := by omega
  have hbq : b ≤ q := by omega
  have hl7 := hI.l7
  have hp6 := hI.p6
  obtain ⟨i, hi, ht2, hg⟩ := tk_b t
  have ca := c_ap (E := E) cx' x h hi hg
  have ma := m_ap (N := N) h h47 hi hg
  have r94 := fun {β : Type} (K : Option Nat → Option β) => br_94 h K
  have r95 := fun {β : Type} (K : Option Nat → Option β) => br_95 h K
  by_cases e6 : i < 6
  · -- a plain word
    have ht := ht2 e6
    rw [if_neg (show ¬ i = 6 by omega)] at ma
    have sz := l_size (E := E) (N := N) (A := A) hls
    have c92 : fX23_act E N (put b A S) q = bX23_act_100 E N q (put b A S) (bI (decide (i = 0))) (bI (decide (i = 1))) (bI (decide (i = 2))) (bI (decide (i = 4))) (bI (decide (i = 5))) (Int32.ofNat 1) (some q) (Int32.ofNat cnt) := by
      rw [ca, decide_eq_true e6]
      show bX23_act_92 E N q (put b A S) _ _ _ _ _ (bI true) = _
      unfold bX23_act_92
      rw [r95, gbd_h sz]
      rfl
    have m115 : fX5_bookLine N M = bX5_bookLine_115 N M (Int32.ofNat (4 * cnt)) (Int32.ofNat (i + 1)) := by
      rw [ma]
      simp only [bX5_bookLine_93, pq_lit]
      rw [if_neg (by rw [pq_eq (by omega) (by omega)]; omega)]
    by_cases e40 : cnt = 40
    · right
      obtain ⟨S1, b1, b2, x1, fl, y1, y2⟩ := j_bad (E := E) (N := N) hE hb h (k := 4) (Or.inr (by omega))
      refine JF.bad (M1 := M) x x1 fl mSn.rf ?_ ?_ (by omega) (by omega)
      · rw [c92]
        have z : 40 ≤ cnt := by omega
        simp only [bX23_act_100, bX23_act_110, pq_lit]
        simp (disch := omega) only [z, b_need h, ↓gbx_x b1, ↓gbd_s, gbd_s, ↓gbx_s, gbx_s, ↓gnn_s, ↓grf_s, eq_self, ↓reduceIte, Nat.reduceEqDiff, Nat.reduceLeDiff, Nat.reduceLT, Nat.reduceMul, Nat.reduceAdd, not_true_eq_false, not_false_eq_true, Bool.false_eq_true, pq_lit, pq_add, pq_le, pq_lt, pq_eq, pq_en, pq_ne, pq_nle, pq_nlt, pq_len, pq_ltn, pB_z, pB_o, mzt_0, mzt_1, mzt_B]
      · rw [m115]
        simp only [bX5_bookLine_115, pq_lit]
        simp (disch := omega) only [h47, e40, ↓mbd_h (b2), b2, ↓mbd_s, mbd_s, eq_self, ↓reduceIte, Nat.reduceEqDiff, Nat.reduceLeDiff, Nat.reduceLT, Nat.reduceMul, Nat.reduceAdd, not_true_eq_false, not_false_eq_true, Bool.false_eq_true, pq_lit, pq_add, pq_le, pq_lt, pq_eq, pq_en, pq_ne, pq_nle, pq_nlt, pq_len, pq_ltn, pB_z, pB_o, mzt_0, mzt_1, mzt_B]
    · have hcnt : cnt < 40 := by omega
      obtain ⟨S1, M1, fr1, t1, gc, gm, h1, hf1, xo1, fx1, sm1, p1, p2⟩ := j_gw (E := E) (N := N) hE hbq hb (by omega) h (by omega)
      have x01 := xo1.ext x hq
      have n4 := c_need1 (E := E) (N := N) (b := b) (A := A) (S := S) (q := q) (Int32.ofNat 4)
      obtain ⟨M2, hM2⟩ : ∃ M2, M2 = mR M1 8 (upd (M1.2.2.1 8) (4 * cnt) (Int32.ofNat (i + 1))) := ⟨_, rfl⟩
      have sm01 : mSm bkk M0 M1 := sm.tr (sm1.su (by decide))
      have sm2 : mSm bkk M0 M2 := by rw [hM2]; exact sm01.mR _ (by decide)
      have h2 : Rd b A S1 M2 q 16 (bEx a l) n lim fr1 t1 := by rw [hM2]; exact h1.r8 _
      have hw2 : M2.2.2.1 8 (4 * cnt) = Int32.ofNat (i + 1) := by rw [hM2, mA_e, upd_s]
      have e8 : ∀ j, j < 4 * cnt → M2.2.2.1 8 j = M.2.2.1 8 j := fun j hj => by rw [hM2, mA_e, upd_o _ _ (by omega), (sm1.2 8 (by decide)).2]
      have e47 : M2.1 47 = M.1 47 := by rw [hM2, mA_i]; exact (sm1.2 47 (by decide)).1
      have v6 : M2.2.2.1 6 0 = Int32.ofNat (nL (M0.2.2.1 6)) := by rw [(sm2.2 6 (by decide)).2]; exact hI.c0
      have sn2 : mSn rdk M M2 := ((sm.vs sm2).su (by decide)).sn
      have c139 : fX23_act E N (put b A S) q = bX23_act_139 E N q (put b A S1) (bI (decide (i = 0))) (bI (decide (i = 1))) (bI (decide (i = 2))) (bI (decide (i = 4))) (bI (decide (i = 5))) := by
        rw [c92]
        have z : ¬ 40 ≤ cnt := by omega
        simp only [bX23_act_100, bX23_act_110, bX23_act_114, pq_lit]
        simp (disch := omega) only [z, b_need h, ↓gbx_h n4, b_go h, ↓gbd_h (gc), gc, ↓gbd_s, gbd_s, ↓gbx_s, gbx_s, ↓gnn_s, ↓grf_s, eq_self, ↓reduceIte, Nat.reduceEqDiff, Nat.reduceLeDiff, Nat.reduceLT, Nat.reduceMul, Nat.reduceAdd, not_true_eq_false, not_false_eq_true, Bool.false_eq_true, pq_lit, pq_add, pq_le, pq_lt, pq_eq, pq_en, pq_ne, pq_nle, pq_nlt, pq_len, pq_ltn, pB_z, pB_o, mzt_0, mzt_1, mzt_B]
      have m5 : fX5_bookLine N M = (if Int32.ofNat (i + 1) = Int32.ofNat 6 then mbd (fX5_takes N M2 (Int32.ofNat 1) (Int32.ofNat 60)) (fun r_16 S_17 => bX5_bookLine_229 N S_17 (Int32.ofNat (4 * cnt)) (Int32.ofNat (i + 1)) r_16) else if Int32.ofNat (i + 1) = Int32.ofNat 3 then bX5_bookLine_208 N M2 (Int32.ofNat (4 * cnt)) (Int32.ofNat (i + 1)) else if Int32.ofNat (i + 1) = Int32.ofNat 4 then bX5_bookLine_208 N M2 (Int32.ofNat (4 * cnt)) (Int32.ofNat (i + 1)) else mbd (fX5_takesName N M2 (Int32.ofNat 0) (Int32.ofNat (nL (M0.2.2.1 6)))) (fun r_13 S_14 => bX5_bookLine_229 N S_14 (Int32.ofNat (4 * cnt)) (Int32.ofNat (i + 1)) r_13)) := by
        rw [m115]
        unfold bX5_bookLine_115
        rw [h47, if_neg (by show ¬ Int32.ofNat cnt = Int32.ofNat 40; rw [pq_eq (by omega) (by omega)]; exact e40), mbd_h gm, mwr_n (by omega) (by omega), ma_s, ← hM2, if_neg (by show ¬ Int32.ofNat (i + 1) = Int32.ofNat 0; rw [pq_eq (by omega) (by omega)]; omega)]
        show (if Int32.ofNat (i + 1) = Int32.ofNat 6 then _ else if Int32.ofNat (i + 1) = Int32.ofNat 3 then _ else if Int32.ofNat (i + 1) = Int32.ofNat 4 then _ else mrd (M2.2.2.1 6) 319 (Int32.ofNat 0) (fun v_11 => _)) = _
        rw [mrd_n (by omega) (by omega), v6]
        rfl
      have h6 : i = 0 ∨ i = 1 ∨ i = 2 ∨ i = 3 ∨ i = 4 ∨ i = 5 := by omega
      by_cases c1 : i = 0 ∨ i = 1
      · have m6 : fX5_bookLine N M = mbd (fX5_takesName N M2 (Int32.ofNat 0) (Int32.ofNat (nL (M0.2.2.1 6)))) (fun r_13 S_14 => bX5_bookLine_229 N S_14 (Int32.ofNat (4 * cnt)) (Int32.ofNat (i + 1)) r_13) := by
          rw [m5, if_neg (by rw [pq_eq (by omega) (by omega)]; omega), if_neg (by rw [pq_eq (by omega) (by omega)]; omega), if_neg (by rw [pq_eq (by omega) (by omega)]; omega)]
        have c6 : fX23_act E N (put b A S) q = gbx (fX23_treaty E N (put b A S1) q (bI (decide (i + 1 = 1)))) (fun r_1 S_2 => bX23_act_182 E N q S_2 r_1) := by
          rw [c139, ← b_treaty h2]
          rcases c1 with rfl | rfl <;> rfl
        rcases b_tre (E := E) cx' x01 sm2 h2 hcnt (w := i + 1) (by omega) hw2 with bs | jf
        · exact Or.inl ⟨27, 303, 3, by omega, by omega, hcnt, bs.tr xo1 e8 e47 (fun v S' e => by rw [c6, gbx_h e]; rfl) (fun M' e => by rw [m6, e]) (by omega) (by omega) (by omega)⟩
        · exact Or.inr (jf.mo sn2 (fun fa S' e => by rw [c6, gbx_x e]) (fun M' e => by rw [m6, e]) (by omega) (by omega))
      · by_cases c2 : i = 2 ∨ i = 3
        · have m6 : fX5_bookLine N M = bX5_bookLine_208 N M2 (Int32.ofNat (4 * cnt)) (Int32.ofNat (i + 1)) := by
            rw [m5]
            rcases c2 with rfl | rfl <;> rfl
          have c6 : fX23_act E N (put b A S) q = bX23_act_139 E N q (put b A S1) (Int32.ofNat 0) (Int32.ofNat 0) (bI (decide (i + 1 = 3))) (Int32.ofNat 0) (Int32.ofNat 0) := by
            rw [c139]
            rcases c2 with rfl | rfl <;> rfl
          rcases b_clo (E := E) cx' x01 sm2 h2 hcnt (w := i + 1) (by omega) hw2 with bs | jf
          · exact Or.inl ⟨9, 85, 2, by omega, by omega, hcnt, bs.tr xo1 e8 e47 (fun v S' e => by rw [c6, e]) (fun M' e => by rw [m6, e]) (by omega) (by omega) (by omega)⟩
          · exact Or.inr (jf.mo sn2 (fun fa S' e => by rw [c6, e]) (fun M' e => by rw [m6, e]) (by omega) (by omega))
        · by_cases c3 : i = 4
          · subst c3
            have m6 : fX5_bookLine N M = mbd (fX5_takesName N M2 (Int32.ofNat 0) (Int32.ofNat (nL (M0.2.2.1 6)))) (fun r_13 S_14 => bX5_bookLine_229 N S_14 (Int32.ofNat (4 * cnt)) (Int32.ofNat 5) r_13) := by
              rw [m5]; rfl
            have c6 : fX23_act E N (put b A S) q = gbx (fX23_lends E N (put b A S1) q) (fun r_7 S_8 => bX23_act_168 E N q S_8 r_7) := by
              rw [c139, ← b_lends h2]; rfl
            rcases b_len (E := E) cx' x01 sm2 h2 hcnt hw2 with bs | jf
            · exact Or.inl ⟨31, 343, 4, by omega, by omega, hcnt, bs.tr xo1 e8 e47 (fun v S' e => by rw [c6, gbx_h e]; rfl) (fun M' e => by rw [m6, e]) (by omega) (by omega) (by omega)⟩
            · exact Or.inr (jf.mo sn2 (fun fa S' e => by rw [c6, gbx_x e]) (fun M' e => by rw [m6, e]) (by omega) (by omega))
          · have c4 : i = 5 := by omega
            subst c4
            have m6 : fX5_bookLine N M = mbd (fX5_takes N M2 (Int32.ofNat 1) (Int32.ofNat 60)) (fun r_16 S_17 => bX5_bookLine_229 N S_17 (Int32.ofNat (4 * cnt)) (Int32.ofNat 6) r_16) := by
              rw [m5]; rfl
            have c6 : fX23_act E N (put b A S) q = bX23_act_139 E N q (put b A S1) (Int32.ofNat 0) (Int32.ofNat 0) (Int32.ofNat 0) (Int32.ofNat 0) (Int32.ofNat 1) := by
              rw [c139]; rfl
            rcases b_day (E := E) cx' x01 sm2 h2 hcnt hw2 with bs | jf
            · exact Or.inl ⟨9, 85, 2, by omega, by omega, hcnt, bs.tr xo1 e8 e47 (fun v S' e => by rw [c6, e]) (fun M' e => by rw [m6, e]) (by omega) (by omega) (by omega)⟩
            · exact Or.inr (jf.mo sn2 (fun fa S' e => by rw [c6, e]) (fun M' e => by rw [m6, e]) (by omega) (by omega))
  · -- a person
    have ei : i = 6 := by omega
    subst ei
    rw [if_pos rfl] at ma
    have r27 := fun {β : Type} (K : Option Nat → Option β) => r1_27 (ha.ext x) A K
    have hr' : ResR M := fun k w hk => by rw [sm.1]; exact hr k w hk
    have hpS : NmL b S M lp (nP (M0.2.2.1 6)) 7 fp := hp.ext x (fun k _ => by rw [sm.1])
    have v62 : M.2.2.1 6 2 = Int32.ofNat (nP (M0.2.2.1 6)) := by rw [(sm.2 6 (by decide)).2]; exact hI.c2
    have m93 : fX5_bookLine N M = mbd (fX5_looksAt N M (Int32.ofNat 7) (Int32.ofNat (nP (M0.2.2.1 6)))) (fun r_4 S_5 => if r_4 = Int32.ofNat 0 then mzt (Int32.ofNat 0) (some (Int32.ofNat 0, S_5)) else bX5_bookLine_115 N S_5 (Int32.ofNat (4 * cnt)) (Int32.ofNat 0)) := by
      rw [ma]
      simp only [bX5_bookLine_93, pq_lit]
      simp (disch := omega) only [↓mrd_n, mrd_n, v62, eq_self, ↓reduceIte, Nat.reduceEqDiff, Nat.reduceLeDiff, Nat.reduceLT, Nat.reduceMul, Nat.reduceAdd, not_true_eq_false, not_false_eq_true, Bool.false_eq_true]
    have c73 : fX23_act E N (put b A S) q = gbx (fX6_hold E N (put b A S) q (some lp)) (fun r_6 S_7 => bX23_act_92 E N q S_7 (Int32.ofNat 0) (Int32.ofNat 0) (Int32.ofNat 0) (Int32.ofNat 0) (Int32.ofNat 0) (Int32.ofNat 0)) := by
      rw [ca]
      unfold bX23_act_73
      rw [if_pos (show bI (decide (6 < 6)) = (0 : Int32) from rfl), r94, r27, b_hold h]
      rfl
    rcases j_hold (N := N) (S0 := S0) (kok.ext x) x hr' h hpS (by omega) with ⟨S1, p, hpc, ht, hC, hM, x1, k1, k2⟩ | jf
    · have h1 := h.ext x1
      obtain ⟨M1, hM1⟩ : ∃ M1, M1 = mF M 18 (Int32.ofNat p) := ⟨_, rfl⟩
      have h1' : Rd b A S1 M1 q 16 (bEx a l) n lim fr t := by rw [hM1]; exact h1.mm (fun k hk => mF_ne _ _ (by rintro rfl; revert hk; decide)) rfl rfl
      have x01 := x.tr x1
      have hb1 : b + 111 ≤ S1.2.1 := Nat.le_trans hb0 x01.1
      have sz := l_size (E := E) (N := N) (A := A) (hls.ext x1)
      have q95 := fun {β : Type} (K : Option Nat → Option β) => br_95 h1 K
      have e47' : M1.1 47 = Int32.ofNat cnt := by rw [hM1, mF_ne _ _ (by omega)]; exact h47
      have sm1 : mSm bkk M0 M1 := by rw [hM1]; exact sm.mF _ (by decide)
      have sn1 : mSn rdk M M1 := ((sm.vs sm1).su (by decide)).sn
      have c100 : fX23_act E N (put b A S) q = bX23_act_100 E N q (put b A S1) (Int32.ofNat 0) (Int32.ofNat 0) (Int32.ofNat 0) (Int32.ofNat 0) (Int32.ofNat 0) (Int32.ofNat 0) (some q) (Int32.ofNat cnt) := by
        rw [c73, gbx_h hC]
        unfold bX23_act_92
        rw [q95, gbd_h sz]
      have m115 : fX5_bookLine N M = bX5_bookLine_115 N M1 (Int32.ofNat (4 * cnt)) (Int32.ofNat 0) := by
        rw [m93, mbd_h hM, if_neg (by decide), ← hM1]
      by_cases e40 : cnt = 40
      · right
        obtain ⟨S2, b1, b2, x2, fl, y1, y2⟩ := j_bad (E := E) (N := N) hE hb1 h1' (k := 4) (Or.inr (by omega))
        refine JF.bad (M1 := M1) x01 x2 fl sn1 ?_ ?_ (by omega) (by omega)
        · rw [c100]
          have z : 40 ≤ cnt := by omega
          simp only [bX23_act_100, bX23_act_110, pq_lit]
          simp (disch := omega) only [z, b_need h1, ↓gbx_x b1, ↓gbd_s, gbd_s, ↓gbx_s, gbx_s, ↓gnn_s, ↓grf_s, eq_self, ↓reduceIte, Nat.reduceEqDiff, Nat.reduceLeDiff, Nat.reduceLT, Nat.reduceMul, Nat.reduceAdd, not_true_eq_false, not_false_eq_true, Bool.false_eq_true, pq_lit, pq_add, pq_le, pq_lt, pq_eq, pq_en, pq_ne, pq_nle, pq_nlt, pq_len, pq_ltn, pB_z, pB_o, mzt_0, mzt_1, mzt_B]
        · rw [m115]
          simp only [bX5_bookLine_115, pq_lit]
          simp (disch := omega) only [e47', e40, ↓mbd_h (b2), b2, ↓mbd_s, mbd_s, eq_self, ↓reduceIte, Nat.reduceEqDiff, Nat.reduceLeDiff, Nat.reduceLT, Nat.reduceMul, Nat.reduceAdd, not_true_eq_false, not_false_eq_true, Bool.false_eq_true, pq_lit, pq_add, pq_le, pq_lt, pq_eq, pq_en, pq_ne, pq_nle, pq_nlt, pq_len, pq_ltn, pB_z, pB_o, mzt_0, mzt_1, mzt_B]
      · have hcnt : cnt < 40 := by omega
        have hp1 : NmL b S1 M lp (nP (M0.2.2.1 6)) 7 fp := hpS.ext x1 (fun _ _ => rfl)
        rcases j_hold (N := N) (S0 := S0) (kok.ext x01) x01 hr' h1 hp1 (by omega) with ⟨S2, p', hpc', ht', hC', hM', x2, k3, k4⟩ | jf
        · have epp : Int32.ofNat p' = Int32.ofNat p := by
            have e := hM'.symm.trans hM
            injection e with e
            injection e with e1 e2
            have := congrArg (fun X : MS => X.1 18) e2
            simp only [mF_e] at this
            exact this
          rw [epp] at hC'
          have h2 := h1'.ext x2
          have x02 := x01.tr x2
          obtain ⟨S3, M3, fr3, t3, gc, gm, h3, hf3, xo3, fx3, sm3, p1, p2⟩ := j_gw (E := E) (N := N) hE hbq (Nat.le_trans hb0 x02.1) (by omega) h2 (by omega)
          have x03 := xo3.ext x02 hq
          have n4 := c_need1 (E := E) (N := N) (b := b) (A := A) (S := S1) (q := q) (Int32.ofNat 4)
          obtain ⟨hk, fs, cq⟩ := h1.cl
          have cq2 := cq.ext x2
          have on1 : fX6_one E N (put b A S1) q (some lp) = some (Sum.inl (Int32.ofNat p), put b A S3) := by
            simp only [fX6_one, bX6_one_0, bX6_one_5, bX6_one_10, pq_lit]
            simp (disch := omega) only [rv_hold hk cq, ↓gbx_h hC', rv_go hk cq2, ↓gbd_h (gc), gc, ↓gbd_s, gbd_s, ↓gbx_s, gbx_s, ↓gnn_s, ↓grf_s, eq_self, ↓reduceIte, Nat.reduceEqDiff, Nat.reduceLeDiff, Nat.reduceLT, Nat.reduceMul, Nat.reduceAdd, not_true_eq_false, not_false_eq_true, Bool.false_eq_true, pq_lit, pq_add, pq_le, pq_lt, pq_eq, pq_en, pq_ne, pq_nle, pq_nlt, pq_len, pq_ltn, pB_z, pB_o, mzt_0, mzt_1, mzt_B]
          obtain ⟨M4, hM4⟩ : ∃ M4, M4 = mR M3 8 (upd (M3.2.2.1 8) (4 * cnt) (Int32.ofNat 0)) := ⟨_, rfl⟩
          have sm03 : mSm bkk M0 M3 := sm1.tr (sm3.su (by decide))
          have sm4 : mSm bkk M0 M4 := by rw [hM4]; exact sm03.mR _ (by decide)
          have h4 : Rd b A S3 M4 q 16 (bEx a l) n lim fr3 t3 := by rw [hM4]; exact h3.r8 _
          have hw4 : M4.2.2.1 8 (4 * cnt) = Int32.ofNat 0 := by rw [hM4, mA_e, upd_s]
          have e8 : ∀ j, j < 4 * cnt → M4.2.2.1 8 j = M.2.2.1 8 j := fun j hj => by rw [hM4, mA_e, upd_o _ _ (by omega), (sm3.2 8 (by decide)).2, hM1]; rfl
          have e47 : M4.1 47 = M.1 47 := by rw [hM4, mA_i, (sm3.2 47 (by decide)).1, hM1]; rfl
          have q94 := fun {β : Type} (K : Option Nat → Option β) => br_94 h1 K
          have q27 := fun {β : Type} (K : Option Nat → Option β) => r1_27 (ha.ext x01) A K
          have c6 : fX23_act E N (put b A S) q = gbx (fX23_crosses E N (put b A S3) q (Int32.ofNat p)) (fun r_1 S_2 => bX23_act_134 E N q S_2 r_1) := by
            rw [c100, ← b_crosses h4]
            have z : ¬ 40 ≤ cnt := by omega
            simp only [bX23_act_100, bX23_act_110, bX23_act_114, bX23_act_131, pq_lit]
            simp (disch := omega) only [z, b_need h1, ↓gbx_h n4, ↓q94, ↓q27, b_one h1, ↓gbx_h on1, ↓gbd_s, gbd_s, ↓gbx_s, gbx_s, ↓gnn_s, ↓grf_s, eq_self, ↓reduceIte, Nat.reduceEqDiff, Nat.reduceLeDiff, Nat.reduceLT, Nat.reduceMul, Nat.reduceAdd, not_true_eq_false, not_false_eq_true, Bool.false_eq_true, pq_lit, pq_add, pq_le, pq_lt, pq_eq, pq_en, pq_ne, pq_nle, pq_nlt, pq_len, pq_ltn, pB_z, pB_o, mzt_0, mzt_1, mzt_B]
          have e18 : M1.1 18 = Int32.ofNat p := by rw [hM1]; exact mF_e _ _ _
          have m6 : fX5_bookLine N M = (mbd (fX5_isWord N M4 (27991845698233715 : Int64)) (fun r_19 S_20 => if r_19 = Int32.ofNat 0 then mbd (fX5_bad N S_20 (Int32.ofNat 1)) (fun r_28 S_29 => mzt r_28 (some (r_28, S_29))) else mbd (fX5_next N S_20) (fun _ S_24 => mwr S_24 8 160 (Int32.ofNat (4 * cnt) + Int32.ofNat 1) (Int32.ofNat p) (fun S_26 => bX5_bookLine_250 N S_26 (Int32.ofNat (4 * cnt)) (Int32.ofNat 0))))) := by
            rw [m115]
            unfold bX5_bookLine_115
            rw [e47', if_neg (by show ¬ Int32.ofNat cnt = Int32.ofNat 40; rw [pq_eq (by omega) (by omega)]; exact e40), mbd_h gm, mwr_n (by omega) (by omega), ma_s, ← hM4, if_pos (show Int32.ofNat 0 = (0 : Int32) from rfl), e18]
            rfl
          rcases b_cro (E := E) cx' x03 sm4 h4 hcnt hpc hw4 with bs | jf
          · refine Or.inl ⟨34, 392, 3, by omega, by omega, hcnt, bs.tr ((x1.xo.tr x2.xo).tr xo3) e8 e47 (fun v S' e => by rw [c6, gbx_h e]; rfl) (fun M' e => by rw [m6, e]) (by omega) (by omega) (by omega)⟩
          · exact Or.inr (jf.mo (((sm.vs sm4).su (by decide)).sn) (fun fa S' e => by rw [c6, gbx_x e]) (fun M' e => by rw [m6, e]) (by omega) (by omega))
        · exfalso
          obtain ⟨fa, kd, pl, S', M', e1, e2, _⟩ := jf
          have e := e2.symm.trans hM
          injection e with e
          injection e with e1 e2
          exact absurd e1 (by decide)
    · right
      refine jf.mo mSn.rf (fun fa S' e => by rw [c73, gbx_x e]) (fun M' e => ?_) (by omega) (by omega)
      rw [m93, mbd_h e, if_pos rfl]
      exact mzt_0 _
end BC
