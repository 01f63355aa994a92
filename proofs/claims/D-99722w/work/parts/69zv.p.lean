/-! maps: the operation -/
section ML
variable {E : gE} {N b : Nat} {A : FA} {S : GS} {M : MS}
theorem o_map (h : Rel E b A S M) (hN : 3000 ≤ N) : OpX E b S 8500 103000 (fX1_map E N (put b A S) b) (fX5_map N M) := by
  have hh := h
  obtain ⟨r1, ⟨t1, ⟨tp, htp, t2, t2'⟩, t3⟩, ⟨a0, d0, u0, h3, h0, hs, hW, hU⟩, r4⟩ := h
  have hE := r1.1
  have hb := r1.2.1
  obtain ⟨z, ez, fz, cz⟩ := r1.2.2.2.1
  have hzl := cz.2.2
  obtain ⟨A1, hA1⟩ : ∃ A1, A1 = sI (sI A 1 (Int32.ofNat 0)) 2 (Int32.ofNat 0) := ⟨_, rfl⟩
  have a10 : aV A1 0 = aV A 0 := by rw [hA1]; rfl
  obtain ⟨q, hq⟩ : ∃ q, q = S.2.1 := ⟨_, rfl⟩
  have hgq : E.1 ≤ q := by omega
  -- the cells made
  obtain ⟨S1, hS1⟩ : ∃ S1, S1 = gpush S (.inr (4, gdf 4)) (gdf 4).length := ⟨_, rfl⟩
  have x1 : Ext S S1 := by rw [hS1]; exact Ext.push _ _ _
  have z1 : S1.2 = (S.2.1 + 1, S.2.2.1 + 1, S.2.2.2 + 10) := by rw [hS1]; rfl
  have c1 : Cel b S1 q (.inr (4, [.null, .int (Int32.ofNat 0), .int (Int32.ofNat 0), .int (Int32.ofNat 0), .int (Int32.ofNat 0), .int (Int32.ofNat 0), .int (Int32.ofNat 0), .int (Int32.ofNat 0), .null, .null])) := by rw [hS1, hq]; exact Cel.push hb _ _
  obtain ⟨S2, hS2⟩ : ∃ S2, S2 = gup S1 q (.inr (4, rdV b tp 900 (Int32.ofNat 0) (Int32.ofNat 0) (Int32.ofNat 0) (Int32.ofNat 0) (Int32.ofNat 0) (E.2.1 23) [.null])) := ⟨_, rfl⟩
  have c2 : Cel b S2 q (.inr (4, rdV b tp 900 (Int32.ofNat 0) (Int32.ofNat 0) (Int32.ofNat 0) (Int32.ofNat 0) (Int32.ofNat 0) (E.2.1 23) [.null])) := by rw [hS2]; exact c1.up _
  have x2 : Ext S S2 := by rw [hS2]; exact x1.gup (by omega)
  have z2 : S2.2 = (S.2.1 + 1, S.2.2.1 + 1, S.2.2.2 + 10) := by rw [hS2]; exact z1
  have z21 : S2.2.1 = q + 1 := by rw [z2, hq]
  have hb2 : b + 111 ≤ S2.2.1 := by omega
  obtain ⟨S3, hS3⟩ : ∃ S3, S3 = gpush S2 (.inr (1, gdf 1)) (gdf 1).length := ⟨_, rfl⟩
  have x3 : Ext S2 S3 := by rw [hS3]; exact Ext.push _ _ _
  have a3 : Cel b S3 (q + 1) (.inr (1, [.int (Int32.ofNat 0), .null, .null, .null])) := by
    have := Cel.push hb2 (.inr (1, gdf 1)) (gdf 1).length
    rw [← hS3, z21] at this; exact this
  have z3 : S3.2 = (S.2.1 + 2, S.2.2.1 + 2, S.2.2.2 + 14) := by rw [hS3]; show (S2.2.1 + 1, S2.2.2.1 + 1, S2.2.2.2 + 4) = _; rw [z2]
  have z31 : S3.2.1 = q + 2 := by rw [z3, hq]
  obtain ⟨Sp4, S4, g4, j4, x4, z4, l4⟩ := n_list (N := N) (A := A1) (S := S3) (by omega) hE ez
  rw [z31] at g4 j4 l4
  have hga : E.1 ≤ q + 1 := by omega
  have a4 := a3.ext x4
  obtain ⟨S5, hS5⟩ : ∃ S5, S5 = gup S4 (q + 1) (.inr (1, [.int (Int32.ofNat 0), .ref (q + 2), .null, .null])) := ⟨_, rfl⟩
  have a5 : Cel b S5 (q + 1) (.inr (1, [.int (Int32.ofNat 0), .ref (q + 2), .null, .null])) := by rw [hS5]; exact a4.up _
  have l5 : Cel b S5 (q + 2) (.inr (24, [.int (Int32.ofNat 0), .ref z, .int (Int32.ofNat 0)])) := by rw [hS5]; exact l4.uo (by omega) _
  have z5 : S5.2 = (S.2.1 + 3, S.2.2.1 + 3, S.2.2.2 + 17) := by rw [hS5]; show S4.2 = _; rw [z4, z3]
  have z51 : S5.2.1 = q + 3 := by rw [z5, hq]
  have x45 : Ext S S5 := by rw [hS5]; exact ((x2.tr x3).tr x4).gup (by omega)
  obtain ⟨Sp6, S6, g6, j6, x6, z6, l6⟩ := n_list (N := N) (A := A1) (S := S5) (by omega) hE ez
  rw [z51] at g6 j6 l6
  have a6 := a5.ext x6
  obtain ⟨S7, hS7⟩ : ∃ S7, S7 = gup S6 (q + 1) (.inr (1, [.int (Int32.ofNat 0), .ref (q + 2), .ref (q + 3), .null])) := ⟨_, rfl⟩
  have a7 : Cel b S7 (q + 1) (.inr (1, [.int (Int32.ofNat 0), .ref (q + 2), .ref (q + 3), .null])) := by rw [hS7]; exact a6.up _
  have l7 : Cel b S7 (q + 2) (.inr (24, [.int (Int32.ofNat 0), .ref z, .int (Int32.ofNat 0)])) := by rw [hS7]; exact (l5.ext x6).uo (by omega) _
  have m7 : Cel b S7 (q + 3) (.inr (24, [.int (Int32.ofNat 0), .ref z, .int (Int32.ofNat 0)])) := by rw [hS7]; exact l6.uo (by omega) _
  have z7 : S7.2 = (S.2.1 + 4, S.2.2.1 + 4, S.2.2.2 + 20) := by rw [hS7]; show S6.2 = _; rw [z6, z5]
  have z71 : S7.2.1 = q + 4 := by rw [z7, hq]
  have x57 : Ext S S7 := by rw [hS7]; exact (x45.tr x6).gup (by omega)
  obtain ⟨Sp8, S8, g8, j8, x8, z8, l8⟩ := n_list (N := N) (A := A1) (S := S7) (by omega) hE ez
  rw [z71] at g8 j8 l8
  have a8 := a7.ext x8
  obtain ⟨S9, hS9⟩ : ∃ S9, S9 = gup S8 (q + 1) (.inr (1, [.int (Int32.ofNat 0), .ref (q + 2), .ref (q + 3), .ref (q + 4)])) := ⟨_, rfl⟩
  have a9 : Cel b S9 (q + 1) (.inr (1, [.int (Int32.ofNat 0), .ref (q + 2), .ref (q + 3), .ref (q + 4)])) := by rw [hS9]; exact a8.up _
  have z9 : S9.2 = (S.2.1 + 5, S.2.2.1 + 5, S.2.2.2 + 23) := by rw [hS9]; show S8.2 = _; rw [z8, z7]
  have x79 : Ext S S9 := by rw [hS9]; exact (x57.tr x8).gup (by omega)
  have cq9 : Cel b S9 q (.inr (4, rdV b tp 900 (Int32.ofNat 0) (Int32.ofNat 0) (Int32.ofNat 0) (Int32.ofNat 0) (Int32.ofNat 0) (E.2.1 23) [.null])) := by
    have y4 := (c2.ext x3).ext x4
    have y5 := y4.uo (show q ≠ q + 1 by omega) (.inr (1, [.int (Int32.ofNat 0), .ref (q + 2), .null, .null]))
    rw [← hS5] at y5
    have y6 := y5.ext x6
    have y7 := y6.uo (show q ≠ q + 1 by omega) (.inr (1, [.int (Int32.ofNat 0), .ref (q + 2), .ref (q + 3), .null]))
    rw [← hS7] at y7
    have y8 := y7.ext x8
    rw [hS9]; exact y8.uo (by omega) _
  obtain ⟨T, hT⟩ : ∃ T, T = gup S9 q (.inr (4, rdV b tp 900 (Int32.ofNat 0) (Int32.ofNat 0) (Int32.ofNat 0) (Int32.ofNat 0) (Int32.ofNat 0) (E.2.1 23) (mEx (q + 1)))) := ⟨_, rfl⟩
  have cT : Cel b T q (.inr (4, rdV b tp 900 (Int32.ofNat 0) (Int32.ofNat 0) (Int32.ofNat 0) (Int32.ofNat 0) (Int32.ofNat 0) (E.2.1 23) (mEx (q + 1)))) := by rw [hT]; exact cq9.up _
  have aT' : Cel b T (q + 1) (.inr (1, [.int (Int32.ofNat 0), .ref (q + 2), .ref (q + 3), .ref (q + 4)])) := by rw [hT]; exact a9.uo (by omega) _
  have lT : Cel b T (q + 2) (.inr (24, [.int (Int32.ofNat 0), .ref z, .int (Int32.ofNat 0)])) := by
    rw [hT, hS9]; exact ((l7.ext x8).uo (by omega) _).uo (by omega) _
  have mT : Cel b T (q + 3) (.inr (24, [.int (Int32.ofNat 0), .ref z, .int (Int32.ofNat 0)])) := by
    rw [hT, hS9]; exact ((m7.ext x8).uo (by omega) _).uo (by omega) _
  have nT : Cel b T (q + 4) (.inr (24, [.int (Int32.ofNat 0), .ref z, .int (Int32.ofNat 0)])) := by
    rw [hT, hS9]; exact (l8.uo (by omega) _).uo (by omega) _
  have xT : Ext S T := by rw [hT]; exact x79.gup (by omega)
  have zT : T.2 = (S.2.1 + 5, S.2.2.1 + 5, S.2.2.2 + 23) := by rw [hT]; exact z9
  have zT1 : T.2.1 = S.2.1 + 5 := by rw [zT]
  have zT2 : T.2.2.1 = S.2.2.1 + 5 := by rw [zT]
  have zT3 : T.2.2.2 = S.2.2.2 + 23 := by rw [zT]
  have preC : fX1_map E N (put b A S) b = bX1_map_23 E N b (put b A1 T) (some b) (some q) := by
    have b0 : ∀ {β : Type} (K : Option Nat → Option β), ggr (put b A1 S1) (some b) 0 K = K (some (b + 1)) := fun K => f_0 K
    have tk := c_tak (E := E) (N := N) (A := A) (S := S) hE
    rw [t2] at tk
    have i6 : fX6_init E N (put b A1 S1) q (some (b + 1)) (Int32.ofNat tp) (Int32.ofNat 900) = some (Int32.ofNat 0, put b A1 S2) := by
      simp only [bX6_init_0, fX6_init, pq_lit]
      simp (disch := omega) only [g_rfs, ↓w4_51 c1 hgq, ↓w4_43 (c1.up _) hgq, ↓w4_44 (c1.up _) hgq, ↓w4_45 (c1.up _) hgq, gup_gup, ↓gbd_s, gbd_s, ↓gbx_s, gbx_s, ↓gnn_s, ↓grf_s, eq_self, ↓reduceIte, Nat.reduceEqDiff, Nat.reduceLeDiff, Nat.reduceLT, Nat.reduceMul, Nat.reduceAdd, not_true_eq_false, not_false_eq_true, Bool.false_eq_true, pq_lit, pq_add, pq_le, pq_lt, pq_eq, pq_en, pq_ne, pq_nle, pq_nlt, pq_len, pq_ltn, pB_z, pB_o, mzt_0, mzt_1, mzt_B]
      rw [hS2]
    have gn1 : ∀ {β : Type} (K : Nat → GS → Option β), gnw (put b A1 S) 4 K = K q (put b A1 S1) := fun K => by rw [gnw_n hb, ← hS1, hq]
    have gn3 : ∀ {β : Type} (K : Nat → GS → Option β), gnw (put b A1 S2) 1 K = K (q + 1) (put b A1 S3) := fun K => by rw [gnw_n hb2, ← hS3, z21]
    have w25 : ∀ {β : Type} (K : GS → Option β), gpv E (put b A1 S4) (some (q + 1)) 25 (.ref (q + 2)) K = K (put b A1 S5) := fun K => by rw [w1_25 a4 hga, hS5]
    have w26 : ∀ {β : Type} (K : GS → Option β), gpv E (put b A1 S6) (some (q + 1)) 26 (.ref (q + 3)) K = K (put b A1 S7) := fun K => by rw [w1_26 a6 hga, hS7]
    have w27 : ∀ {β : Type} (K : GS → Option β), gpv E (put b A1 S8) (some (q + 1)) 27 (.ref (q + 4)) K = K (put b A1 S9) := fun K => by rw [w1_27 a8 hga, hS9]
    have w52 : ∀ {β : Type} (K : GS → Option β), gpv E (put b A1 S9) (some q) 52 (.ref (q + 1)) K = K (put b A1 T) := fun K => by rw [w4_52 cq9 hgq, hT]
    simp only [fX1_map, bX1_map_0, bX1_map_4, bX1_map_14, bX7_init_17, bX7_init_13, bX7_init_9, bX7_init_0, fX7_init, bX2_init_34, bX2_init_30, bX2_init_23, bX2_init_19, bX2_init_12, bX2_init_8, bX2_init_4, bX2_init_0, fX2_init, pq_lit]
    simp (disch := omega) only [↓gbd_h (tk), tk, ↓f_p2, ← hA1, ↓gn1, ↓b0, ↓gbd_h (i6), i6, ↓gn3, ↓g4, ↓gbd_h (j4), j4, g_rfs, ↓w25, ↓g6, ↓gbd_h (j6), j6, ↓w26, ↓g8, ↓gbd_h (j8), j8, ↓w27, ↓w52, ↓gbd_s, gbd_s, ↓gbx_s, gbx_s, ↓gnn_s, ↓grf_s, eq_self, ↓reduceIte, Nat.reduceEqDiff, Nat.reduceLeDiff, Nat.reduceLT, Nat.reduceMul, Nat.reduceAdd, not_true_eq_false, not_false_eq_true, Bool.false_eq_true, pq_lit, pq_add, pq_le, pq_lt, pq_eq, pq_en, pq_ne, pq_nle, pq_nlt, pq_len, pq_ltn, pB_z, pB_o, mzt_0, mzt_1, mzt_B]
  -- the model's
  obtain ⟨Mj, hMj⟩ : ∃ Mj, Mj = mF (mF (mF (mF (mF (mF (mF (mF M 0 (Int32.ofNat 0)) 3 (Int32.ofNat tp)) 2 (Int32.ofNat 0)) 4 (Int32.ofNat 0)) 5 (Int32.ofNat 900)) 15 (Int32.ofNat 0)) 19 (Int32.ofNat 0)) 20 (Int32.ofNat 0) := ⟨_, rfl⟩
  have smj : mSm [0, 2, 3, 4, 5, 15, 19, 20] M Mj := by
    rw [hMj]
    exact (((((((mSm.rf.mF _ (by decide)).mF _ (by decide)).mF _ (by decide)).mF _ (by decide)).mF _ (by decide)).mF _ (by decide)).mF _ (by decide)).mF _ (by decide)
  obtain ⟨Mi, hMi⟩ : ∃ Mi, Mi = mR Mj 7 (fun j => if 0 ≤ j ∧ j < 91 then Int32.ofNat 0 else Mj.2.2.1 7 j) := ⟨_, rfl⟩
  have smi : mSm [0, 2, 3, 4, 5, 7, 15, 19, 20] M Mi := by rw [hMi]; exact (smj.su (by decide)).mR _ (by decide)
  have cl := m_clr (N := N) (by omega) Mj
  rw [← hMi] at cl
  have mM : fX5_map N M = mbd (fX5_next N Mi) (fun _ S_12 => bX5_map_35L N N S_12) := by
    simp only [fX5_map, bX5_map_0, bX5_taken_0, fX5_taken, pq_lit]
    simp (disch := omega) only [↓mpt, mF_ne, t2', ↓mbd_s, ← hMj, ↓mbd_h (cl), cl, ↓mbd_s, mbd_s, eq_self, ↓reduceIte, Nat.reduceEqDiff, Nat.reduceLeDiff, Nat.reduceLT, Nat.reduceMul, Nat.reduceAdd, not_true_eq_false, not_false_eq_true, Bool.false_eq_true, pq_lit, pq_add, pq_le, pq_lt, pq_eq, pq_en, pq_ne, pq_nle, pq_nlt, pq_len, pq_ltn, pB_z, pB_o, mzt_0, mzt_1, mzt_B]
  have m7z : ∀ j, j < 91 → Mi.2.2.1 7 j = Int32.ofNat 0 := fun j hj => by
    rw [hMi, mA_e]
    exact if_pos ⟨Nat.zero_le _, hj⟩
  have i19 : Mi.1 19 = Int32.ofNat 0 := by rw [hMi, mA_i, hMj]; rfl
  have i20 : Mi.1 20 = Int32.ofNat 0 := by rw [hMi, mA_i, hMj]; rfl
  have n0 : nL (Mi.2.2.1 7) = 0 := by unfold nL; rw [m7z 0 (by omega)]; rfl
  have n1 : nR (Mi.2.2.1 7) = 0 := by unfold nR; rw [m7z 1 (by omega)]; rfl
  have n2 : nP (Mi.2.2.1 7) = 0 := by unfold nP; rw [m7z 2 (by omega)]; rfl
  have mb : MB E b S T Mi (q + 1) ((q + 2, q + 3, q + 4), (fun _ => 0), (fun _ => 0), (fun _ => 0), (fun _ => 0), (fun _ => 0)) (z, z, z) := by
    have ls : ∀ l, S.2.1 ≤ l → Cel b T l (.inr (24, [.int (Int32.ofNat 0), .ref z, .int (Int32.ofNat 0)])) → LsB E b S T l 0 (fun _ => 0) z := fun l hl c => ⟨hl, Int32.ofNat 0, 0, fz, c, cz.ext xT, Nat.le_refl _, by omega, fun i hi => by omega, Or.inl ⟨rfl, ez⟩⟩
    refine ⟨by rw [i19]; exact aT', ⟨by rw [n0]; exact ls _ (by show S.2.1 ≤ q + 2; omega) lT, fun l hl => by rw [n0] at hl; omega, fun i j hi hj => by rw [n0] at hi; omega⟩, ⟨by rw [n1]; exact ls _ (by show S.2.1 ≤ q + 3; omega) mT, fun l hl => by rw [n1] at hl; omega⟩, ⟨by rw [n2]; exact ls _ (by show S.2.1 ≤ q + 4; omega) nT, fun l hl => by rw [n2] at hl; omega⟩, ?_, fun k => ?_, fun k => ?_, fun k => ?_, ?_⟩
    · show q + 2 ≠ q + 3 ∧ q + 2 ≠ q + 4 ∧ q + 3 ≠ q + 4
      omega
    · have : S.2.1 ≤ z := k
      omega
    · have : S.2.1 ≤ z := k
      omega
    · have : S.2.1 ≤ z := k
      omega
    · unfold VB
      rw [n0, n1, n2, i20]
      refine ⟨⟨m7z _ (by omega), by omega, m7z _ (by omega), by omega, m7z _ (by omega), by omega⟩, fun l hl => ⟨⟨0, by omega, m7z _ (by omega)⟩, ⟨0, by omega, m7z _ (by omega)⟩, ⟨0, by omega, m7z _ (by omega)⟩, ⟨0, by omega, m7z _ (by omega)⟩, fun _ => ⟨m7z _ (by omega), m7z _ (by omega)⟩⟩, fun r hr => by omega, fun p hp => ⟨⟨0, by omega, m7z _ (by omega)⟩, fun _ => ⟨m7z _ (by omega), m7z _ (by omega)⟩, fun q' => by omega⟩, 0, by omega, rfl⟩
  have hrs : ResR Mi := fun k w hk => by rw [smi.1]; exact r4.2.2.2.2.2.2.2.2.2 k w hk
  have rp : Rp b A1 T Mi q 4 (mEx (q + 1)) tp 900 0 := by
    refine ⟨_, _, _, _, _, cT, by omega, htp, by omega, ?_, ?_, ?_, ?_, Or.inl rfl⟩
    · rw [hMi, mA_i, hMj]; rfl
    · rw [hMi, mA_i, hMj]; rfl
    · rw [hMi, mA_i, hMj]; rfl
    · rw [a10, (smi.2 1 (by decide)).2]; exact t1
  obtain ⟨S', M', fr, t, gc, gm, hrd, hfr, xo, fx, sm, p1, p2⟩ := j_go (E := E) (N := N) hE (by omega) (by omega) (by omega) rp
  have x' : Ext S S' := xo.ext xT (by omega)
  have mb' : MB E b S S' M' (q + 1) ((q + 2, q + 3, q + 4), (fun _ => 0), (fun _ => 0), (fun _ => 0), (fun _ => 0), (fun _ => 0)) (z, z, z) := mb.sm cT xo fx sm (by decide) (by decide) (by decide)
  have sn' : mSn rdk Mi M' := (sm.su (by decide)).sn
  have vr : vInchBorders_MapReader_read___LInchBorders_Atlas_ E N (put b A1 T) (some q) = bX7_read_4L E N q N (put b A1 S') := by
    have vg : vInchBorders_MapReader_go___V E N (put b A1 T) (some q) = fX6_go E N (put b A1 T) q := by
      simp only [vInchBorders_MapReader_go___V]; rw [kc cT]; rfl
    simp only [vInchBorders_MapReader_read___LInchBorders_Atlas_]
    rw [kc cT]
    show fX7_read E N (put b A1 T) q = _
    unfold fX7_read bX7_read_0
    rw [vg, gbd_h gc]
  rcases m_read (E := E) (N := N) (A := A1) (n := tp) (lim := 900) (S0 := S) (q := q) (a := q + 1) ⟨r1, hN, by omega⟩ (by omega) 901 N N S' M' fr t _ _ (by omega) (by omega) (by omega) x' (sn'.res hrs) hrd mb' with ⟨S2', M2, d2, e2, fr2, rc, rm, x2', sn2, i15, mb2, hf2, k1, k2⟩ | ⟨fa, kd, pl, S2', M2, rc, rm, x2', ⟨y0, y1, y2, y3, y4, y5, e4⟩, e15, e16, sn2, k1, k2⟩
  · have vb := mb2.2.2.2.2.2.2.2.2
    have iv := (vb.iv (M2.2.2.1 6)).2.2.2
    obtain ⟨s, hsd⟩ : ∃ s, s = begF (M2.2.2.1 7) (M2.2.2.1 6) := ⟨_, rfl⟩
    have sw : mSn rdx M M2 := (smi.sn.su (by decide)).tr ((sn'.tr sn2).su (by decide))
    have m2 : M2.1 2 = Int32.ofNat 0 := by rw [((sn'.tr sn2).1 2 (by decide)).1, hMi, mA_i, hMj]; rfl
    have m15 : M2.1 15 = Int32.ofNat 0 := by rw [i15, (sm.2 15 (by decide)).1, hMi, mA_i, hMj]; rfl
    have beg := c_begin (N := N) (A := sR A1 3 (some (q + 1))) (S := S2') hE (by omega) (mb2.ats (s := M2.2.2.1 7) (fun _ _ => rfl)) vb (M2.2.2.1 6)
    rw [← hsd] at beg iv
    obtain ⟨A3, hA3⟩ : ∃ A3, A3 = sT (sR A1 3 (some (q + 1))) 0 (some (q + 1), (aT (sR A1 3 (some (q + 1))) 0).2.1, s) := ⟨_, rfl⟩
    rw [← hA3] at beg
    obtain ⟨A4, hA4⟩ : ∃ A4, A4 = sI (sR A3 6 none) 8 (Int32.ofNat 0) := ⟨_, rfl⟩
    obtain ⟨M3, hM3⟩ : ∃ M3, M3 = mF (mR (mQ M2 9 (fun j => if j < 13 then M2.2.2.2 9 (13 + j) else M2.2.2.2 9 j)) 6 s) 23 (Int32.ofNat 0) := ⟨_, rfl⟩
    have mbg := m_begin (N := N) (by omega) M2
    rw [← hsd, ← hM3] at mbg
    have a4T : aT A4 0 = (some (q + 1), (aT (sR A1 3 (some (q + 1))) 0).2.1, s) := by
      rw [hA4, hA3]
      show aT (sT (sR A1 3 (some (q + 1))) 0 (some (q + 1), (aT (sR A1 3 (some (q + 1))) 0).2.1, s)) 0 = _
      exact aT_sT _ _ _
    have r43 : aR A4 3 = some (q + 1) := by rw [hA4, hA3]; rfl
    have r46 : aR A4 6 = none := by rw [hA4, hA3]; rfl
    have i3 : ∀ k, k ≠ 23 → M3.1 k = M2.1 k := fun k hk => by rw [hM3, mF_ne _ _ hk]; rfl
    have w3 : ∀ k, k ≠ 6 → M3.2.2.1 k = M2.2.2.1 k := fun k hk => by rw [hM3, mF_a, mA_n _ _ hk]; rfl
    have w36 : M3.2.2.1 6 = s := by rw [hM3, mF_a, mA_e]
    have L3 : ∀ k, k ≠ 9 → M3.2.2.2 k = M2.2.2.2 k := fun k hk => by rw [hM3]; exact mQ_n M2 _ hk
    have L39 : ∀ j, j < 13 → M3.2.2.2 9 j = M2.2.2.2 9 (13 + j) := fun j hj => by
      rw [hM3]
      show (mQ M2 9 (fun j => if j < 13 then M2.2.2.2 9 (13 + j) else M2.2.2.2 9 j)).2.2.2 9 j = _
      rw [mQ_e, if_pos hj]
    refine ⟨M2.1 19, A4, S2', M3, ?_, ?_, ?_, by omega, by omega⟩
    · rw [preC]
      unfold bX1_map_23
      rw [vr, gbc_h rc]
      have r3 : ∀ {β : Type} (K : Option Nat → Option β), ggr (put b (sR A1 3 (some (q + 1))) S2') (some b) 3 K = K (some (q + 1)) := fun K => by rw [f_3]; rfl
      have r3' : ∀ {β : Type} (K : Option Nat → Option β), ggr (put b A4 S2') (some b) 3 K = K (some (q + 1)) := fun K => by rw [f_3, r43]
      have r24 := fun {β : Type} (K : Int32 → Option β) => r1_24 mb2.1 A4 K
      have w6n : ∀ {β : Type} (K : GS → Option β), gpv E (put b A3 S2') (some b) 6 (va_rf none) K = K (put b (sR A3 6 none) S2') := fun K => by
        show gpv E (put b A3 S2') (some b) 6 .null K = _
        rw [f_p6n hE]
      have p3 : ∀ {β : Type} (K : GS → Option β), gpv E (put b A1 S2') (some b) 3 (va_rf (some (q + 1))) K = K (put b (sR A1 3 (some (q + 1))) S2') := fun K => f_p3 hE _ K
      have p8 : ∀ {β : Type} (K : GS → Option β), gpv E (put b (sR A3 6 none) S2') (some b) 8 (.int (Int32.ofNat 0)) K = K (put b A4 S2') := fun K => by rw [f_p8 hE, ← hA4]
      have f4 : ∀ {β : Type} (K : Option Nat → Option β), ggr (put b (sR A1 3 (some (q + 1))) S2') (some b) 4 K = K (some (tad b 0)) := fun K => f_4 K
      simp only [bX1_map_26, bX1_map_40, pq_lit]
      rw [p3, f4, r3, gbd_h beg, w6n, p8, r3', r24]
    · rw [mM, mbd_h gm, rm]; exact mbg
    · -- the relation
      have wn : World b S2' (q + 1) (aR A4 6) s (M3.2.2.2 9) d2 := by
        refine ⟨mb2.ats (fun k hk => by rw [hsd]; exact begF_lo hk), ⟨fun l hl => ?_, fun p hp => ?_⟩, Or.inl ⟨r46, by rw [hsd]; exact begF_z (by omega)⟩, iv⟩
        · have hl' : l < nL (M2.2.2.1 7) := by rw [← (vb.iv (M2.2.2.1 6)).1, ← hsd]; exact hl
          obtain ⟨_, _, u, s1, s2, s3⟩ := mb2.2.1.2.1 l hl'
          have := vb.1.2.1
          exact ⟨u, s1, s2, by rw [L39 l (by omega)]; exact s3⟩
        · have hp' : p < nP (M2.2.2.1 7) := by rw [← (vb.iv (M2.2.2.1 6)).2.2.1, ← hsd]; exact hp
          obtain ⟨_, u, s1, s2, s3⟩ := mb2.2.2.2.1.2 p hp'
          have := vb.1.2.2.2.2.2
          exact ⟨u, s1, s2, by rw [L39 (7 + p) (by omega), show 13 + (7 + p) = 20 + p by omega]; exact s3⟩
      have rst2 := sw.rst (by decide)
      refine ⟨r1.ext x2', ⟨?_, ⟨0, by omega, ?_, ?_⟩, ?_⟩, ⟨q + 1, d2, 0, r43, by rw [a4T], by unfold tS; rw [a4T]; exact w36.symm, by rw [w36]; exact wn, ⟨by omega, ?_, ?_, fun j hj => by omega⟩⟩, r4.eq x2' ⟨fun k hk => ?_, fun k _ => ?_, ?_, fun k => ?_, ?_, ?_⟩ ⟨fun k hk => ⟨?_, ?_⟩, ?_, ?_⟩⟩
      · rw [w3 1 (by omega), (sw.1 1 (by decide)).2, ← t1, hA4, hA3, hA1]; rfl
      · rw [hA4, hA3, hA1]; rfl
      · rw [i3 2 (by omega)]; exact m2
      · rw [i3 15 (by omega), m15, hA4, hA3, hA1]; rfl
      · rw [hA4]; rfl
      · rw [hM3]; exact mF_e _ _ _
      · have k8 : k ≠ 8 := by rintro rfl; revert hk; decide
        have k1' : k ≠ 1 := by rintro rfl; revert hk; decide
        have k2' : k ≠ 2 := by rintro rfl; revert hk; decide
        rw [hA4, hA3, hA1]
        show va_up (va_up (va_up A.2.1 1 _) 2 _) 8 _ k = _
        unfold va_up
        rw [if_neg k8, if_neg k2', if_neg k1']
      · rw [hA4, hA3, hA1]; rfl
      · rw [hA4, hA3, hA1]; rfl
      · rw [hA4, hA3, hA1]; rfl
      · have e : aT A4 10 = aT (sR A1 3 (some (q + 1))) 10 := by
          rw [hA4, hA3]
          show aT (sT (sR A1 3 (some (q + 1))) 0 (some (q + 1), (aT (sR A1 3 (some (q + 1))) 0).2.1, s)) 10 = _
          exact aT_sTo _ _ (by omega)
        rw [e, hA1]; rfl
      · have e : aT A4 11 = aT (sR A1 3 (some (q + 1))) 11 := by
          rw [hA4, hA3]
          show aT (sT (sR A1 3 (some (q + 1))) 0 (some (q + 1), (aT (sR A1 3 (some (q + 1))) 0).2.1, s)) 11 = _
          exact aT_sTo _ _ (by omega)
        rw [e, hA1]; rfl
      · rw [i3 k (by rintro rfl; revert hk; decide)]; exact (rst2.1 k hk).1
      · rw [w3 k (by rintro rfl; revert hk; decide)]; exact (rst2.1 k hk).2
      · rw [L3 58 (by omega)]; exact rst2.2.1
      · rw [L3 10 (by omega)]; exact rst2.2.2
  · have r59 := fun {β : Type} (K : Int32 → Option β) => r5_59 e4 A1 K
    have r60 := fun {β : Type} (K : Int32 → Option β) => r5_60 e4 (sI A1 2 kd) K
    have s12 : mSn rdx M M2 := (smi.sn.su (by decide)).tr ((sn'.tr sn2).su (by decide))
    have m2 : M2.1 2 = Int32.ofNat 0 := by rw [((sn'.tr sn2).1 2 (by decide)).1, hMi, mA_i, hMj]; rfl
    have rel : Rel E b (sI (sI A 1 (Int32.ofNat 0)) 2 kd) S2' M2 := hh.rdf x2' s12 (t := 0) (by omega) rfl m2 e15.symm
    refine ⟨-Int32.ofNat 1 - pl, sI (sI A 1 (Int32.ofNat 0)) 2 kd, S2', M2, ?_, ?_, rel, by omega, by omega⟩
    · rw [preC]
      unfold bX1_map_23
      rw [vr, gbc_x rc]
      have eA : sI A1 2 kd = sI (sI A 1 (Int32.ofNat 0)) 2 kd := by rw [hA1, sI_sI]
      simp only [bX1_map_59, pq_lit]
      simp (disch := omega) only [↓r59, ↓f_p2, ↓r60, ↓gbd_s, gbd_s, ↓gbx_s, gbx_s, ↓gnn_s, ↓grf_s, eq_self, ↓reduceIte, Nat.reduceEqDiff, Nat.reduceLeDiff, Nat.reduceLT, Nat.reduceMul, Nat.reduceAdd, not_true_eq_false, not_false_eq_true, Bool.false_eq_true, pq_lit, pq_add, pq_le, pq_lt, pq_eq, pq_en, pq_ne, pq_nle, pq_nlt, pq_len, pq_ltn, pB_z, pB_o, mzt_0, mzt_1, mzt_B]
      rw [eA]
    · rw [mM, mbd_h gm, rm]
end ML
