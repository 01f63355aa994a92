/-! books: the operation -/
section BG
variable {E : gE} {N b : Nat} {A : FA} {S : GS} {M : MS}
theorem BkR.sk {s g : St} {f : Nat → Nat} {cnt : Nat} (h : BkR b S s g f cnt) : ∃ ac : Nat → Ac, (∀ i, i < cnt → ActAt b S (f i) (ac i).1 (ac i).2.1 (ac i).2.2.1 (ac i).2.2.2) ∧ (∀ i, i < cnt → aO s (ac i)) ∧ ∀ i, i < cnt → RowIs g (4 * i) (ac i).1 (ac i).2.1 (ac i).2.2.1 (ac i).2.2.2 := by
  have h' : ∀ i, ∃ z : Ac, i < cnt → ActAt b S (f i) z.1 z.2.1 z.2.2.1 z.2.2.2 ∧ aO s z ∧ RowIs g (4 * i) z.1 z.2.1 z.2.2.1 z.2.2.2 := by
    intro i
    by_cases hi : i < cnt
    · obtain ⟨k, x, y, z, h1, h2, h3⟩ := h i hi
      exact ⟨(k, x, y, z), fun _ => ⟨h1, h2, h3⟩⟩
    · exact ⟨(0, 0, 0, 0), fun q => absurd q hi⟩
  obtain ⟨ac, hac⟩ := Classical.skolem.mp h'
  exact ⟨ac, fun i hi => (hac i hi).1, fun i hi => (hac i hi).2.1, fun i hi => (hac i hi).2.2⟩
theorem o_bookI (h : Rel E b A S M) (x : Int32) (hx : ¬ (Int32.ofNat 0 ≤ x ∧ x ≤ Int32.ofNat 1)) : OpX E b S 6000 70000 (fX1_book E N (put b A S) b x) (fX5_book N M x) := by
  refine ⟨-Int32.ofNat 1000, A, S, mF M 0 (Int32.ofNat 0), ?_, ?_, h.m0 _, by omega, by omega⟩
  · have ci := c_isIn (E := E) (N := N) (S := put b A S) x (Int32.ofNat 0) (Int32.ofNat 1)
    rw [pB_f hx] at ci
    simp only [fX1_book, bX1_book_0, bX1_book_6, pq_lit]
    simp (disch := omega) only [↓gbd_h (ci), ci, ↓gbd_s, gbd_s, ↓gbx_s, gbx_s, ↓gnn_s, ↓grf_s, eq_self, ↓reduceIte, Nat.reduceEqDiff, Nat.reduceLeDiff, Nat.reduceLT, Nat.reduceMul, Nat.reduceAdd, not_true_eq_false, not_false_eq_true, Bool.false_eq_true, pq_lit, pq_add, pq_le, pq_lt, pq_eq, pq_en, pq_ne, pq_nle, pq_nlt, pq_len, pq_ltn, pB_z, pB_o, mzt_0, mzt_1, mzt_B]
  · have mi := m_isIn (N := N) (S := mF M 0 (Int32.ofNat 0)) x (Int32.ofNat 0) (Int32.ofNat 1)
    rw [pB_f hx] at mi
    simp only [fX5_book, bX5_book_0, pq_lit]
    simp (disch := omega) only [↓mpt, ↓mbd_h (mi), mi, ↓mbd_s, mbd_s, eq_self, ↓reduceIte, Nat.reduceEqDiff, Nat.reduceLeDiff, Nat.reduceLT, Nat.reduceMul, Nat.reduceAdd, not_true_eq_false, not_false_eq_true, Bool.false_eq_true, pq_lit, pq_add, pq_le, pq_lt, pq_eq, pq_en, pq_ne, pq_nle, pq_nlt, pq_len, pq_ltn, pB_z, pB_o, mzt_0, mzt_1, mzt_B]
theorem o_book (h : Rel E b A S M) (hN : 3000 ≤ N) (x : Int32) : OpX E b S 6000 70000 (fX1_book E N (put b A S) b x) (fX5_book N M x) := by
  by_cases hx : Int32.ofNat 0 ≤ x ∧ x ≤ Int32.ofNat 1
  rotate_left
  · exact o_bookI h x hx
  obtain ⟨lv, hlv, ex⟩ := pq_ofle hx.1 hx.2 (by omega)
  have hlv' : lv = 0 ∨ lv = 1 := by omega
  have hh := h
  obtain ⟨r1, ⟨t1, ⟨tp, htp, t2, t2'⟩, t3⟩, ⟨a, d, u, h3, h0, hs, hW, hU⟩, r4⟩ := h
  have hE := r1.1
  have hb := r1.2.1
  obtain ⟨z, ez, fz, cz⟩ := r1.2.2.2.1
  obtain ⟨A1, hA1⟩ : ∃ A1, A1 = sI (sI A 1 (Int32.ofNat 0)) 2 (Int32.ofNat 0) := ⟨_, rfl⟩
  have a10 : aV A1 0 = aV A 0 := by rw [hA1]; rfl
  have a13 : aR A1 3 = some a := by rw [hA1]; exact h3
  obtain ⟨S1, hS1⟩ : ∃ S1, S1 = gpush S (.inr (16, gdf 16)) (gdf 16).length := ⟨_, rfl⟩
  have x1 : Ext S S1 := by rw [hS1]; exact Ext.push _ _ _
  have z1 : S1.2 = (S.2.1 + 1, S.2.2.1 + 1, S.2.2.2 + 11) := by rw [hS1]; rfl
  have c1 : Cel b S1 S.2.1 (.inr (16, [.null, .int (Int32.ofNat 0), .int (Int32.ofNat 0), .int (Int32.ofNat 0), .int (Int32.ofNat 0), .int (Int32.ofNat 0), .int (Int32.ofNat 0), .int (Int32.ofNat 0), .null, .null, .null])) := by rw [hS1]; exact Cel.push hb _ _
  obtain ⟨S2, hS2⟩ : ∃ S2, S2 = gup S1 S.2.1 (.inr (16, rdV b tp 400 (Int32.ofNat 0) (Int32.ofNat 0) (Int32.ofNat 0) (Int32.ofNat 0) (Int32.ofNat 0) (E.2.1 23) [.null, .null])) := ⟨_, rfl⟩
  have c2 : Cel b S2 S.2.1 (.inr (16, rdV b tp 400 (Int32.ofNat 0) (Int32.ofNat 0) (Int32.ofNat 0) (Int32.ofNat 0) (Int32.ofNat 0) (E.2.1 23) [.null, .null])) := by rw [hS2]; exact c1.up _
  have x2 : Ext S S2 := by rw [hS2]; exact x1.gup (Nat.le_refl _)
  have z2 : S2.2 = (S.2.1 + 1, S.2.2.1 + 1, S.2.2.2 + 11) := by rw [hS2]; exact z1
  have z21 : S2.2.1 = S.2.1 + 1 := by rw [z2]
  have hb2 : b + 111 ≤ S2.2.1 := by omega
  obtain ⟨S3, hS3⟩ : ∃ S3, S3 = gpush S2 (.inr (24, gdf 24)) (gdf 24).length := ⟨_, rfl⟩
  have x3 : Ext S2 S3 := by rw [hS3]; exact Ext.push _ _ _
  have z3 : S3.2 = (S.2.1 + 2, S.2.2.1 + 2, S.2.2.2 + 14) := by rw [hS3]; show (S2.2.1 + 1, S2.2.2.1 + 1, S2.2.2.2 + 3) = _; rw [z2]
  have l3 : Cel b S3 (S.2.1 + 1) (.inr (24, [.int (Int32.ofNat 0), .null, .int (Int32.ofNat 0)])) := by
    have := Cel.push hb2 (.inr (24, gdf 24)) (gdf 24).length
    rw [← hS3, z21] at this; exact this
  obtain ⟨S4, hS4⟩ : ∃ S4, S4 = gup S3 (S.2.1 + 1) (.inr (24, [.int (Int32.ofNat 0), .ref z, .int (Int32.ofNat 0)])) := ⟨_, rfl⟩
  have l4 : Cel b S4 (S.2.1 + 1) (.inr (24, [.int (Int32.ofNat 0), .ref z, .int (Int32.ofNat 0)])) := by rw [hS4]; exact l3.up _
  have c4 : Cel b S4 S.2.1 (.inr (16, rdV b tp 400 (Int32.ofNat 0) (Int32.ofNat 0) (Int32.ofNat 0) (Int32.ofNat 0) (Int32.ofNat 0) (E.2.1 23) [.null, .null])) := by rw [hS4]; exact (c2.ext x3).uo (by omega) _
  obtain ⟨S5, hS5⟩ : ∃ S5, S5 = gup S4 S.2.1 (.inr (16, rdV b tp 400 (Int32.ofNat 0) (Int32.ofNat 0) (Int32.ofNat 0) (Int32.ofNat 0) (Int32.ofNat 0) (E.2.1 23) (bEx a (S.2.1 + 1)))) := ⟨_, rfl⟩
  have c5 : Cel b S5 S.2.1 (.inr (16, rdV b tp 400 (Int32.ofNat 0) (Int32.ofNat 0) (Int32.ofNat 0) (Int32.ofNat 0) (Int32.ofNat 0) (E.2.1 23) (bEx a (S.2.1 + 1)))) := by rw [hS5]; exact c4.up _
  have l5 : Cel b S5 (S.2.1 + 1) (.inr (24, [.int (Int32.ofNat 0), .ref z, .int (Int32.ofNat 0)])) := by rw [hS5]; exact l4.uo (by omega) _
  have x5 : Ext S S5 := by rw [hS5, hS4]; exact ((x2.tr x3).gup (by omega)).gup (Nat.le_refl _)
  have z5 : S5.2 = (S.2.1 + 2, S.2.2.1 + 2, S.2.2.2 + 14) := by rw [hS5, hS4]; exact z3
  have z51 : S5.2.1 = S.2.1 + 2 := by rw [z5]
  have z52 : S5.2.2.1 = S.2.2.1 + 2 := by rw [z5]
  have z53 : S5.2.2.2 = S.2.2.2 + 14 := by rw [z5]
  have ls5 : LsB E b S S5 (S.2.1 + 1) 0 (fun _ => 0) z := ⟨by omega, Int32.ofNat 0, 0, fz, l5, cz.ext x5, Nat.le_refl _, by omega, fun i hi => by omega, Or.inl ⟨rfl, ez⟩⟩
  obtain ⟨Mi, hMi⟩ : ∃ Mi, Mi = mF (mF (mF (mF (mF (mF (mF M 0 (Int32.ofNat 0)) 3 (Int32.ofNat tp)) 2 (Int32.ofNat 0)) 4 (Int32.ofNat 0)) 5 (Int32.ofNat 400)) 15 (Int32.ofNat 0)) 47 (Int32.ofNat 0) := ⟨_, rfl⟩
  have smi : mSm [0, 2, 3, 4, 5, 15, 47] M Mi := by
    rw [hMi]
    exact ((((((mSm.rf.mF _ (by decide)).mF _ (by decide)).mF _ (by decide)).mF _ (by decide)).mF _ (by decide)).mF _ (by decide)).mF _ (by decide)
  have mi := m_isIn (N := N) (S := mF M 0 (Int32.ofNat 0)) x (Int32.ofNat 0) (Int32.ofNat 1)
  rw [pB_t hx] at mi
  have mM : fX5_book N M x = mbd (fX5_next N Mi) (fun _ S_12 => bX5_book_39L N N S_12 x) := by
    rw [hMi]
    simp only [fX5_book, bX5_book_0, bX5_taken_0, fX5_taken, pq_lit]
    simp (disch := omega) only [↓mpt, ↓mbd_h (mi), mi, mF_ne, t2', ↓mbd_s, mbd_s, eq_self, ↓reduceIte, Nat.reduceEqDiff, Nat.reduceLeDiff, Nat.reduceLT, Nat.reduceMul, Nat.reduceAdd, not_true_eq_false, not_false_eq_true, Bool.false_eq_true, pq_lit, pq_add, pq_le, pq_lt, pq_eq, pq_en, pq_ne, pq_nle, pq_nlt, pq_len, pq_ltn, pB_z, pB_o, mzt_0, mzt_1, mzt_B]
  have e6 : Mi.2.2.1 6 = M.2.2.1 6 := (smi.2 6 (by decide)).2
  have hWi : World b S a (aR A 6) (M.2.2.1 6) (Mi.2.2.2 9) d := by rw [smi.1]; exact hW
  have cx : BCx E N b S Mi S.2.1 a d.1.1 d.1.2.2 d.2.1 d.2.2.2.1 := by
    refine ⟨r1, hN, Nat.le_refl _, fun k w hk => ?_, ?_, ?_, ?_, ?_⟩
    · rw [smi.1]; exact r4.2.2.2.2.2.2.2.2.2 k w hk
    · rw [e6]; exact hWi.nml
    · rw [e6]; exact hWi.nmp
    · obtain ⟨ln, hc⟩ := hW.1.1
      exact ⟨ln, _, hc⟩
    · rw [e6]; exact hW.2.2.2.1
  have rp : Rp b A1 S5 Mi S.2.1 16 (bEx a (S.2.1 + 1)) tp 400 0 := by
    refine ⟨_, _, _, _, _, c5, by omega, htp, by omega, ?_, ?_, ?_, ?_, Or.inr (Or.inl rfl)⟩
    · rw [hMi]; rfl
    · rw [hMi]; rfl
    · rw [hMi]; rfl
    · rw [a10, (smi.2 1 (by decide)).2]; exact t1
  obtain ⟨S6, M6, fr, t, gc, gm, h6d, hfr, xo6, fx6, sm6, p1, p2⟩ := j_go (E := E) (N := N) hE (by omega) (by omega) (by omega) rp
  have x6 : Ext S S6 := xo6.ext x5 (Nat.le_refl _)
  have hzq : z ≠ S.2.1 := by have := cz.2.2; omega
  have ls6 : LsB E b S S6 (S.2.1 + 1) 0 (fun _ => 0) z := ls5.kp (fun c' q' => xo6.cel q' (by omega)) (fun c' q' => xo6.cel q' hzq)
  have e47 : M6.1 47 = Int32.ofNat 0 := by rw [(sm6.2 47 (by decide)).1, hMi]; rfl
  have hg : E.1 ≤ S.2.1 := by omega
  have hg1 : E.1 ≤ S.2.1 + 1 := by omega
  have preC : fX1_book E N (put b A S) b x = bX1_book_40 E N b (put b A1 S5) x (some b) (some S.2.1) := by
    have a0 : ∀ {β : Type} (K : Option Nat → Option β), ggr (put b A1 S1) (some b) 0 K = K (some (b + 1)) := fun K => f_0 K
    have a3 : ∀ {β : Type} (K : Option Nat → Option β), ggr (put b A1 S1) (some b) 3 K = K (some a) := fun K => by rw [f_3, a13]
    have tk := c_tak (E := E) (N := N) (A := A) (S := S) hE
    rw [t2] at tk
    have ci := c_isIn (E := E) (N := N) (S := put b A S) x (Int32.ofNat 0) (Int32.ofNat 1)
    rw [pB_t hx] at ci
    have i6 : fX6_init E N (put b A1 S1) S.2.1 (some (b + 1)) (Int32.ofNat tp) (Int32.ofNat 400) = some (Int32.ofNat 0, put b A1 S2) := by
      simp only [bX6_init_0, fX6_init, pq_lit]
      simp (disch := omega) only [g_rfs, ↓w16_51 c1 hg, ↓w16_43 (c1.up _) hg, ↓w16_44 (c1.up _) hg, ↓w16_45 (c1.up _) hg, gup_gup, ↓gbd_s, gbd_s, ↓gbx_s, gbx_s, ↓gnn_s, ↓grf_s, eq_self, ↓reduceIte, Nat.reduceEqDiff, Nat.reduceLeDiff, Nat.reduceLT, Nat.reduceMul, Nat.reduceAdd, not_true_eq_false, not_false_eq_true, Bool.false_eq_true, pq_lit, pq_add, pq_le, pq_lt, pq_eq, pq_en, pq_ne, pq_nle, pq_nlt, pq_len, pq_ltn, pB_z, pB_o, mzt_0, mzt_1, mzt_B]
      rw [hS2]
    have j2 : fJ2_init E N (put b A1 S3) (S.2.1 + 1) = some (Int32.ofNat 0, put b A1 S4) := by
      simp only [bJ2_init_0, fJ2_init, bJ1_init_0, fJ1_init, bJ0_init_0, fJ0_init, pq_lit]
      simp (disch := omega) only [ez, g_rfs, ↓w24_110 l3 hg1, ↓w24_111 (l3.up _) hg1, gup_gup, ↓gbd_s, gbd_s, ↓gbx_s, gbx_s, ↓gnn_s, ↓grf_s, eq_self, ↓reduceIte, Nat.reduceEqDiff, Nat.reduceLeDiff, Nat.reduceLT, Nat.reduceMul, Nat.reduceAdd, not_true_eq_false, not_false_eq_true, Bool.false_eq_true, pq_lit, pq_add, pq_le, pq_lt, pq_eq, pq_en, pq_ne, pq_nle, pq_nlt, pq_len, pq_ltn, pB_z, pB_o, mzt_0, mzt_1, mzt_B]
      rw [hS4]
    have gn : ∀ {β : Type} (K : Nat → GS → Option β), gnw (put b A1 S2) 24 K = K (S.2.1 + 1) (put b A1 S3) := fun K => by rw [gnw_n hb2, ← hS3, z21]
    simp only [fX1_book, bX1_book_0, bX1_book_6, bX1_book_17, bX1_book_27, bX23_init_17, bX23_init_13, bX23_init_9, bX23_init_0, fX23_init, pq_lit]
    simp (disch := omega) only [↓gbd_h (ci), ci, ↓gbd_h (tk), tk, ↓f_p2, ← hA1, ↓gnw_n hb, ← hS1, ↓a0, ↓a3, ↓gbd_h (i6), i6, ↓gn, ↓gbd_h (j2), j2, g_rfs, ↓w16_95 c4 hg, ↓w16_94 (c4.up _) hg, gup_gup, ↓gbd_s, gbd_s, ↓gbx_s, gbx_s, ↓gnn_s, ↓grf_s, eq_self, ↓reduceIte, Nat.reduceEqDiff, Nat.reduceLeDiff, Nat.reduceLT, Nat.reduceMul, Nat.reduceAdd, not_true_eq_false, not_false_eq_true, Bool.false_eq_true, pq_lit, pq_add, pq_le, pq_lt, pq_eq, pq_en, pq_ne, pq_nle, pq_nlt, pq_len, pq_ltn, pB_z, pB_o, mzt_0, mzt_1, mzt_B]
    rw [hS5]
  have vr : vInchBorders_BookReader_read___Ljava_util_ArrayList_ E N (put b A1 S5) (some S.2.1) = bX23_read_4L E N S.2.1 N (put b A1 S6) := by
    have vg : vInchBorders_BookReader_go___V E N (put b A1 S5) (some S.2.1) = fX6_go E N (put b A1 S5) S.2.1 := by
      simp only [vInchBorders_BookReader_go___V]; rw [kc c5]; rfl
    simp only [vInchBorders_BookReader_read___Ljava_util_ArrayList_]
    rw [kc c5]
    show fX23_read E N (put b A1 S5) S.2.1 = _
    unfold fX23_read bX23_read_0
    rw [vg, gbd_h gc]
  rcases b_read (E := E) (N := N) (A := A1) (l := S.2.1 + 1) (n := tp) (lim := 400) cx x 401 N N S6 M6 fr t 0 (fun _ => 0) z (by omega) (by omega) (by omega) x6 (sm6.su (by decide)) h6d ls6 e47 (by omega) (fun i hi => by omega) with ⟨S', M', cnt, f, e, fr', rc, rm, x', sm', ls', e47', hcnt, hB, hfr', k1, k2⟩ | ⟨fa, kd, pl, S', M', rc, rm, x', ⟨y0, y1, y2, y3, y4, y5, e4⟩, e15, e16, sn', k1, k2⟩
  · have s12 : mSm rdx M M' := (smi.su (by decide)).tr (sm'.su (by decide))
    have m2 : M'.1 2 = Int32.ofNat 0 := by rw [(sm'.2 2 (by decide)).1, hMi]; rfl
    have m15 : M'.1 15 = Int32.ofNat 0 := by rw [(sm'.2 15 (by decide)).1, hMi]; rfl
    have rel : Rel E b A1 S' M' := by
      rw [hA1]
      exact hh.rdf x' s12.sn (t := 0) (by omega) rfl m2 m15.symm
    have e66 : Mi.2.2.1 6 = M'.2.2.1 6 := ((sm'.2 6 (by decide)).2).symm
    rw [e66] at hB
    obtain ⟨ac, b1, b2, b3⟩ := hB.sk
    obtain ⟨r, A', M'', l1, l2, l3⟩ := o_lived rel (N := N) (by omega) ls'.at hcnt b1 b2 e47' b3 hlv'
    refine ⟨r, A', S', M'', ?_, ?_, l3, by omega, by omega⟩
    · rw [preC]
      unfold bX1_book_40
      rw [vr, gbc_h rc]
      have vl : vInchBorders_lived__Ljava_util_ArrayList_Z_I E N (put b A1 S') (some b) (some (S.2.1 + 1)) (Int32.ofNat lv) = some (r, put b A' S') := by
        simp only [vInchBorders_lived__Ljava_util_ArrayList_Z_I, f_cls]
        exact l1
      rw [ex]
      rcases hlv' with rfl | rfl
      · simp only [bX1_book_43, bX1_book_53, bX1_book_56, pq_lit]
        simp (disch := omega) only [↓gbd_h (vl), vl, ↓gbd_s, gbd_s, ↓gbx_s, gbx_s, ↓gnn_s, ↓grf_s, eq_self, ↓reduceIte, Nat.reduceEqDiff, Nat.reduceLeDiff, Nat.reduceLT, Nat.reduceMul, Nat.reduceAdd, not_true_eq_false, not_false_eq_true, Bool.false_eq_true, pq_lit, pq_add, pq_le, pq_lt, pq_eq, pq_en, pq_ne, pq_nle, pq_nlt, pq_len, pq_ltn, pB_z, pB_o, mzt_0, mzt_1, mzt_B]
      · simp only [bX1_book_43, bX1_book_53, bX1_book_56, pq_lit]
        simp (disch := omega) only [↓gbd_h (vl), vl, ↓gbd_s, gbd_s, ↓gbx_s, gbx_s, ↓gnn_s, ↓grf_s, eq_self, ↓reduceIte, Nat.reduceEqDiff, Nat.reduceLeDiff, Nat.reduceLT, Nat.reduceMul, Nat.reduceAdd, not_true_eq_false, not_false_eq_true, Bool.false_eq_true, pq_lit, pq_add, pq_le, pq_lt, pq_eq, pq_en, pq_ne, pq_nle, pq_nlt, pq_len, pq_ltn, pB_z, pB_o, mzt_0, mzt_1, mzt_B]
    · rw [mM, mbd_h gm, rm, ex]; exact l2
  · have r59 := fun {β : Type} (K : Int32 → Option β) => r5_59 e4 A1 K
    have r60 := fun {β : Type} (K : Int32 → Option β) => r5_60 e4 (sI A1 2 kd) K
    have s12 : mSn rdx M M' := (smi.sn.su (by decide)).tr (sn'.su (by decide))
    have m2 : M'.1 2 = Int32.ofNat 0 := by rw [(sn'.1 2 (by decide)).1, hMi]; rfl
    have rel : Rel E b (sI (sI A 1 (Int32.ofNat 0)) 2 kd) S' M' := hh.rdf x' s12 (t := 0) (by omega) rfl m2 e15.symm
    refine ⟨-Int32.ofNat 2 - pl, sI (sI A 1 (Int32.ofNat 0)) 2 kd, S', M', ?_, ?_, rel, by omega, by omega⟩
    · rw [preC]
      unfold bX1_book_40
      rw [vr, gbc_x rc]
      have eA : sI A1 2 kd = sI (sI A 1 (Int32.ofNat 0)) 2 kd := by rw [hA1, sI_sI]
      simp only [bX1_book_57, pq_lit]
      simp (disch := omega) only [↓r59, ↓f_p2, ↓r60, ↓gbd_s, gbd_s, ↓gbx_s, gbx_s, ↓gnn_s, ↓grf_s, eq_self, ↓reduceIte, Nat.reduceEqDiff, Nat.reduceLeDiff, Nat.reduceLT, Nat.reduceMul, Nat.reduceAdd, not_true_eq_false, not_false_eq_true, Bool.false_eq_true, pq_lit, pq_add, pq_le, pq_lt, pq_eq, pq_en, pq_ne, pq_nle, pq_nlt, pq_len, pq_ltn, pB_z, pB_o, mzt_0, mzt_1, mzt_B]
      rw [eA]
    · rw [mM, mbd_h gm, rm]
end BG
