/-! books: the whole text -/
theorem ActAt.ob {b : Nat} {S : GS} {v k x y z : Nat} (h : ActAt b S v k x y z) : ∃ ci fs, Cel b S v (.inr (ci, fs)) ∧ mutE (.inr (ci, fs)) = false ∧ ci ∈ [9, 10, 11, 12, 17] := by
  unfold ActAt at h
  split at h
  · exact ⟨_, _, h, rfl, by decide⟩
  · exact ⟨_, _, h, rfl, by decide⟩
  · exact ⟨_, _, h, rfl, by decide⟩
  · exact ⟨_, _, h, rfl, by decide⟩
  · exact ⟨_, _, h, rfl, by decide⟩
  · exact ⟨_, _, h, rfl, by decide⟩
  · exact ⟨_, _, h, rfl, by decide⟩
theorem ActAt.fx {b : Nat} {S S' : GS} {v k x y z : Nat} (h : ActAt b S v k x y z) (q : Fx S S') : ActAt b S' v k x y z := by
  unfold ActAt at h ⊢
  split at h <;> exact q.cel h rfl
def BkR (b : Nat) (S : GS) (s : St) (g : St) (f : Nat → Nat) (cnt : Nat) : Prop := ∀ i, i < cnt → ∃ k x y z, ActAt b S (f i) k x y z ∧ ActOk s k x y z ∧ RowIs g (4 * i) k x y z
theorem BkR.fx {b : Nat} {S S' : GS} {s g g' : St} {f : Nat → Nat} {cnt : Nat} (h : BkR b S s g f cnt) (x : Fx S S') (e : ∀ j, j < 4 * cnt → g' j = g j) : BkR b S' s g' f cnt := by
  intro i hi
  obtain ⟨k, y1, y2, y3, h1, h2, h3, h4, h5, h6⟩ := h i hi
  exact ⟨k, y1, y2, y3, h1.fx x, h2, by rw [e _ (by omega)]; exact h3, by rw [e _ (by omega)]; exact h4, fun q => by rw [e _ (by omega)]; exact h5 q, fun q => by rw [e _ (by omega)]; exact h6 q⟩
section BD
variable {E : gE} {N b : Nat} {A : FA} {S0 : GS} {M0 : MS} {q a l l0 lp n lim : Nat} {f0 fp : Nat → Nat}
theorem b_read (cx : BCx E N b S0 M0 q a l0 lp f0 fp) (x1 : Int32) : ∀ (k m m' : Nat) (S : GS) (M : MS) (fr : Nat) (t : Tk) (cnt : Nat) (f : Nat → Nat) (e : Nat), lim + 1 ≤ fr + k → k < m → k < m' → Ext S0 S → mSm bkk M0 M → Rd b A S M q 16 (bEx a l) n lim fr t → LsB E b S0 S l cnt f e → M.1 47 = Int32.ofNat cnt → cnt ≤ 40 → BkR b S (M0.2.2.1 6) (M.2.2.1 8) f cnt → (∃ S' M' cnt' f' e' fr', bX23_read_4L E N q m (put b A S) = some (.inl (some l), put b A S') ∧ bX5_book_39L N m' M x1 = mbd (fX5_tries N M') (fun _ S_3 => bX5_book_89L N N S_3 x1 (Int32.ofNat 0)) ∧ Ext S0 S' ∧ mSm bkk M0 M' ∧ LsB E b S0 S' l cnt' f' e' ∧ M'.1 47 = Int32.ofNat cnt' ∧ cnt' ≤ 40 ∧ BkR b S' (M0.2.2.1 6) (M'.2.2.1 8) f' cnt' ∧ fr' ≤ lim ∧ S'.2.2.1 + 12 * fr ≤ S.2.2.1 + 12 * fr' ∧ S'.2.2.2 + 150 * fr ≤ S.2.2.2 + 150 * fr') ∨ (∃ fa kd pl S' M', bX23_read_4L E N q m (put b A S) = some (.inr fa, put b A S') ∧ bX5_book_39L N m' M x1 = some (-Int32.ofNat 2 - pl, M') ∧ Ext S0 S' ∧ FltAt b S' fa kd pl ∧ M'.1 15 = kd ∧ M'.1 16 = pl ∧ mSn rdk M0 M' ∧ S'.2.2.1 + 12 * fr ≤ S.2.2.1 + 12 * lim + 200 ∧ S'.2.2.2 + 150 * fr ≤ S.2.2.2 + 150 * lim + 2000)
  | k, 0, m', S, M, fr, t, cnt, f, e, hk, h1, h2, x, sm, h, hls, h47, hc, hB => by omega
  | k, m + 1, 0, S, M, fr, t, cnt, f, e, hk, h1, h2, x, sm, h, hls, h47, hc, hB => by omega
  | k, m + 1, m' + 1, S, M, fr, t, cnt, f, e, hk, h1, h2, x, sm, h, hls, h47, hc, hB => by
    have cx' := cx
    obtain ⟨kok, hN, hq, hr, hl, hp, ⟨ln, y2, ha⟩, hI⟩ := cx
    have hE := kok.1
    have hb0 := kok.2.1
    have hfl := h.m12.2
    have hh := h
    obtain ⟨p, kd, nu, sg, wr, c, g1, g2, g3, g4, g5, g6, g7, hk', g9, g10, g11, g12⟩ := h
    have r47 := fun {β : Type} (K : Int32 → Option β) => rd_47 hk' c A K
    have r95 := fun {β : Type} (K : Option Nat → Option β) => br_95 hh K
    by_cases e0 : t.1 = 0
    · left
      have w : kd = Int32.ofNat 0 ∧ M.1 11 = Int32.ofNat 0 := by
        rcases g12 with h | h | h | h | h | h
        · exact h.2
        · omega
        · omega
        · omega
        · omega
        · omega
      refine ⟨S, M, cnt, f, e, fr, ?_, ?_, x, sm, hls, h47, hc, hB, hfl, by omega, by omega⟩
      · simp only [bX23_read_4L, bX23_read_4, pq_lit]
        simp (disch := omega) only [↓r47, w.1, ↓r95, ↓gbd_s, gbd_s, ↓gbx_s, gbx_s, ↓gnn_s, ↓grf_s, eq_self, ↓reduceIte, Nat.reduceEqDiff, Nat.reduceLeDiff, Nat.reduceLT, Nat.reduceMul, Nat.reduceAdd, not_true_eq_false, not_false_eq_true, Bool.false_eq_true, pq_lit, pq_add, pq_le, pq_lt, pq_eq, pq_en, pq_ne, pq_nle, pq_nlt, pq_len, pq_ltn, pB_z, pB_o, mzt_0, mzt_1, mzt_B]
      · simp only [bX5_book_39L, bX5_book_39, pq_lit]
        simp (disch := omega) only [w.2, eq_self, ↓reduceIte, Nat.reduceEqDiff, Nat.reduceLeDiff, Nat.reduceLT, Nat.reduceMul, Nat.reduceAdd, not_true_eq_false, not_false_eq_true, Bool.false_eq_true, pq_lit, pq_add, pq_le, pq_lt, pq_eq, pq_en, pq_ne, pq_nle, pq_nlt, pq_len, pq_ltn, pB_z, pB_o, mzt_0, mzt_1, mzt_B]
    · have w : ¬ kd = Int32.ofNat 0 ∧ ¬ M.1 11 = Int32.ofNat 0 := by
        rcases g12 with h | h | h | h | h | h
        · exact absurd h.1 e0
        · rw [h.2.2]; exact ⟨by rcases h.2.1 with q | q <;> rw [q] <;> decide, by decide⟩
        · rw [h.2.1, h.2.2.1]; decide
        · rw [h.2.1, h.2.2.1]; decide
        · rw [h.2.1, h.2.2.1]; decide
        · rw [h.2.1, h.2.2.1]; decide
      have cS : bX23_read_4L E N q (m + 1) (put b A S) = gbx (fX23_act E N (put b A S) q) (fun r_8 S_9 => bX23_read_19 E N q (bX23_read_4L E N q m) S_9 (some l) r_8) := by
        simp only [bX23_read_4L, bX23_read_4, pq_lit]
        simp (disch := omega) only [↓r47, w.1, ↓r95, b_act hh, eq_self, ↓reduceIte, Nat.reduceEqDiff, Nat.reduceLeDiff, Nat.reduceLT, Nat.reduceMul, Nat.reduceAdd, not_true_eq_false, not_false_eq_true, Bool.false_eq_true, pq_lit, pq_add, pq_le, pq_lt, pq_eq, pq_en, pq_ne, pq_nle, pq_nlt, pq_len, pq_ltn, pB_z, pB_o, mzt_0, mzt_1, mzt_B]
      have mS : bX5_book_39L N (m' + 1) M x1 = mbd (fX5_bookLine N M) (fun r_5 S_6 => if r_5 = Int32.ofNat 0 then bX5_book_62 N S_6 else mbd (fX5_sign N S_6 (Int32.ofNat 59)) (fun r_9 S_10 => if r_9 = Int32.ofNat 0 then bX5_book_62 N S_10 else mpt S_10 47 ((S_10.1 47) + Int32.ofNat 1) (fun S_13 => bX5_book_39L N m' S_13 x1))) := by
        simp only [bX5_book_39L, bX5_book_39, pq_lit]
        simp (disch := omega) only [w.2, eq_self, ↓reduceIte, Nat.reduceEqDiff, Nat.reduceLeDiff, Nat.reduceLT, Nat.reduceMul, Nat.reduceAdd, not_true_eq_false, not_false_eq_true, Bool.false_eq_true, pq_lit, pq_add, pq_le, pq_lt, pq_eq, pq_en, pq_ne, pq_nle, pq_nlt, pq_len, pq_ltn, pB_z, pB_o, mzt_0, mzt_1, mzt_B]
      have sn0 : mSn rdk M0 M := (sm.su (by decide)).sn
      rcases j_act (E := E) cx' x sm hh hls.at h47 hc with ⟨dc, dt, df, d1, d2, hc40, v, S1, M1, fr1, t1, ak, ax, ay, az, e1, e2, r1, aA, aO, aR, a8, av, xo, x01, sm1, e47, hf, k1, k2⟩ | jf
      · -- the list
        have hqS := hh.lt
        have hlq : l ≠ q := by
          obtain ⟨_, mc, cap, g, l1, _⟩ := hls
          intro q'
          rw [q'] at l1
          have := l1.1.symm.trans c.1
          injection this with this
          injection this with this
          injection this with this _
          omega
        have heq : e ≠ q := by
          obtain ⟨_, mc, cap, g, _, l2, _⟩ := hls
          intro q'
          rw [q'] at l2
          have := l2.1.symm.trans c.1
          injection this with this
          cases this
        have ls1 : LsB E b S0 S1 l cnt f e := hls.kp (fun c' q' => xo.cel q' hlq) (fun c' q' => xo.cel q' heq)
        obtain ⟨ci, fs, cv, cm, cim⟩ := aA.ob
        have lcel : ∃ fs, Cel b S1 l (.inr (24, fs)) := by
          obtain ⟨_, mc, cap, g, l1, _⟩ := ls1
          exact ⟨_, l1⟩
        obtain ⟨lfs, lc⟩ := lcel
        have hvl : v ≠ l := by
          intro q'
          rw [q'] at cv
          have := cv.1.symm.trans lc.1
          injection this with this
          injection this with this
          injection this with this _
          rw [this] at cim
          revert cim; decide
        have fxx : Fx S S1 := hh.xf xo
        have B1 : BkR b S1 (M0.2.2.1 6) (M1.2.2.1 8) f cnt := hB.fx fxx a8
        have hob : ∀ i, i < cnt → ∃ ci fs, Cel b S1 (f i) (.inr (ci, fs)) ∧ f i ≠ l := by
          intro i hi
          obtain ⟨k', y1, y2', y3, b1, _⟩ := B1 i hi
          obtain ⟨ci', fs', cv', cm', cim'⟩ := b1.ob
          refine ⟨ci', fs', cv', ?_⟩
          intro q'
          rw [q'] at cv'
          have := cv'.1.symm.trans lc.1
          injection this with this
          injection this with this
          injection this with this _
          rw [this] at cim'
          revert cim'; decide
        obtain ⟨S2, e', ad, ls2, he', z1, z2, z3, z4⟩ := l_add (E := E) (N := N) (A := A) hE hb0 ls1 x01.1 (by omega) cv hvl hob
        -- what the list's growing leaves
        have ecel : ∃ y, S1.1 e = some (.inl (2, y)) := by
          obtain ⟨_, mc, cap, g, _, l2, _⟩ := ls1
          exact ⟨_, l2.1⟩
        obtain ⟨ey, ec⟩ := ecel
        have fx12 : Fx S1 S2 := by
          refine ⟨z1, fun a' e0 ha' he0 hm => z2 a' ha' ?_ ?_⟩
          · intro q'
            rw [q', lc.1] at he0
            injection he0 with he0
            rw [← he0] at hm
            cases hm
          · intro q'
            rcases he' with ⟨he', _⟩ | he'
            · rw [q', he', ec] at he0
              injection he0 with he0
              rw [← he0] at hm
              cases hm
            · omega
        have qlt := r1.lt
        have qe' : q ≠ e' := by
          rcases he' with ⟨he', _⟩ | he'
          · rw [he']; exact Ne.symm heq
          · omega
        have r2 : Rd b A S2 M1 q 16 (bEx a l) n lim fr1 t1 := r1.fx fx12 (z2 q qlt (Ne.symm hlq) qe')
        have x02 : Ext S0 S2 := by
          refine ⟨Nat.le_trans x01.1 z1, fun a' ha' => ?_⟩
          have lge := ls1.1
          rw [z2 a' (Nat.lt_of_lt_of_le ha' x01.1) (by omega) ?_]
          · exact x01.2 a' ha'
          · have := x01.1
            rcases he' with ⟨he', _⟩ | he' <;> omega
        have hb2 : b + 111 ≤ S2.2.1 := Nat.le_trans hb0 x02.1
        have B2 : BkR b S2 (M0.2.2.1 6) (M1.2.2.1 8) (fun i => if i = cnt then v else f i) (cnt + 1) := by
          intro i hi
          by_cases q' : i = cnt
          · subst q'
            refine ⟨ak, ax, ay, az, ?_, aO, aR⟩
            show ActAt b S2 (if i = i then v else f i) ak ax ay az
            rw [if_pos rfl]
            exact aA.fx fx12
          · obtain ⟨k', y1, y2', y3, b1, b2, b3⟩ := B1 i (by omega)
            refine ⟨k', y1, y2', y3, ?_, b2, b3⟩
            show ActAt b S2 (if i = cnt then v else f i) k' y1 y2' y3
            rw [if_neg q']
            exact b1.fx fx12
        rcases j_end (E := E) (N := N) (S0 := S0) hE hb2 x02 (by omega) r2 (by omega) with ⟨S3, M3, fr3, t3, u1, gc, gm, r3, hf3, xo3, fx3, sm3, p1, p2⟩ | jf
        · obtain ⟨M4, hM4⟩ : ∃ M4, M4 = mF M3 47 (Int32.ofNat (cnt + 1)) := ⟨_, rfl⟩
          have x03 := xo3.ext x02 hq
          have sm03 : mSm bkk M0 M3 := sm1.tr (sm3.su (by decide))
          have sm4 : mSm bkk M0 M4 := by rw [hM4]; exact sm03.mF _ (by decide)
          have r4 : Rd b A S3 M4 q 16 (bEx a l) n lim fr3 t3 := by rw [hM4]; exact r3.mm (fun k hk => mF_ne _ _ (by rintro rfl; revert hk; decide)) rfl rfl
          have ls3 : LsB E b S0 S3 l (cnt + 1) (fun i => if i = cnt then v else f i) e' := ls2.kp (fun c' q' => xo3.cel q' hlq) (fun c' q' => xo3.cel q' (Ne.symm qe'))
          have e473 : M3.1 47 = Int32.ofNat cnt := by rw [(sm3.2 47 (by decide)).1, e47]; exact h47
          have B3 : BkR b S3 (M0.2.2.1 6) (M4.2.2.1 8) (fun i => if i = cnt then v else f i) (cnt + 1) := B2.fx fx3 (fun j _ => by rw [hM4, mF_a, (sm3.2 8 (by decide)).2])
          have rc := b_read cx' x1 (k - 1) m m' S3 M4 fr3 t3 (cnt + 1) (fun i => if i = cnt then v else f i) e' (by omega) (by omega) (by omega) x03 sm4 r4 ls3 (by rw [hM4]; exact mF_e _ _ _) (by omega) B3
          have cc : bX23_read_4L E N q (m + 1) (put b A S) = bX23_read_4L E N q m (put b A S3) := by
            rw [cS, gbx_h e1]
            unfold bX23_read_19
            rw [gbd_h ad]
            unfold bX23_read_22
            rw [b_end r2, gbx_h gc]
            rfl
          have mm : bX5_book_39L N (m' + 1) M x1 = bX5_book_39L N m' M4 x1 := by
            rw [mS, mbd_h e2, if_neg (by decide), mbd_h gm, if_neg (by decide), hM4]
            show bX5_book_39L N m' (mF M3 47 (M3.1 47 + Int32.ofNat 1)) x1 = _
            rw [e473, pq_add]
          rw [cc, mm]
          rcases rc with ⟨S', M', cnt', f', e'', fr', q1, q2, q3, q4, q5, q6, q7, q8, q9, q10, q11⟩ | ⟨fa, kd, pl, S', M', q1, q2, q3, q4, q5, q6, q7, q8, q9⟩
          · exact Or.inl ⟨S', M', cnt', f', e'', fr', q1, q2, q3, q4, q5, q6, q7, q8, q9, by omega, by omega⟩
          · exact Or.inr ⟨fa, kd, pl, S', M', q1, q2, q3, q4, q5, q6, q7, by omega, by omega⟩
        · right
          obtain ⟨fa, kd, pl, S', M', j1, j2, j3, j4, j5, j6, j7, j8, j9⟩ := jf
          have f1 := r1.m12.2
          refine ⟨fa, kd, pl, S', M', ?_, ?_, j3, j4, j5, j6, ((sm1.su (by decide)).sn).tr j7, by omega, by omega⟩
          · rw [cS, gbx_h e1]
            unfold bX23_read_19
            rw [gbd_h ad]
            unfold bX23_read_22
            rw [b_end r2, gbx_x j1]
          · rw [mS, mbd_h e2, if_neg (by decide), mbd_h j2, if_pos rfl]
            simp only [bX5_book_62, pq_lit]
            rw [j6]
      · right
        obtain ⟨fa, kd, pl, S', M', j1, j2, j3, j4, j5, j6, j7, j8, j9⟩ := jf
        refine ⟨fa, kd, pl, S', M', by rw [cS, gbx_x j1], ?_, j3, j4, j5, j6, sn0.tr j7, by omega, by omega⟩
        rw [mS, mbd_h j2, if_pos rfl]
        simp only [bX5_book_62, pq_lit]
        rw [j6]
end BD
