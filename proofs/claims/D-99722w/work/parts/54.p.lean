/-! made: the model's loops, and both -/
theorem lk6 {q : Nat → Nat} {n : Nat} (h1 : 1 ≤ n) (h7 : n ≤ 7) (hz : ∀ l, n ≤ l → q l = 0) : lkS q 0 1 6 = lkS q 0 1 (n - 1) := by
  rw [show 6 = (n - 1) + (7 - n) by omega, lkS_add, lkS_z]
  intro x x1 x2
  exact hz x (by omega)
section OM
variable {E : gE} {N b : Nat} {A : FA} {S : GS} {M : MS}
theorem m_md38 {x1 : Int32} : ∀ (k i n : Nat) (M : MS), i + k = 7 → k < n → bX5_made_38L N n M x1 (Int32.ofNat i) = bX5_made_59L N N (mR M 33 (fun l => if i ≤ l ∧ l < 7 then Int32.ofNat 0 else M.2.2.1 33 l)) x1 (Int32.ofNat 1)
  | k, i, 0, M, _, h => by omega
  | 0, i, n + 1, M, h, _ => by
    have q : 7 ≤ i := by omega
    have e : (fun l => if i ≤ l ∧ l < 7 then Int32.ofNat 0 else M.2.2.1 33 l) = M.2.2.1 33 := by
      funext l
      rw [if_neg (by omega)]
    rw [e, mR_id]
    simp only [bX5_made_38L, bX5_made_38, pq_lit]
    simp (disch := omega) only [q, eq_self, ↓reduceIte, Nat.reduceEqDiff, Nat.reduceLeDiff, Nat.reduceLT, Nat.reduceMul, Nat.reduceAdd, not_true_eq_false, not_false_eq_true, Bool.false_eq_true, pq_lit, pq_add, pq_le, pq_lt, pq_eq, pq_en, pq_ne, pq_nle, pq_nlt, pq_len, pq_ltn, pB_z, pB_o, mzt_0, mzt_1, mzt_B]
  | k + 1, i, n + 1, M, h, hk => by
    have q : ¬ 7 ≤ i := by omega
    have ih := m_md38 (x1 := x1) k (i + 1) n (mR M 33 (upd (M.2.2.1 33) i (Int32.ofNat 0))) (by omega) (by omega)
    rw [mR_mR, mA_e] at ih
    have e : (fun l => if i + 1 ≤ l ∧ l < 7 then Int32.ofNat 0 else upd (M.2.2.1 33) i (Int32.ofNat 0) l) = (fun l => if i ≤ l ∧ l < 7 then Int32.ofNat 0 else M.2.2.1 33 l) := by
      funext l
      unfold upd
      by_cases h1 : l = i
      · subst h1
        rw [if_neg (by omega), if_pos rfl, if_pos (by omega)]
      · by_cases h2 : i + 1 ≤ l ∧ l < 7
        · rw [if_pos h2, if_pos (by omega)]
        · rw [if_neg h2, if_neg h1, if_neg (by omega)]
    rw [e] at ih
    simp only [bX5_made_38L, bX5_made_38, pq_lit]
    simp (disch := omega) only [q, ↓mwr_n, mwr_n, ma_s, ih, eq_self, ↓reduceIte, Nat.reduceEqDiff, Nat.reduceLeDiff, Nat.reduceLT, Nat.reduceMul, Nat.reduceAdd, not_true_eq_false, not_false_eq_true, Bool.false_eq_true, pq_lit, pq_add, pq_le, pq_lt, pq_eq, pq_en, pq_ne, pq_nle, pq_nlt, pq_len, pq_ltn, pB_z, pB_o, mzt_0, mzt_1, mzt_B]
theorem m_md3 {s : St} (hI : IvS s) (hN : 3000000 ≤ N) {p : Nat} (hp : p < nP s) {tt v35 : Int32} {f32 : Nat → Int32} : ∀ (m k n : Nat) (M : MS) (q : MdS), M.2.2.1 6 = s → M.2.2.1 1 0 &&& Int32.ofNat 255 = Int32.ofNat p → M.2.2.1 1 1 &&& Int32.ofNat 255 = tt → MdM v35 f32 M q → mdA (nL s) k q → k + m = 5 → 1 ≤ k → m < n → ∃ M', mSm mdw M M' ∧ MdM v35 f32 M' (mdR s (hm s p) (spW s p) (s (108 + p)) (s (114 + p)) (s (94 + hm s p)) tt k m q) ∧ bX5_made_59L N n M (Int32.ofNat q.1) (Int32.ofNat k) = bX5_made_59L N 1 M' (Int32.ofNat (mdR s (hm s p) (spW s p) (s (108 + p)) (s (114 + p)) (s (94 + hm s p)) tt k m q).1) (Int32.ofNat 5)
  | m, k, 0, M, q, _, _, _, _, _, _, _, h => by omega
  | 0, k, n + 1, M, q, h6, t0, t1, hM, hA, hk, _, _ => by
    have e : k = 5 := by omega
    subst e
    refine ⟨M, mSm.rf, hM, ?_⟩
    simp only [bX5_made_59L, bX5_made_59, pq_lit]
    simp (disch := omega) only [Nat.le_refl, eq_self, ↓reduceIte, Nat.reduceEqDiff, Nat.reduceLeDiff, Nat.reduceLT, Nat.reduceMul, Nat.reduceAdd, not_true_eq_false, not_false_eq_true, Bool.false_eq_true, pq_lit, pq_add, pq_le, pq_lt, pq_eq, pq_en, pq_ne, pq_nle, pq_nlt, pq_len, pq_ltn, pB_z, pB_o, mzt_0, mzt_1, mzt_B]
    rfl
  | m + 1, k, n + 1, M, q, h6, t0, t1, hM, hA, hk, hk1, hn => by
    have h7 := hI.l7
    have hp6 := hI.p6
    have hh := hI.hl hp
    have z : ¬ 5 ≤ k := by omega
    have e1 := m_starts (N := N) (S := M) (p := p) (by rw [h6]; exact hI) (by rw [h6]; exact hp)
    have hG := Gs_start0 (S := M) h6 (p := p) (k := k) hk1 (by omega)
    have hc := rows_cnt (s := s) (h := hm s p) (sp := spW s p) h7 k (s (108 + p)) (s (114 + p)) (s (94 + hm s p))
    have h74 : 7 ^ k ≤ 7 ^ 4 := Nat.pow_le_pow_right (by omega) (by omega)
    have q2 : q.1 ≤ 3 * 2401 := Nat.le_trans hA.2.1 (Nat.mul_le_mul_right _ (by omega))
    have st := stM_sm M p
    have hM' : MdM v35 f32 (stM M p) q := ⟨fun l hl => by rw [(st.2 33 (by decide)).2]; exact hM.1 l hl, fun h0 => by rw [(st.2 35 (by decide)).1, (st.2 32 (by decide)).2]; exact hM.2.1 h0, fun h0 => by rw [(st.2 35 (by decide)).1, (st.2 32 (by decide)).2]; exact hM.2.2 h0⟩
    obtain ⟨M1, i1, i2, i3⟩ := m_mdL hI hN (by omega) ⟨hk1, by omega⟩ (K59 := bX5_made_59L N n) (tt := tt) _ N (stM M p) q hG (fun r hr => by
      obtain ⟨l1, l2, l3⟩ := rows_len k _ _ _ r hr
      exact ⟨l1, l2, l3 hk1⟩) hA.1 (by omega) hM' (by rw [(st.2 1 (by decide)).2]; exact t1) (by omega)
    have sm : mSm mdw M M1 := (st.su (by decide)).tr i1
    obtain ⟨M2, j1, j2, j3⟩ := m_md3 hI hN hp (tt := tt) m (k + 1) n M1 _ ((sm.2 6 (by decide)).2.trans h6) (by rw [(sm.2 1 (by decide)).2]; exact t0) (by rw [(sm.2 1 (by decide)).2]; exact t1) i2 (mdA_s h7 ⟨hk1, by omega⟩ hA) (by omega) (by omega) (by omega)
    refine ⟨M2, sm.tr j1, j2, ?_⟩
    show _ = bX5_made_59L N 1 M2 (Int32.ofNat (mdR s (hm s p) (spW s p) (s (108 + p)) (s (114 + p)) (s (94 + hm s p)) tt (k + 1) m _).1) (Int32.ofNat 5)
    rw [← j3, ← i3]
    simp only [bX5_made_59L, bX5_made_59, fX5_octet, bX5_octet_0, pq_lit]
    simp (disch := omega) only [z, ↓mrd_n, mrd_n, t0, ↓mbd_h (e1), e1, eq_self, ↓reduceIte, Nat.reduceEqDiff, Nat.reduceLeDiff, Nat.reduceLT, Nat.reduceMul, Nat.reduceAdd, not_true_eq_false, not_false_eq_true, Bool.false_eq_true, pq_lit, pq_add, pq_le, pq_lt, pq_eq, pq_en, pq_ne, pq_nle, pq_nlt, pq_len, pq_ltn, pB_z, pB_o, mzt_0, mzt_1, mzt_B, ↓mbd_s, mbd_s]
theorem o_made (h : Rel E b A S M) (hN : 3000000 ≤ N) : Op E b S 4 26 (fX1_made E N (put b A S) b) (fX5_made N M) := by
  have hh := h
  obtain ⟨r1, ⟨r2, ⟨t, t1, t2, t3⟩, r3⟩, ⟨a, d, u, h3, h0, hs, hW, hU⟩, r4⟩ := h
  have hE := r1.1
  have hb := r1.2.1
  have hI := hW.2.2.2.1
  have h6 := hI.p6
  have h7 := hI.l7
  obtain ⟨M0, hM0⟩ : ∃ M0, M0 = mF (mF (mF (mF (mF M 0 (Int32.ofNat 0)) 3 (Int32.ofNat t)) 2 (Int32.ofNat 0)) 4 (Int32.ofNat 0)) 5 (Int32.ofNat 940) := ⟨_, rfl⟩
  have sm0 : mSm [0, 2, 3, 4, 5] M M0 := by
    rw [hM0]
    exact ((((mSm.rf.mF _ (by decide)).mF _ (by decide)).mF _ (by decide)).mF _ (by decide)).mF _ (by decide)
  have m02 : M0.1 2 = Int32.ofNat 0 := by rw [hM0]; rfl
  have m03 : M0.1 3 = Int32.ofNat t := by rw [hM0]; rfl
  have m06 : M0.2.2.1 6 = M.2.2.1 6 := (sm0.2 6 (by decide)).2
  have m01 : M0.2.2.1 1 = M.2.2.1 1 := (sm0.2 1 (by decide)).2
  have hI0 : IvS (M0.2.2.1 6) := by rw [m06]; exact hI
  have tk : fX5_taken N (mF M 0 (Int32.ofNat 0)) (Int32.ofNat 940) = some (Int32.ofNat 0, M0) := by
    simp only [bX5_taken_0, fX5_taken, pq_lit]
    simp (disch := omega) only [↓mpt, mF_ne, t3]
    rw [hM0]
  have rstA : ∀ {S' : GS}, Ext S S' → Rel E b (sI A 1 (Int32.ofNat 0)) S' M0 := fun x => hh.ch x sm0 (by decide) rfl rfl rfl ⟨rfl, rfl⟩ rfl (fun _ _ => rfl) (Or.inr ⟨0, by omega, rfl, m02⟩) (r4.ch x sm0 (Or.inl ⟨by decide, by decide, rfl, rfl⟩) (Or.inl ⟨by decide, by decide, by decide, rfl, rfl, rfl⟩) (Or.inl ⟨by decide, by decide, rfl⟩) (Or.inl ⟨by decide, by decide, rfl, rfl⟩) (Or.inl ⟨by decide, by decide, rfl⟩) (Or.inl ⟨by decide, by decide, rfl⟩) (Or.inl ⟨by decide, by decide, rfl⟩) ⟨by decide, by decide, fun _ => rfl, rfl, rfl⟩)
  have ct : vInchBorders_take___I E N (put b A S) (some b) = some (Int32.ofNat t, put b (sI A 1 (Int32.ofNat 0)) S) := by
    simp only [vInchBorders_take___I, bX1_take_0, fX1_take, pq_lit]
    simp (disch := omega) only [↓f_cls, ↓f_1, t2, ↓f_p1, pq_lit, pq_add, pq_le, pq_lt, pq_eq, pq_en, pq_ne, pq_nle, pq_nlt, pq_len, pq_ltn, pB_z, pB_o, mzt_0, mzt_1, mzt_B, ↓gbd_s, gbd_s, ↓gnn_s, ↓grf_s, eq_self, ↓reduceIte, Nat.reduceEqDiff, Nat.reduceLeDiff, Nat.reduceLT, Nat.reduceMul, Nat.reduceAdd, not_true_eq_false, not_false_eq_true, Bool.false_eq_true]
  have v0 : aV (sI A 1 (Int32.ofNat 0)) 0 = M.2.2.1 1 := r2
  have h3' : aR (sI A 1 (Int32.ofNat 0)) 3 = some a := h3
  have e0 : (inN (M.2.2.1 1 0 &&& Int32.ofNat 255) (nP (M.2.2.1 6)) = true) = (inN (M0.2.2.1 1 0 &&& Int32.ofNat 255) (nP (M0.2.2.1 6)) = true) := by rw [m01, m06]
  by_cases e1 : t = 2
  · by_cases e2 : inN (M.2.2.1 1 0 &&& Int32.ofNat 255) (nP (M.2.2.1 6)) = true
    · obtain ⟨p, hp, ep⟩ := (inN_i (by omega)).mp e2
      have e2' : inN (Int32.ofNat p) (nP (M.2.2.1 6)) = true := by rw [← ep]; exact e2
      obtain ⟨tt, htt⟩ : ∃ tt, tt = M.2.2.1 1 1 &&& Int32.ofNat 255 := ⟨_, rfl⟩
      have hT : TA b S (sI A 1 (Int32.ofNat 0)) 0 a d := ⟨by omega, h0, by show AtD b S a (tS A 0) d; rw [hs]; exact hW.1, by show IvS (tS A 0); rw [hs]; exact hI⟩
      have hs' : tS (sI A 1 (Int32.ofNat 0)) 0 = M.2.2.1 6 := hs
      have hl := hI.hl hp
      obtain ⟨S2, x2, s2, hpl, gi⟩ := c_mdI (E := E) (N := N) hE hb hT (p := p) (by rw [hs']; exact hp) tt
      have H := mWlk (E := E) (N := N) (h := hm (M.2.2.1 6) p) (sp := spW (M.2.2.1 6) p) (tt := tt) hE (show b ≤ S.2.1 by omega) hT x2 (Nat.le_refl _) hpl
      have q0 : MdC (Int32.ofNat 0, (fun _ => Int32.ofNat 0), Int32.ofNat 0, fun _ => Int32.ofNat 0) (0, [], fun _ => 0) := ⟨rfl, fun _ _ => rfl, fun h => absurd h (by decide)⟩
      have qA : mdA (nL (M.2.2.1 6)) 1 (0, [], fun _ => 0) := ⟨⟨by decide, fun _ => Nat.le_refl _, by decide, fun h => absurd h (by decide), by simp⟩, Nat.zero_le _, fun _ _ => rfl⟩
      obtain ⟨P', w', cC, cA, cf⟩ := c_mdL (show 100 ≤ N by omega) H (by rw [hs']; exact hl) (by rw [hs']; exact hp) (by rw [v0]; exact ep) 4 1 N (fun _ => Int32.ofNat 0) _ _ q0 (by rw [hs']; exact qA) (by omega) (by omega) (by omega)
      rw [hs'] at cC cA
      rw [hs'] at gi
      obtain ⟨M1, m1, mM, mf⟩ := m_md3 (N := N) hI hN hp (tt := tt) 4 1 N (mR M0 33 (fun l => if 0 ≤ l ∧ l < 7 then Int32.ofNat 0 else M0.2.2.1 33 l)) (0, [], fun _ => 0) (by rw [mA_n _ _ (by omega)]; exact m06) (by rw [mA_n _ _ (by omega), m01]; exact ep) (by rw [mA_n _ _ (by omega), m01, htt]) ⟨fun l hl => by rw [mA_e, if_pos ⟨Nat.zero_le _, hl⟩], fun h => absurd h (by decide), fun _ => ⟨rfl, rfl⟩⟩ qA (by omega) (by omega) (by omega)
      obtain ⟨Q, hQ⟩ : ∃ Q, Q = mdR (M.2.2.1 6) (hm (M.2.2.1 6) p) (spW (M.2.2.1 6) p) (M.2.2.1 6 (108 + p)) (M.2.2.1 6 (114 + p)) (M.2.2.1 6 (94 + hm (M.2.2.1 6) p)) tt 1 4 (0, [], fun _ => 0) := ⟨_, rfl⟩
      rw [← hQ] at cC cA mM mf
      have Q1 := cA.1.1
      obtain ⟨w0, wF, wi, wG⟩ := w'
      obtain ⟨cC1, cC2, cC3⟩ := cC
      simp only [] at cC1 cC2 cC3
      subst cC1
      obtain ⟨o, ho⟩ : ∃ o, o = mOb b S.2.1 (hm (M.2.2.1 6) p) (spW (M.2.2.1 6) p) tt (Int32.ofNat Q.1, wF, wi, wG) := ⟨_, rfl⟩
      simp only [] at cf
      have cel : Cel b (mS S2 S.2.1 o P' wF wG) S.2.1 (.inr (15, [.ref (tad b 0), .int (Int32.ofNat (hm (M.2.2.1 6) p)), .int (spW (M.2.2.1 6) p), .ref (S.2.1 + 1), .int tt, .ref (S.2.1 + 2), .ref (S.2.1 + 3), .int (Int32.ofNat Q.1), .int wi])) := by
        have := hpl.c0 o P' wF wG
        rw [ho] at this ⊢
        exact this
      have c2 := hpl.c2 o P' wF wG
      rw [← ho] at cf
      have sx : Ext S (mS S2 S.2.1 o P' wF wG) := mS_ext x2 (Nat.le_refl _)
      have sc : (mS S2 S.2.1 o P' wF wG).2 = (S.2.1 + 4, S.2.2.1 + 4, S.2.2.2 + 26) := s2
      have cc := Eq.trans (a := fX1_made E N (put b A S) b) (by
        simp only [fX1_made, bX1_made_0, bX1_made_4, bX1_made_14, bX1_made_17, bX1_made_25, bX1_made_35, bX1_made_40, bX1_made_43, vInchBorders_onTape__I_I, bX1_onTape_0, fX1_onTape, pq_lit]
        simp (disch := omega) only [↓gbd_h (ct), ct, e1, ↓f_cls, ↓f_0, ↓f_g0, f_g0, v0, ↓gbd_h (k_isP h3' hW.1 _), k_isP h3' hW.1 _, e2, e2', ↓gnw_n hb, ↓f_4, ep, ← htt, ↓gbd_h (gi), gi, pq_lit, pq_add, pq_le, pq_lt, pq_eq, pq_en, pq_ne, pq_nle, pq_nlt, pq_len, pq_ltn, pB_z, pB_o, mzt_0, mzt_1, mzt_B, ↓gbd_s, gbd_s, ↓gnn_s, ↓grf_s, eq_self, ↓reduceIte, Nat.reduceEqDiff, Nat.reduceLeDiff, Nat.reduceLT, Nat.reduceMul, Nat.reduceAdd, not_true_eq_false, not_false_eq_true, Bool.false_eq_true]) cf
      have ms : mSm [0, 2, 3, 4, 5, 24, 25, 26, 27, 28, 29, 30, 32, 33, 35] M M1 := ((sm0.su (by decide)).mR _ (by decide)).tr (m1.su (by decide))
      have mm := Eq.trans (a := fX5_made N M) (by
        have mp := m_isPerson (N := N) hI0 (M0.2.2.1 1 0 &&& Int32.ofNat 255)
        rw [m01, m06] at mp
        simp only [fX5_made, bX5_made_0, bX5_made_32, fX5_octet, bX5_octet_0, pq_lit]
        simp (disch := omega) only [↓mpt, ↓mbd_h (tk), tk, m03, e1, ↓mrd_n, mrd_n, m01, ↓mbd_h (mp), mp, e2, m_md38 7 0 N M0 (by omega) (by omega), eq_self, ↓reduceIte, Nat.reduceEqDiff, Nat.reduceLeDiff, Nat.reduceLT, Nat.reduceMul, Nat.reduceAdd, not_true_eq_false, not_false_eq_true, Bool.false_eq_true, pq_lit, pq_add, pq_le, pq_lt, pq_eq, pq_en, pq_ne, pq_nle, pq_nlt, pq_len, pq_ltn, pB_z, pB_o, mzt_0, mzt_1, mzt_B, ↓mbd_s, mbd_s]) mf
      by_cases z : Q.1 = 0
      · refine ⟨Int32.ofNat 0, sI A 1 (Int32.ofNat 0), _, M1, cc.trans ?_, mm.trans ?_, ?_, Nat.le_of_eq (by rw [sc]), Nat.le_of_eq (by rw [sc])⟩
        · simp only [bX1_made_46L, bX1_made_46, pq_lit]
          simp (disch := omega) only [↓r15_92 cel, z, pq_lit, pq_add, pq_le, pq_lt, pq_eq, pq_en, pq_ne, pq_nle, pq_nlt, pq_len, pq_ltn, pB_z, pB_o, mzt_0, mzt_1, mzt_B, ↓gbd_s, gbd_s, ↓gnn_s, ↓grf_s, eq_self, ↓reduceIte, Nat.reduceEqDiff, Nat.reduceLeDiff, Nat.reduceLT, Nat.reduceMul, Nat.reduceAdd, not_true_eq_false, not_false_eq_true, Bool.false_eq_true]
        · simp only [bX5_made_59L, bX5_made_59, pq_lit]
          simp (disch := omega) only [z, eq_self, ↓reduceIte, Nat.reduceEqDiff, Nat.reduceLeDiff, Nat.reduceLT, Nat.reduceMul, Nat.reduceAdd, not_true_eq_false, not_false_eq_true, Bool.false_eq_true, pq_lit, pq_add, pq_le, pq_lt, pq_eq, pq_en, pq_ne, pq_nle, pq_nlt, pq_len, pq_ltn, pB_z, pB_o, mzt_0, mzt_1, mzt_B]
        · have q35 : M1.1 35 = M.1 35 ∧ M1.2.2.1 32 = M.2.2.1 32 := by
            obtain ⟨w1, w2⟩ := mM.2.2 z
            exact ⟨w1.trans (sm0.2 35 (by decide)).1, w2.trans ((mA_n _ _ (by omega)).trans (sm0.2 32 (by decide)).2)⟩
          have q36 : M1.1 36 = M.1 36 := (ms.2 36 (by decide)).1
          refine hh.ch sx ms (by decide) rfl rfl rfl ⟨rfl, rfl⟩ rfl (fun _ _ => rfl) (Or.inr ⟨0, by omega, rfl, (m1.2 2 (by decide)).1.trans m02⟩) (r4.ch sx ms (Or.inl ⟨by decide, by decide, rfl, rfl⟩) (Or.inr ?_) (Or.inl ⟨by decide, by decide, rfl⟩) (Or.inl ⟨by decide, by decide, rfl, rfl⟩) (Or.inl ⟨by decide, by decide, rfl⟩) (Or.inl ⟨by decide, by decide, rfl⟩) (Or.inl ⟨by decide, by decide, rfl⟩) ⟨by decide, by decide, fun _ => rfl, rfl, rfl⟩)
          unfold MadR
          rw [q35.1, q35.2, q36]
          exact r4.2.1
      · have ok := cA.1
        have len4 := ok.2.2.1
        have len1 := ok.2.2.2.1 (by omega)
        obtain ⟨w1, w2⟩ := cC3 (by omega)
        obtain ⟨v1, v2⟩ := mM.2.1 (by omega)
        have nl : 1 ≤ nL (M.2.2.1 6) := by omega
        have lk : lkS Q.2.2 0 1 6 = lkS Q.2.2 0 1 (nL (M.2.2.1 6) - 1) := lk6 nl h7 cA.2.2
        have gq : ∀ l, Q.2.2 l ≤ 20000 := fun l => Nat.le_trans (ok.2.1 l) ok.1
        have ck := fun (B : FA) => c_lkL (E := E) (N := N) (b := b) (A := B) (P := P') (F := wF) hpl ho rfl gq cC2 6 1 0 N (by omega) (by omega) (by omega)
        have mk := m_lkL (N := N) (x1 := Int32.ofNat Q.1) gq (nL (M.2.2.1 6) - 1) 1 0 N (mF M1 36 (Int32.ofNat 0)) (by rw [mF_a, (ms.2 6 (by decide)).2]; exact hI) (by rw [mF_a]; exact mM.1) (mF_e _ _ _) (by omega) (by rw [mF_a, (ms.2 6 (by decide)).2]; omega) (by omega)
        rw [mF_mF, ← lk] at mk
        refine ⟨Int32.ofNat Q.1, sI (sI (sV (sI A 1 (Int32.ofNat 0)) 10 (va_cpy wF (aV A 10) 0 0 Q.2.1.length)) 12 (Int32.ofNat Q.2.1.length)) 14 (Int32.ofNat (lkS Q.2.2 0 1 6)), _, mF M1 36 (Int32.ofNat (lkS Q.2.2 0 1 6)), cc.trans ?_, mm.trans ?_, ?_, Nat.le_of_eq (by rw [sc]), Nat.le_of_eq (by rw [sc])⟩
        · simp only [bX1_made_46L, bX1_made_46, bX1_made_94, bX1_made_107, vInchBorders_Made_likely___I, fX22_likely, bX22_likely_0, pq_lit]
          simp (disch := omega) only [↓r15_92 cel, z, ↓r15_90 cel, ↓f_10, ↓r15_93 cel, w1, gcp_at (c2.at _) f_c10 (show E.1 ≤ b + 24 by omega) (show Q.2.1.length ≤ 5 by omega) (show Q.2.1.length ≤ 5 by omega) (show 5 ≤ 65536 by omega) (show 5 ≤ 65536 by omega), f_u10, ↓f_p12, ↓kc cel, ↓gbd_h (ck _), ck _, ↓f_p14, qVI, pq_lit, pq_add, pq_le, pq_lt, pq_eq, pq_en, pq_ne, pq_nle, pq_nlt, pq_len, pq_ltn, pB_z, pB_o, mzt_0, mzt_1, mzt_B, ↓gbd_s, gbd_s, ↓gnn_s, ↓grf_s, eq_self, ↓reduceIte, Nat.reduceEqDiff, Nat.reduceLeDiff, Nat.reduceLT, Nat.reduceMul, Nat.reduceAdd, not_true_eq_false, not_false_eq_true, Bool.false_eq_true]
        · simp only [bX5_made_59L, bX5_made_59, pq_lit]
          simp (disch := omega) only [z, Nat.le_refl, ↓mpt, eq_self, ↓reduceIte, Nat.reduceEqDiff, Nat.reduceLeDiff, Nat.reduceLT, Nat.reduceMul, Nat.reduceAdd, not_true_eq_false, not_false_eq_true, Bool.false_eq_true, pq_lit, pq_add, pq_le, pq_lt, pq_eq, pq_en, pq_ne, pq_nle, pq_nlt, pq_len, pq_ltn, pB_z, pB_o, mzt_0, mzt_1, mzt_B]
          exact mk
        · have ms2 : mSm [0, 2, 3, 4, 5, 24, 25, 26, 27, 28, 29, 30, 32, 33, 35, 36] M (mF M1 36 (Int32.ofNat (lkS Q.2.2 0 1 6))) := (ms.su (by decide)).mF _ (by decide)
          refine hh.ch sx ms2 (by decide) rfl rfl rfl ⟨rfl, rfl⟩ rfl (fun _ _ => rfl) (Or.inr ⟨0, by omega, rfl, (m1.2 2 (by decide)).1.trans m02⟩) (r4.ch sx ms2 (Or.inl ⟨by decide, by decide, rfl, rfl⟩) (Or.inr (Or.inr ⟨Q.2.1.length, len1, len4, rfl, v1, rfl, fun i hi => ?_⟩)) (Or.inl ⟨by decide, by decide, rfl⟩) (Or.inl ⟨by decide, by decide, rfl, rfl⟩) (Or.inl ⟨by decide, by decide, rfl⟩) (Or.inl ⟨by decide, by decide, rfl⟩) (Or.inl ⟨by decide, by decide, rfl⟩) ⟨by decide, by decide, fun _ => rfl, rfl, rfl⟩)
          show va_cpy wF (aV A 10) 0 0 Q.2.1.length i = M1.2.2.1 32 i
          have hi2 := List.getElem?_eq_getElem hi
          unfold va_cpy
          rw [if_pos (by omega), Nat.zero_add, Nat.sub_zero, w2 i _ hi2, v2 i _ hi2]
    · refine ⟨-Int32.ofNat 1, sI A 1 (Int32.ofNat 0), S, M0, ?_, ?_, rstA Ext.rf, Nat.le_add_right _ _, Nat.le_add_right _ _⟩
      · simp only [fX1_made, bX1_made_0, bX1_made_4, bX1_made_14, bX1_made_17, bX1_made_20, vInchBorders_onTape__I_I, bX1_onTape_0, fX1_onTape, pq_lit]
        simp (disch := omega) only [↓gbd_h (ct), ct, e1, ↓f_cls, ↓f_0, ↓f_g0, f_g0, v0, ↓gbd_h (k_isP h3' hW.1 _), k_isP h3' hW.1 _, e2, pq_lit, pq_add, pq_le, pq_lt, pq_eq, pq_en, pq_ne, pq_nle, pq_nlt, pq_len, pq_ltn, pB_z, pB_o, mzt_0, mzt_1, mzt_B, ↓gbd_s, gbd_s, ↓gnn_s, ↓grf_s, eq_self, ↓reduceIte, Nat.reduceEqDiff, Nat.reduceLeDiff, Nat.reduceLT, Nat.reduceMul, Nat.reduceAdd, not_true_eq_false, not_false_eq_true, Bool.false_eq_true]
      · have mp := m_isPerson (N := N) hI0 (M0.2.2.1 1 0 &&& Int32.ofNat 255)
        rw [m01, m06] at mp
        simp only [fX5_made, bX5_made_0, bX5_made_32, fX5_octet, bX5_octet_0, pq_lit]
        simp (disch := omega) only [↓mpt, ↓mbd_h (tk), tk, m03, e1, ↓mrd_n, mrd_n, m01, ↓mbd_h (mp), mp, e2, eq_self, ↓reduceIte, Nat.reduceEqDiff, Nat.reduceLeDiff, Nat.reduceLT, Nat.reduceMul, Nat.reduceAdd, not_true_eq_false, not_false_eq_true, Bool.false_eq_true, pq_lit, pq_add, pq_le, pq_lt, pq_eq, pq_en, pq_ne, pq_nle, pq_nlt, pq_len, pq_ltn, pB_z, pB_o, mzt_0, mzt_1, mzt_B, ↓mbd_s, mbd_s]
  · refine ⟨-Int32.ofNat 1, sI A 1 (Int32.ofNat 0), S, M0, ?_, ?_, rstA Ext.rf, Nat.le_add_right _ _, Nat.le_add_right _ _⟩
    · simp only [fX1_made, bX1_made_0, bX1_made_4, bX1_made_20, pq_lit]
      simp (disch := omega) only [↓gbd_h (ct), ct, e1, pq_lit, pq_add, pq_le, pq_lt, pq_eq, pq_en, pq_ne, pq_nle, pq_nlt, pq_len, pq_ltn, pB_z, pB_o, mzt_0, mzt_1, mzt_B, ↓gbd_s, gbd_s, ↓gnn_s, ↓grf_s, eq_self, ↓reduceIte, Nat.reduceEqDiff, Nat.reduceLeDiff, Nat.reduceLT, Nat.reduceMul, Nat.reduceAdd, not_true_eq_false, not_false_eq_true, Bool.false_eq_true]
    · simp only [fX5_made, bX5_made_0, bX5_made_32, pq_lit]
      simp (disch := omega) only [↓mpt, ↓mbd_h (tk), tk, m03, e1, eq_self, ↓reduceIte, Nat.reduceEqDiff, Nat.reduceLeDiff, Nat.reduceLT, Nat.reduceMul, Nat.reduceAdd, not_true_eq_false, not_false_eq_true, Bool.false_eq_true, pq_lit, pq_add, pq_le, pq_lt, pq_eq, pq_en, pq_ne, pq_nle, pq_nlt, pq_len, pq_ltn, pB_z, pB_o, mzt_0, mzt_1, mzt_B, ↓mbd_s, mbd_s]
end OM
