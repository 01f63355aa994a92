/-! books: lived -/
section BF
variable {E : gE} {N b : Nat} {A : FA} {S : GS} {M : MS} {l cnt : Nat} {f : Nat → Nat} {ac : Nat → Ac}
theorem o_lived (h : Rel E b A S M) (hN : 1000 ≤ N) (hl : LsAt b S l cnt f) (hcnt : cnt ≤ 40) (hA : ∀ i, i < cnt → ActAt b S (f i) (ac i).1 (ac i).2.1 (ac i).2.2.1 (ac i).2.2.2) (ho : ∀ i, i < cnt → aO (M.2.2.1 6) (ac i)) (h47 : M.1 47 = Int32.ofNat cnt) (hR : ∀ i, i < cnt → RowIs (M.2.2.1 8) (4 * i) (ac i).1 (ac i).2.1 (ac i).2.2.1 (ac i).2.2.2) {lv : Nat} (hlv : lv = 0 ∨ lv = 1) : ∃ r A' M', fX1_lived E N (put b A S) b (some l) (Int32.ofNat lv) = some (r, put b A' S) ∧ mbd (fX5_tries N M) (fun _ S_3 => bX5_book_89L N N S_3 (Int32.ofNat lv) (Int32.ofNat 0)) = some (r, M') ∧ Rel E b A' S M' := by
  have hh := h
  obtain ⟨r1, r2, ⟨a, d, u, h3, h0, hs, hW, hU⟩, r4⟩ := h
  have hE := r1.1
  have hI := hW.2.2.2
  obtain ⟨s, es⟩ : ∃ s, s = M.2.2.1 6 := ⟨_, rfl⟩
  rw [← es] at ho hs hW hI
  have hT : TA b S A 0 a d := ⟨by omega, h0, by rw [hs]; exact hW.1, by rw [hs]; exact hI.1⟩
  have hT1 := try_TA hT
  have ts : tS (tryA A) 1 = s := by rw [try_tS]; exact hs
  obtain ⟨z, hz⟩ : ∃ z, z = bkF ac cnt 0 s := ⟨_, rfl⟩
  obtain ⟨w, ii, s'⟩ := z
  obtain ⟨g1, g2, g3, g4, g5, g6⟩ := bkF_p ho cnt 0 s (by omega) hI Mp.rf
  rw [← hz] at g1 g2 g3 g4 g5 g6
  dsimp only at g1 g2 g3 g4 g5 g6
  have lp := c_lvL (E := E) (a := a) (d := d) hE hN hl hcnt hA ho (Int32.ofNat lv) cnt 0 N (tryA A) hT1 (by rw [ts]; exact hI) (by rw [ts]; exact Mp.rf) (by omega) (by omega)
  rw [ts, ← hz] at lp
  dsimp only at lp
  obtain ⟨A1, hA1⟩ : ∃ A1, A1 = sS (tryA A) 1 s' := ⟨_, rfl⟩
  rw [← hA1] at lp
  have t1 : tS A1 1 = s' := by rw [hA1]; exact tS_ss _ _ _
  have hTA1 : TA b S A1 1 a d := by rw [hA1]; exact hT1.ss (by rw [ts]; exact g2.mp) g1.1
  -- the component's telling
  obtain ⟨Ta, hTa⟩ : ∃ Ta, Ta = sV A1 22 (upd (aV A1 22) 0 (Int32.ofNat w)) := ⟨_, rfl⟩
  obtain ⟨Tb, hTb⟩ : ∃ Tb, Tb = sV Ta 22 (upd (aV Ta 22) 1 (Int32.ofNat ii)) := ⟨_, rfl⟩
  obtain ⟨Tc, hTc⟩ : ∃ Tc, Tc = sV Tb 22 (upd (aV Tb 22) 2 (s' 91)) := ⟨_, rfl⟩
  obtain ⟨Td, hTd⟩ : ∃ Td, Td = sV Tc 22 (upd (aV Tc 22) 3 (lenS s')) := ⟨_, rfl⟩
  have aTb : aT Tb 1 = aT A1 1 := by rw [hTb, hTa]; rfl
  have aTc : aT Tc 1 = aT A1 1 := by rw [hTc, hTb, hTa]; rfl
  have d29 : ∀ {β : Type} (K : Int32 → Option β), ggi (put b Tb S) (some (tad b 1)) 29 K = K (s' 91) := fun K => by
    rw [t_29 (by omega), aTb, ← t1]
  have tTc : tS Tc 1 = s' := by unfold tS; rw [aTc]; exact t1
  have hTc1 : TA b S Tc 1 a d := ⟨by omega, by rw [aTc]; exact hTA1.2.1, by rw [tTc, ← t1]; exact hTA1.2.2.1, by rw [tTc]; exact g1.1⟩
  have ln := c_len (E := E) (N := N) hTc1 (by omega) (by rw [tTc]; exact g1.2.2.1)
  rw [tTc] at ln
  have ln' : vInchBorders_Times_lengths___I E N (put b Tc S) (some (tad b 1)) = some (lenS s', put b Tc S) := by
    simp only [vInchBorders_Times_lengths___I]
    rw [t_cls (by omega)]
    exact ln
  obtain ⟨rr, hrr⟩ : ∃ rr, rr = if w = 0 then -Int32.ofNat 1 else Int32.ofNat ii := ⟨_, rfl⟩
  have c123 : ∀ A', bX1_lived_123 E N b (put b A' S) (Int32.ofNat w) (Int32.ofNat ii) = some (rr, put b A' S) := by
    intro A'
    rw [hrr]
    by_cases e : w = 0
    · rw [if_pos e]
      simp only [bX1_lived_123, bX1_lived_133, pq_lit]
      simp (disch := omega) only [e, ↓gbd_s, gbd_s, ↓gbx_s, gbx_s, ↓gnn_s, ↓grf_s, eq_self, ↓reduceIte, Nat.reduceEqDiff, Nat.reduceLeDiff, Nat.reduceLT, Nat.reduceMul, Nat.reduceAdd, not_true_eq_false, not_false_eq_true, Bool.false_eq_true, pq_lit, pq_add, pq_le, pq_lt, pq_eq, pq_en, pq_ne, pq_nle, pq_nlt, pq_len, pq_ltn, pB_z, pB_o, mzt_0, mzt_1, mzt_B]
    · rw [if_neg e]
      simp only [bX1_lived_123, bX1_lived_133, pq_lit]
      simp (disch := omega) only [e, ↓gbd_s, gbd_s, ↓gbx_s, gbx_s, ↓gnn_s, ↓grf_s, eq_self, ↓reduceIte, Nat.reduceEqDiff, Nat.reduceLeDiff, Nat.reduceLT, Nat.reduceMul, Nat.reduceAdd, not_true_eq_false, not_false_eq_true, Bool.false_eq_true, pq_lit, pq_add, pq_le, pq_lt, pq_eq, pq_en, pq_ne, pq_nle, pq_nlt, pq_len, pq_ltn, pB_z, pB_o, mzt_0, mzt_1, mzt_B]
  have preC : fX1_lived E N (put b A S) b (some l) (Int32.ofNat lv) = (if Int32.ofNat lv = Int32.ofNat 0 then bX1_lived_123 E N b (put b Td S) (Int32.ofNat w) (Int32.ofNat ii) else if Int32.ofNat ii ≤ Int32.ofNat 0 then bX1_lived_123 E N b (put b Td S) (Int32.ofNat w) (Int32.ofNat ii) else gbd (vInchBorders_snap___V E N (put b Td S) (some b)) (fun _ S_30 => ggr S_30 (some b) 4 (fun v_33 => ggr S_30 (some b) 5 (fun v_35 => gbd (vInchBorders_Times_as__LInchBorders_Times__LInchBorders_Times_ E N S_30 v_33 v_35) (fun r_37 S_38 => bX1_lived_123 E N b S_38 (Int32.ofNat w) (Int32.ofNat ii)))))) := by
    have asv := c_asv (E := E) (N := N) (A := A) (S := S) hE (i := 0) (j := 1) (by omega) (by omega) (by omega)
    have asv' : vInchBorders_Times_as__LInchBorders_Times__LInchBorders_Times_ E N (put b A S) (some (tad b 1)) (some (tad b 0)) = some (some (tad b 1), put b (tryA A) S) := asv
    have st1 : fX1_lived E N (put b A S) b (some l) (Int32.ofNat lv) = bX1_lived_57 E N b (put b A1 S) (Int32.ofNat lv) (Int32.ofNat w) (Int32.ofNat ii) := by
      rw [← lp]
      simp only [fX1_lived, bX1_lived_0, pq_lit]
      simp (disch := omega) only [↓f_5, ↓f_4, ↓gbd_h (asv'), asv', ↓gbd_s, gbd_s, ↓gbx_s, gbx_s, ↓gnn_s, ↓grf_s, eq_self, ↓reduceIte, Nat.reduceEqDiff, Nat.reduceLeDiff, Nat.reduceLT, Nat.reduceMul, Nat.reduceAdd, not_true_eq_false, not_false_eq_true, Bool.false_eq_true, pq_lit, pq_add, pq_le, pq_lt, pq_eq, pq_en, pq_ne, pq_nle, pq_nlt, pq_len, pq_ltn, pB_z, pB_o, mzt_0, mzt_1, mzt_B]
    rw [st1]
    simp only [bX1_lived_57, pq_lit]
    simp (disch := omega) only [↓f_22, ↓f_w22 hE, ← hTa, ← hTb, ↓f_5, ↓d29, ← hTc, ↓gbd_h (ln'), ln', ← hTd, ↓gbd_s, gbd_s, ↓gnn_s, ↓grf_s, eq_self, ↓reduceIte]
  -- the model's telling
  obtain ⟨M1, hM1⟩ : ∃ M1, M1 = mR M 22 (cpF (M.2.2.1 22) s 0 91 47) := ⟨_, rfl⟩
  have tr := m_tries (N := N) hN M
  rw [← es, ← hM1] at tr
  obtain ⟨M2, hM2⟩ : ∃ M2, M2 = mR M1 48 (fun j => if 0 ≤ j ∧ j < 4 then Int32.ofNat 0 else M1.2.2.1 48 j) := ⟨_, rfl⟩
  have s12 : mSm [22, 48] M M2 := by rw [hM2, hM1]; exact (mSm.rf.mR _ (by decide)).mR _ (by decide)
  have e26 : M2.2.2.1 6 = s := by rw [(s12.2 6 (by decide)).2]; exact es.symm
  have l89 := m_89 (N := N) (x1 := Int32.ofNat lv) 4 0 N M1 (by omega) (by omega)
  rw [← hM2] at l89
  obtain ⟨M3, s3, f3, e36, e30, e31, lb⟩ := m_bkL (N := N) hN hcnt ho (Int32.ofNat lv) hR cnt 0 N M2 (by rw [e26]; exact hI) (by rw [e26]; exact Mp.rf) ((s12.2 47 (by decide)).1.trans h47) (s12.2 8 (by decide)).2 (by rw [hM2, mA_e]; rfl) (by rw [hM2, mA_e]; rfl) (by omega) (by omega)
  rw [e26, ← hz] at e36 e30 e31 lb
  dsimp only at e36 e30 e31 lb
  rw [← hrr] at lb
  obtain ⟨M4, hM4⟩ : ∃ M4, M4 = mF (mR M3 48 (upd (upd (M3.2.2.1 48) 2 (s' 91)) 3 (lenS s'))) 49 (Int32.ofNat 1) := ⟨_, rfl⟩
  have e46 : M4.2.2.1 6 = s' := by rw [hM4, mF_a, mA_n _ _ (by omega)]; exact e36
  have e422 : M4.2.2.1 22 = cpF (M.2.2.1 22) s 0 91 47 := by rw [hM4, mF_a, mA_n _ _ (by omega), (s3.2 22 (by decide)).2, hM2, mA_n _ _ (by omega), hM1, mA_e]
  have e481 : M4.2.2.1 48 1 = Int32.ofNat ii := by rw [hM4, mF_a, mA_e, upd_o _ _ (by omega), upd_o _ _ (by omega)]; exact e31
  have preM : mbd (fX5_tries N M) (fun _ S_3 => bX5_book_89L N N S_3 (Int32.ofNat lv) (Int32.ofNat 0)) = (if Int32.ofNat lv = Int32.ofNat 1 then (if Int32.ofNat ii ≤ Int32.ofNat 0 then bX5_book_283 N M4 (Int32.ofNat lv) rr else mbd (fX5_keep N M4) (fun _ S_17 => bX5_book_249L N N S_17 (Int32.ofNat lv) rr (Int32.ofNat 0))) else bX5_book_283 N M4 (Int32.ofNat lv) rr) := by
    rw [mbd_h tr, l89, lb]
    have al := m_len (N := N) (S := mR M3 48 (upd (M3.2.2.1 48) 2 (s' 91))) (by rw [mA_n _ _ (by omega), e36]; exact g1.1) (by omega)
    rw [mA_n _ _ (by omega), e36] at al
    simp only [bX5_book_201, pq_lit]
    simp (disch := omega) only [↓mrd_n, mrd_n, e36, ↓mwr_n, mwr_n, ma_s, ↓mbd_h (al), al, mA_e, mR_mR, ↓mpt, ← hM4, e481, mzt_1, ↓mbd_s, mbd_s, eq_self, ↓reduceIte]
  -- the relation, but for what is lived
  have smt : mSm [22, 48, 49] M (mR M4 6 s) := by
    refine ⟨?_, fun k hk => ?_⟩
    · show M4.2.2.2 = M.2.2.2
      rw [hM4]; show M3.2.2.2 = _; rw [s3.1, s12.1]
    · have k1 : M4.1 k = M.1 k := by
        rw [hM4, mF_ne _ _ (by rintro rfl; revert hk; decide)]
        show M3.1 k = _
        rw [f3, hM2, mA_i, hM1, mA_i]
      refine ⟨k1, ?_⟩
      by_cases q6 : k = 6
      · subst q6
        rw [mA_e]; exact es
      · rw [mA_n _ _ q6, hM4, mF_a, mA_n _ _ (by rintro rfl; revert hk; decide), (s3.2 k (by intro q; simp only [List.mem_cons, List.not_mem_nil, or_false] at q hk; omega)).2, (s12.2 k (by intro q; simp only [List.mem_cons, List.not_mem_nil, or_false] at q hk; omega)).2]
  have tol : TolR Td (mR M4 6 s) := by
    refine Or.inr ⟨?_, fun i hi => ?_⟩
    · rw [mA_i, hM4]; exact mF_e _ _ _
    · rw [mA_n _ _ (by omega), hM4, mF_a, mA_e]
      have h4 : i = 0 ∨ i = 1 ∨ i = 2 ∨ i = 3 := by omega
      have k3 : aV Td 22 = upd (aV Tc 22) 3 (lenS s') := by rw [hTd]; rfl
      have k2 : aV Tc 22 = upd (aV Tb 22) 2 (s' 91) := by rw [hTc]; rfl
      have k1 : aV Tb 22 = upd (aV Ta 22) 1 (Int32.ofNat ii) := by rw [hTb]; rfl
      have k0 : aV Ta 22 = upd (aV A1 22) 0 (Int32.ofNat w) := by rw [hTa]; rfl
      rw [k3, k2, k1, k0]
      rcases h4 with rfl | rfl | rfl | rfl
      · rw [upd_o _ _ (by omega), upd_o _ _ (by omega), upd_o _ _ (by omega), upd_s, upd_o _ _ (by omega), upd_o _ _ (by omega)]; exact e30.symm
      · rw [upd_o _ _ (by omega), upd_o _ _ (by omega), upd_s, upd_o _ _ (by omega), upd_o _ _ (by omega)]; exact e31.symm
      · rw [upd_o _ _ (by omega), upd_s, upd_o _ _ (by omega), upd_s]
      · rw [upd_s, upd_s]
  have eV0 : aV Td 0 = aV A 0 := by rw [hTd, hTc, hTb, hTa, hA1]; rfl
  have eI : ∀ k, aI Td k = aI A k := fun k => by rw [hTd, hTc, hTb, hTa, hA1]; rfl
  have eR : ∀ k, aR Td k = aR A k := fun k => by rw [hTd, hTc, hTb, hTa, hA1]; rfl
  have eC : aC Td = aC A := by rw [hTd, hTc, hTb, hTa, hA1]; rfl
  have eK : ∀ k, aK Td k = aK A k := fun k => by rw [hTd, hTc, hTb, hTa, hA1]; rfl
  have eT : ∀ j, j ≠ 1 → aT Td j = aT A j := fun j hj => by
    have e1 : aT Td j = aT A1 j := by rw [hTd, hTc, hTb, hTa]; rfl
    rw [e1, hA1, aT_sSo _ _ hj]
    exact aT_sTo _ _ hj
  have eV : ∀ k, k ≠ 22 → aV Td k = aV A k := fun k hk => by
    rw [hTd, hTc, hTb, hTa, hA1]
    show va_up (va_up (va_up (va_up A.2.2.2.1 22 _) 22 _) 22 _) 22 _ k = _
    unfold va_up
    rw [if_neg hk, if_neg hk, if_neg hk, if_neg hk]
  have rst : RstR b S Td (mR M4 6 s) := r4.ch Ext.rf smt (Or.inl ⟨by decide, by decide, eI _, eV _ (by omega)⟩) (Or.inl ⟨by decide, by decide, by decide, eI _, eI _, eV _ (by omega)⟩) (Or.inl ⟨by decide, by decide, eI _⟩) (Or.inl ⟨by decide, by decide, eI _, eV _ (by omega)⟩) (Or.inl ⟨by decide, by decide, eI _⟩) (Or.inl ⟨by decide, by decide, eR _⟩) (Or.inr tol) ⟨by decide, by decide, eK, eT 10 (by omega), eT 11 (by omega)⟩
  have R : Rel E b Td S (mR M4 6 s) := hh.ch Ext.rf smt (by decide) eV0 (eI _) (eI _) ⟨eR _, eR _⟩ eC eT (Or.inl ⟨by decide, eI _⟩) rst
  by_cases ei : ii = 0
  · have es' : s' = s := g6 ei
    have eM : mR M4 6 s = M4 := by rw [← es', ← e46, mR_id]
    rcases hlv with rfl | rfl
    · refine ⟨rr, Td, mR M4 6 s, ?_, ?_, R⟩
      · rw [preC, if_pos rfl]; exact c123 Td
      · have bk0 := m_back (N := N) hN M4
        rw [e46, e422, bk_sm g2 0] at bk0
        rw [preM, if_neg (by decide)]
        simp only [bX5_book_283, bX5_book_291, pq_lit]
        simp (disch := omega) only [↓mbd_h (bk0), bk0, ↓mbd_s, mbd_s, eq_self, ↓reduceIte, Nat.reduceEqDiff, Nat.reduceLeDiff, Nat.reduceLT, Nat.reduceMul, Nat.reduceAdd, not_true_eq_false, not_false_eq_true, Bool.false_eq_true, pq_lit, pq_add, pq_le, pq_lt, pq_eq, pq_en, pq_ne, pq_nle, pq_nlt, pq_len, pq_ltn, pB_z, pB_o, mzt_0, mzt_1, mzt_B]
    · refine ⟨rr, Td, mR M4 6 s, ?_, ?_, R⟩
      · rw [preC, if_neg (by decide), if_pos (by rw [pq_le (by omega) (by omega)]; omega)]; exact c123 Td
      · rw [preM, if_pos rfl, if_pos (by rw [pq_le (by omega) (by omega)]; omega), eM]
        simp only [bX5_book_283, bX5_book_291, pq_lit]
        simp (disch := omega) only [↓mbd_s, mbd_s, eq_self, ↓reduceIte, Nat.reduceEqDiff, Nat.reduceLeDiff, Nat.reduceLT, Nat.reduceMul, Nat.reduceAdd, not_true_eq_false, not_false_eq_true, Bool.false_eq_true, pq_lit, pq_add, pq_le, pq_lt, pq_eq, pq_en, pq_ne, pq_nle, pq_nlt, pq_len, pq_ltn, pB_z, pB_o, mzt_0, mzt_1, mzt_B]
  · rcases hlv with rfl | rfl
    · refine ⟨rr, Td, mR M4 6 s, ?_, ?_, R⟩
      · rw [preC, if_pos rfl]; exact c123 Td
      · have bk0 := m_back (N := N) hN M4
        rw [e46, e422, bk_sm g2 0] at bk0
        rw [preM, if_neg (by decide)]
        simp only [bX5_book_283, bX5_book_291, pq_lit]
        simp (disch := omega) only [↓mbd_h (bk0), bk0, ↓mbd_s, mbd_s, eq_self, ↓reduceIte, Nat.reduceEqDiff, Nat.reduceLeDiff, Nat.reduceLT, Nat.reduceMul, Nat.reduceAdd, not_true_eq_false, not_false_eq_true, Bool.false_eq_true, pq_lit, pq_add, pq_le, pq_lt, pq_eq, pq_en, pq_ne, pq_nle, pq_nlt, pq_len, pq_ltn, pB_z, pB_o, mzt_0, mzt_1, mzt_B]
    · have R' := R
      obtain ⟨_, _, ⟨a2, d2, u2, q3, q0, qs, qW, qU⟩, _⟩ := R'
      have e23 : M4.1 23 = Int32.ofNat u2 := qU.2.2.1
      have u8 := qU.1
      have kp := m_keep (N := N) hN (S := M4) u8 e23
      rw [e46] at kp
      have sn := c_snap (E := E) (N := N) (A := Td) (S := S) hE (by omega) u8 qU.2.1
      obtain ⟨An, hAn⟩ : ∃ An, An = snA Td u2 := ⟨_, rfl⟩
      rw [← hAn] at sn
      have asv := c_asv (E := E) (N := N) (A := An) (S := S) hE (i := 1) (j := 0) (by omega) (by omega) (by omega)
      obtain ⟨Ae, hAe⟩ : ∃ Ae, Ae = sT An 0 ((aT An 1).1, (aT An 0).2.1, (aT An 1).2.2) := ⟨_, rfl⟩
      rw [← hAe] at asv
      have kn : kpN u2 - 1 + 1 = kpN u2 := by unfold kpN; split <;> omega
      have kn8 : kpN u2 - 1 < 8 := by unfold kpN; split <;> omega
      obtain ⟨M5, hM5⟩ : ∃ M5, M5 = mR (mF M4 23 (Int32.ofNat (kpN u2))) 21 (kpF (M4.2.2.1 21) s' u2) := ⟨_, rfl⟩
      rw [← hM5] at kp
      have l249 := m_249 (N := N) (x1 := Int32.ofNat 1) (x2 := rr) (v := kpN u2 - 1) kn8 47 0 N M5 (by rw [kn, hM5]; rfl) (by omega) (by omega)
      have e521 : M5.2.2.1 21 = kpF (M4.2.2.1 21) s' u2 := by rw [hM5, mA_e]
      have e522 : M5.2.2.1 22 = cpF (M.2.2.1 22) s 0 91 47 := by rw [hM5, mA_n _ _ (by omega), mF_a]; exact e422
      rw [e521, e522, Nat.add_zero, kp_ov u8] at l249
      have n1 : aT An 1 = aT Td 1 := by rw [hAn]; exact sn_T (by omega)
      have td1 : aT Td 1 = aT A1 1 := by rw [hTd, hTc, hTb, hTa]; rfl
      have e421 : (mR M4 6 s).2.2.1 21 = M4.2.2.1 21 := mA_n _ _ (by omega)
      refine ⟨rr, Ae, mR M5 21 (kpF (M4.2.2.1 21) s u2), ?_, ?_, ?_⟩
      · rw [preC, if_neg (by decide), if_neg (by rw [pq_le (by omega) (by omega)]; omega), gbd_h sn, f_4, f_5, gbd_h asv]
        exact c123 Ae
      · rw [preM, if_pos rfl, if_neg (by rw [pq_le (by omega) (by omega)]; omega), mbd_h kp, l249]
        simp only [bX5_book_283, bX5_book_291, pq_lit]
        simp (disch := omega) only [↓mbd_s, mbd_s, eq_self, ↓reduceIte, Nat.reduceEqDiff, Nat.reduceLeDiff, Nat.reduceLT, Nat.reduceMul, Nat.reduceAdd, not_true_eq_false, not_false_eq_true, Bool.false_eq_true, pq_lit, pq_add, pq_le, pq_lt, pq_eq, pq_en, pq_ne, pq_nle, pq_nlt, pq_len, pq_ltn, pB_z, pB_o, mzt_0, mzt_1, mzt_B]
      · have e56 : (mR M5 21 (kpF (M4.2.2.1 21) s u2)).2.2.1 6 = s' := by rw [mA_n _ _ (by omega), hM5, mA_n _ _ (by omega), mF_a]; exact e46
        have q6 : (mR M4 6 s).2.2.1 6 = s := mA_e _ _ _
        have smk : mSm [21, 23, 6] (mR M4 6 s) (mR M5 21 (kpF (M4.2.2.1 21) s u2)) := by
          refine ⟨by rw [hM5]; rfl, fun k hk => ⟨?_, ?_⟩⟩
          · rw [mA_i, mA_i, hM5, mA_i, mF_ne _ _ (by rintro rfl; revert hk; decide)]
          · rw [mA_n _ _ (by rintro rfl; revert hk; decide), mA_n _ _ (by rintro rfl; revert hk; decide), hM5, mA_n _ _ (by rintro rfl; revert hk; decide), mF_a]
        have eAe : ∀ j, j ≠ 0 → aT Ae j = aT An j := fun j hj => by rw [hAe]; exact aT_sTo _ _ hj
        refine R.kp (ks := [21, 23, 6]) q3 q0 qs qW qU ?_ ?_ ⟨?_, ?_⟩ (fun k => ?_) ?_ ?_ (fun j hj => ?_) ?_ ?_ ?_ ?_ ?_ ?_ smk (by decide)
        · obtain ⟨y1, y2, y3, y4, y5, y6⟩ := sn_Rst (A := Td) (u := u2)
          rw [← hAn] at y1 y2 y3 y4 y5 y6
          refine ⟨fun k hk => ?_, fun k hk => ?_, ?_, fun k => ?_, ?_, ?_⟩
          · rw [← y1 k hk, hAe]; rfl
          · rw [← y2 k hk, hAe]; rfl
          · rw [← y3, hAe]; rfl
          · rw [← y4 k, hAe]; rfl
          · rw [eAe 10 (by omega)]; exact y5
          · rw [eAe 11 (by omega)]; exact y6
        · rw [hAe, ← sn_V (A := Td) (u := u2) (k := 0), ← hAn]; rfl
        · rw [hAe, ← sn_I (A := Td) (u := u2) (k := 1) (by omega), ← hAn]; rfl
        · rw [hAe, ← sn_I (A := Td) (u := u2) (k := 2) (by omega), ← hAn]; rfl
        · rw [hAe, ← sn_R (A := Td) (u := u2) (k := k), ← hAn]; rfl
        · rw [hAe, ← hAn]; rfl
        · rw [hAe, ← hAn]; rfl
        · rw [← hAn]; exact eAe j (by omega)
        · rw [hAe, aT_sT, n1, td1]
          rw [← q3, eR]
          have := hTA1.2.1
          rw [h3]; exact this
        · rw [e56]
          unfold tS
          rw [hAe, aT_sT, n1, td1]
          exact t1
        · rw [mA_i, hM5]; rfl
        · rw [mA_e, e421, q6]
        · rw [q6, e56]; exact g2
        · rw [e56]; exact g1
end BF
