/-! caravan -/
theorem srt_s : ∀ p, p < 6 → ∀ set, set < 2 ^ p → srt (p + 1) (set ||| 2 ^ p) = srt p set ++ [p] ∧ srt (p + 1) set = srt p set ∧ set ||| 2 ^ p < 2 ^ (p + 1) ∧ (srt p set).length ≤ p ∧ set < 2 ^ (p + 1) := by decide +kernel
theorem srt_l : ∀ n, n < 7 → ∀ set, set < 2 ^ n → (srt n set).length ≤ 6 ∧ set < 64 ∧ pcn 6 set ≤ 6 := by decide +kernel
noncomputable def gmS (s : St) (l : Nat) : Nat → Nat → Nat → Nat
  | 0, _, set => set
  | k + 1, p, set => gmS s l k (p + 1) (if whyC s p l = Int32.ofNat 0 then set ||| 2 ^ p else set)
theorem gm_lt {s : St} {l : Nat} : ∀ (k p set : Nat), p + k ≤ 6 → set < 2 ^ p → gmS s l k p set < 2 ^ (p + k)
  | 0, _, _, _, h => h
  | k + 1, p, set, hk, h => by
    have r := srt_s p (by omega) set h
    rw [show p + (k + 1) = (p + 1) + k by omega]
    exact gm_lt k (p + 1) _ (by omega) (by split; exact r.2.2.1; exact r.2.2.2.2)
theorem allN_ne {f : Nat} {L : List Nat} {P : List (List Nat)} (h : allN f L = some P) : ∃ P', P = L :: P' := by
  match f with
  | 0 => simp [allN] at h
  | f + 1 =>
    unfold allN at h
    cases e : nxN L with
    | none => rw [e] at h; injection h with h; exact ⟨[], h.symm⟩
    | some L' =>
      rw [e] at h
      cases e2 : allN f L' with
      | none => simp [e2] at h
      | some Q => simp [e2] at h; exact ⟨Q, h.symm⟩
theorem kp_len {s : St} {l n k : Nat} : ∀ (P : List (List Nat)) (bst : Int32 × List Nat), P.all (okN n k) = true → bst.2.length = k → (P.foldl (kpC s l) bst).2.length = k
  | [], _, _, h => h
  | L :: P, bst, hP, h => by
    rw [List.all_cons, Bool.and_eq_true] at hP
    refine kp_len P _ hP.2 ?_
    unfold kpC
    split
    · have := hP.1
      unfold okN at this
      simp only [Bool.and_eq_true, beq_iff_eq] at this
      exact this.1
    · exact h
theorem kp_one {s : St} {l n k : Nat} (hs : IvA s) (hl : l < nL s) (hn : nP s = n) {L : List Nat} (hL : okN n k L = true) : kpC s l (-Int32.ofNat 1, []) L = (lenS (runS l s L), L) := by
  unfold okN at hL
  simp only [Bool.and_eq_true, beq_iff_eq, List.all_eq_true, decide_eq_true_eq] at hL
  obtain ⟨w, w1, w2⟩ := lenS_n (run_iv L hs (fun x q => by rw [hn]; exact hL.2 x q) hl).1
  unfold kpC
  rw [if_pos (show -Int32.ofNat 1 < lenS (runS l s L) by rw [w2, pq_ltn (by omega)]; trivial)]
section OU
variable {E : gE} {N b : Nat} {A : FA} {S : GS} {M : MS}
theorem c_cvL (hN : 1000 ≤ N) {a : Nat} {d : AD} {l : Nat} (hT : TA b S A 0 a d) (h3 : aR A 3 = some a) (hl : l < nL (tS A 0)) : ∀ (k p q set : Nat), p + k = nP (tS A 0) → k < q → set < 2 ^ p → bX1_caravan_14L E N b q (put b A S) (Int32.ofNat l) (Int32.ofNat set) (Int32.ofNat p) = bX1_caravan_14L E N b 1 (put b A S) (Int32.ofNat l) (Int32.ofNat (gmS (tS A 0) l k p set)) (Int32.ofNat (nP (tS A 0)))
  | k, p, 0, set, _, h, _ => by omega
  | 0, p, q + 1, set, hk, _, _ => by
    have h6 := hT.2.2.2.p6
    have kp := k_persons (E := E) (N := N) h3 hT.2.2.1
    rw [show p = nP (tS A 0) by omega]
    simp only [bX1_caravan_14L, bX1_caravan_14, gmS, pq_lit]
    simp (disch := omega) only [↓gbd_h (kp), kp, Nat.le_refl, pq_lit, pq_add, pq_le, pq_lt, pq_eq, pq_en, pq_ne, pq_nle, pq_nlt, pq_len, pq_ltn, pB_z, pB_o, mzt_0, mzt_1, mzt_B, ↓gbd_s, gbd_s, ↓gnn_s, ↓grf_s, eq_self, ↓reduceIte, Nat.reduceEqDiff, Nat.reduceLeDiff, Nat.reduceLT, Nat.reduceMul, Nat.reduceAdd, not_true_eq_false, not_false_eq_true, Bool.false_eq_true]
  | k + 1, p, q + 1, set, hk, hq, hset => by
    have h6 := hT.2.2.2.p6
    have kp := k_persons (E := E) (N := N) h3 hT.2.2.1
    have z : ¬ nP (tS A 0) ≤ p := by omega
    have hw := c_whyC (E := E) (N := N) hT (by omega) (show p < nP (tS A 0) by omega) hl
    obtain ⟨r1, r2, r3, r4, r5⟩ := srt_s p (by omega) set hset
    have e : Int32.ofNat set ||| Int32.ofNat 1 <<< (Int32.ofNat p &&& Int32.ofNat 31) = Int32.ofNat (set ||| 2 ^ p) := by rw [p1_e, p1_n _ (by omega), or_n]
    by_cases w : whyC (tS A 0) p l = Int32.ofNat 0
    · have ih := c_cvL hN hT h3 hl k (p + 1) q (set ||| 2 ^ p) (by omega) (by omega) r3
      unfold gmS
      rw [if_pos w, ← ih]
      conv => lhs; simp only [bX1_caravan_14L, bX1_caravan_14, bX1_caravan_40, pq_lit]
      simp (disch := omega) only [↓gbd_h (kp), kp, z, ↓f_4, ↓gbd_h (hw), hw, w, e, pq_lit, pq_add, pq_le, pq_lt, pq_eq, pq_en, pq_ne, pq_nle, pq_nlt, pq_len, pq_ltn, pB_z, pB_o, mzt_0, mzt_1, mzt_B, ↓gbd_s, gbd_s, ↓gnn_s, ↓grf_s, eq_self, ↓reduceIte, Nat.reduceEqDiff, Nat.reduceLeDiff, Nat.reduceLT, Nat.reduceMul, Nat.reduceAdd, not_true_eq_false, not_false_eq_true, Bool.false_eq_true]
    · have ih := c_cvL hN hT h3 hl k (p + 1) q set (by omega) (by omega) r5
      unfold gmS
      rw [if_neg w, ← ih]
      conv => lhs; simp only [bX1_caravan_14L, bX1_caravan_14, bX1_caravan_40, pq_lit]
      simp (disch := omega) only [↓gbd_h (kp), kp, z, ↓f_4, ↓gbd_h (hw), hw, w, e, pq_lit, pq_add, pq_le, pq_lt, pq_eq, pq_en, pq_ne, pq_nle, pq_nlt, pq_len, pq_ltn, pB_z, pB_o, mzt_0, mzt_1, mzt_B, ↓gbd_s, gbd_s, ↓gnn_s, ↓grf_s, eq_self, ↓reduceIte, Nat.reduceEqDiff, Nat.reduceLeDiff, Nat.reduceLT, Nat.reduceMul, Nat.reduceAdd, not_true_eq_false, not_false_eq_true, Bool.false_eq_true]
theorem m_cvL (hN : 1000 ≤ N) {s : St} {l : Nat} (hI : IvS s) (hl : l < nL s) : ∀ (k p q set : Nat) (M : MS), M.2.2.1 6 = s → Hold (M.2.2.1 39) (srt p set) → p + k = nP s → k < q → set < 2 ^ p → ∃ f', Hold f' (srt (nP s) (gmS s l k p set)) ∧ bX5_caravan_19L N q M (Int32.ofNat l) (Int32.ofNat (srt p set).length) (Int32.ofNat p) = bX5_caravan_19L N 1 (mR M 39 f') (Int32.ofNat l) (Int32.ofNat (srt (nP s) (gmS s l k p set)).length) (Int32.ofNat (nP s))
  | k, p, 0, set, M, _, _, _, h, _ => by omega
  | 0, p, q + 1, set, M, h6, h39, hk, _, _ => by
    have h6' := hI.p6
    refine ⟨M.2.2.1 39, by rw [show nP s = p by omega]; exact h39, ?_⟩
    rw [show p = nP s by omega, mR_id]
    simp only [bX5_caravan_19L, bX5_caravan_19, gmS, pq_lit]
    simp (disch := omega) only [↓mrd_n, mrd_n, h6, hI.c2, Nat.le_refl, eq_self, ↓reduceIte, Nat.reduceEqDiff, Nat.reduceLeDiff, Nat.reduceLT, Nat.reduceMul, Nat.reduceAdd, not_true_eq_false, not_false_eq_true, Bool.false_eq_true, pq_lit, pq_add, pq_le, pq_lt, pq_eq, pq_en, pq_ne, pq_nle, pq_nlt, pq_len, pq_ltn, pB_z, pB_o, mzt_0, mzt_1, mzt_B]
  | k + 1, p, q + 1, set, M, h6, h39, hk, hq, hset => by
    have h6' := hI.p6
    have h7 := hI.l7
    have z : ¬ nP s ≤ p := by omega
    have hw := m_whyC (N := N) (S := M) (p := p) (l := l) (by rw [h6]; exact hI) (by omega) (by rw [h6]; omega) (by omega)
    rw [h6] at hw
    obtain ⟨r1, r2, r3, r4, r5⟩ := srt_s p (by omega) set hset
    by_cases w : whyC s p l = Int32.ofNat 0
    · obtain ⟨f', a1, a2⟩ := m_cvL hN hI hl k (p + 1) q (set ||| 2 ^ p) (mR M 39 (upd (M.2.2.1 39) (srt p set).length (Int32.ofNat p))) (by rw [mA_n _ _ (by omega)]; exact h6) (by rw [mA_e, r1]; exact h39.ap p) (by omega) (by omega) r3
      rw [mR_mR] at a2
      unfold gmS
      rw [if_pos w]
      refine ⟨f', a1, ?_⟩
      rw [← a2]
      have el : (srt (p + 1) (set ||| 2 ^ p)).length = (srt p set).length + 1 := by rw [r1]; simp
      rw [el]
      conv => lhs; simp only [bX5_caravan_19L, bX5_caravan_19, bX5_caravan_51, pq_lit]
      simp (disch := omega) only [↓mrd_n, mrd_n, h6, hI.c2, z, ↓mbd_h (hw), hw, w, Nat.le_refl, ↓mwr_n, mwr_n, ma_s, pq_add, eq_self, ↓reduceIte, Nat.reduceEqDiff, Nat.reduceLeDiff, Nat.reduceLT, Nat.reduceMul, Nat.reduceAdd, not_true_eq_false, not_false_eq_true, Bool.false_eq_true, pq_lit, pq_add, pq_le, pq_lt, pq_eq, pq_en, pq_ne, pq_nle, pq_nlt, pq_len, pq_ltn, pB_z, pB_o, mzt_0, mzt_1, mzt_B]
    · obtain ⟨f', a1, a2⟩ := m_cvL hN hI hl k (p + 1) q set M h6 (by rw [r2]; exact h39) (by omega) (by omega) r5
      unfold gmS
      rw [if_neg w]
      refine ⟨f', a1, ?_⟩
      rw [← a2, r2]
      have w2 : ¬ whyC s p l ≤ Int32.ofNat 0 := by
        unfold whyC at w ⊢
        obtain ⟨e1, e2⟩ := whyS_n s (s (108 + p)) l (s (114 + p)) (spd s p l)
        rw [e1, pq_eq (by omega) (by omega)] at w
        rw [e1, pq_le (by omega) (by omega)]
        omega
      conv => lhs; simp only [bX5_caravan_19L, bX5_caravan_19, bX5_caravan_51, pq_lit]
      simp (disch := omega) only [↓mrd_n, mrd_n, h6, hI.c2, z, ↓mbd_h (hw), hw, w2, pq_add, eq_self, ↓reduceIte, Nat.reduceEqDiff, Nat.reduceLeDiff, Nat.reduceLT, Nat.reduceMul, Nat.reduceAdd, not_true_eq_false, not_false_eq_true, Bool.false_eq_true, pq_lit, pq_add, pq_le, pq_lt, pq_eq, pq_en, pq_ne, pq_nle, pq_nlt, pq_len, pq_ltn, pB_z, pB_o, mzt_0, mzt_1, mzt_B]
end OU
