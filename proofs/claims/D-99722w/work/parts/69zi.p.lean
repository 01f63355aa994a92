/-! books: the acts done -/
abbrev Ac : Type := Nat × Nat × Nat × Nat
abbrev aN (s : St) (z : Ac) : Nat := actN s z.1 z.2.1 z.2.2.1 z.2.2.2
abbrev aS (s : St) (z : Ac) : St := actS s z.1 z.2.1 z.2.2.1 z.2.2.2
abbrev aO (s : St) (z : Ac) : Prop := ActOk s z.1 z.2.1 z.2.2.1 z.2.2.2
def bkF (ac : Nat → Ac) : Nat → Nat → St → Nat × Nat × St
  | 0, i, s => (0, i, s)
  | k + 1, i, s => if aN s (ac i) = 0 then bkF ac k (i + 1) (aS s (ac i)) else (totN (ac i).1 (aN s (ac i)), i, s)
theorem totN_z {k w : Nat} : totN k w = 0 ↔ w = 0 := by
  unfold totN
  by_cases h : w = 0
  · rw [if_pos h]; exact ⟨fun _ => h, fun _ => rfl⟩
  · rw [if_neg h]; exact ⟨fun q => by omega, fun q => absurd q h⟩
theorem ActOk.mp {s s' : St} {k x y n : Nat} (h : ActOk s k x y n) (m : Mp s s') : ActOk s' k x y n := by
  obtain ⟨h1, h2, h3, h4⟩ := h
  exact ⟨h1, fun q => by rw [show nP s' = nP s from m.eP, show nL s' = nL s from m.eL]; exact h2 q, fun q => by rw [show nL s' = nL s from m.eL]; exact h3 q, h4⟩
theorem sm_aS {s : St} (h : IvA s) {z : Ac} (ho : aO s z) (hz : aN s z = 0) : Sm s (aS s z) := by
  have := sm_act h.1 ho
  unfold actF at this
  rw [if_pos hz] at this
  exact this
theorem bkF_p {ac : Nat → Ac} {s0 : St} {cnt : Nat} (ho : ∀ i, i < cnt → aO s0 (ac i)) : ∀ (k i : Nat) (s : St), i + k = cnt → IvA s → Mp s0 s → IvA (bkF ac k i s).2.2 ∧ Sm s (bkF ac k i s).2.2 ∧ (bkF ac k i s).2.1 ≤ cnt ∧ i ≤ (bkF ac k i s).2.1 ∧ (bkF ac k i s).1 ≤ 65 ∧ ((bkF ac k i s).2.1 = i → (bkF ac k i s).2.2 = s)
  | 0, i, s, h1, h2, h3 => ⟨h2, Sm.rf, by show i ≤ cnt; omega, Nat.le_refl _, Nat.zero_le _, fun _ => rfl⟩
  | k + 1, i, s, h1, h2, h3 => by
    have o := (ho i (by omega)).mp h3
    unfold bkF
    by_cases e : aN s (ac i) = 0
    · rw [if_pos e]
      have sm := sm_aS h2 o e
      obtain ⟨g1, g2, g3, g4, g5, g6⟩ := bkF_p ho k (i + 1) (aS s (ac i)) (by omega) (h2.act o e) (h3.tr sm.mp)
      exact ⟨g1, sm.tr g2, g3, by omega, g5, fun q => by omega⟩
    · rw [if_neg e]
      refine ⟨h2, Sm.rf, by show i ≤ cnt; omega, Nat.le_refl _, ?_, fun _ => rfl⟩
      have tl : aN s (ac i) ≤ 5 := actN_le s o.1
      have o6 := o.1
      show totN (ac i).1 (aN s (ac i)) ≤ 65
      unfold totN
      rw [if_neg e]; show 10 * (ac i).1 + aN s (ac i) ≤ 65; omega
theorem m_dz {N : Nat} {M : MS} {g : St} {o k x y z : Nat} (h : RowIs g o k x y z) (hk : k ≤ 6) : fX5_does N M (g o) (g (o + 1)) (g (o + 2)) (g (o + 3)) = fX5_does N M (Int32.ofNat k) (Int32.ofNat x) (Int32.ofNat y) (Int32.ofNat z) := by
  obtain ⟨h1, h2, h3, h4⟩ := h
  rw [h1, h2]
  have h7 : k = 0 ∨ k = 1 ∨ k = 2 ∨ k = 3 ∨ k = 4 ∨ k = 5 ∨ k = 6 := by omega
  rcases h7 with rfl | rfl | rfl | rfl | rfl | rfl | rfl
  · rw [h3 (by decide)]
    simp only [fX5_does, bX5_does_0, pq_lit]
    simp (disch := omega) only [pq_eq, Nat.reduceEqDiff, ↓reduceIte]
  · rw [h3 (by decide)]
    simp only [fX5_does, bX5_does_0, pq_lit]
    simp (disch := omega) only [pq_eq, Nat.reduceEqDiff, ↓reduceIte]
  · rw [h3 (by decide)]
    simp only [fX5_does, bX5_does_0, pq_lit]
    simp (disch := omega) only [pq_eq, Nat.reduceEqDiff, ↓reduceIte]
  · simp only [fX5_does, bX5_does_0, pq_lit]
    simp (disch := omega) only [pq_eq, Nat.reduceEqDiff, ↓reduceIte]
  · simp only [fX5_does, bX5_does_0, pq_lit]
    simp (disch := omega) only [pq_eq, Nat.reduceEqDiff, ↓reduceIte]
  · rw [h3 (by decide), h4 rfl]
  · simp only [fX5_does, bX5_does_0, pq_lit]
    simp (disch := omega) only [pq_eq, Nat.reduceEqDiff, ↓reduceIte]
section BE
variable {E : gE} {N b : Nat} {A : FA} {S : GS} {M : MS} {a l cnt : Nat} {d : AD} {f : Nat → Nat} {ac : Nat → Ac} {s0 : St}
theorem c_lvL (hE : E.1 ≤ b) (hN : 1000 ≤ N) (hl : LsAt b S l cnt f) (hcnt : cnt ≤ 40) (hA : ∀ i, i < cnt → ActAt b S (f i) (ac i).1 (ac i).2.1 (ac i).2.2.1 (ac i).2.2.2) (ho : ∀ i, i < cnt → aO s0 (ac i)) (x2 : Int32) : ∀ (k i m : Nat) (A : FA), TA b S A 1 a d → IvA (tS A 1) → Mp s0 (tS A 1) → i + k = cnt → k + 1 < m → bX1_lived_17L E N b m (put b A S) (some l) x2 (Int32.ofNat 0) (Int32.ofNat i) = bX1_lived_57 E N b (put b (sS A 1 (bkF ac k i (tS A 1)).2.2) S) x2 (Int32.ofNat (bkF ac k i (tS A 1)).1) (Int32.ofNat (bkF ac k i (tS A 1)).2.1)
  | k, i, 0, A, hT, hI, hM, h1, h2 => by omega
  | 0, i, m + 1, A, hT, hI, hM, h1, h2 => by
    have sz := l_size (E := E) (N := N) (A := A) hl
    have e1 : cnt ≤ i := by omega
    show _ = bX1_lived_57 E N b (put b (sS A 1 (aT A 1).2.2) S) x2 (Int32.ofNat 0) (Int32.ofNat i)
    rw [sS_id]
    simp only [bX1_lived_17L, bX1_lived_17, pq_lit]
    simp (disch := omega) only [↓gbd_h (sz), sz, e1, ↓gbd_s, gbd_s, ↓gbx_s, gbx_s, ↓gnn_s, ↓grf_s, eq_self, ↓reduceIte, Nat.reduceEqDiff, Nat.reduceLeDiff, Nat.reduceLT, Nat.reduceMul, Nat.reduceAdd, not_true_eq_false, not_false_eq_true, Bool.false_eq_true, pq_lit, pq_add, pq_le, pq_lt, pq_eq, pq_en, pq_ne, pq_nle, pq_nlt, pq_len, pq_ltn, pB_z, pB_o, mzt_0, mzt_1, mzt_B]
  | k + 1, i, m + 1, A, hT, hI, hM, h1, h2 => by
    have sz := l_size (E := E) (N := N) (A := A) hl
    have gt := l_get (E := E) (N := N) (A := A) hl (show i < cnt by omega)
    obtain ⟨ci, fs, cv, _, cim⟩ := (hA i (by omega)).ob
    have cc : ∀ {β : Type} (K : Option β), gcc (put b A S) (some (f i)) [9, 10, 11, 12, 17] K = K := fun K => gcc_at (cv.at A) cim K
    have f5 : ∀ {β : Type} (K : Option Nat → Option β), ggr (put b A S) (some b) 5 K = K (some (tad b 1)) := fun K => f_5 K
    have o := (ho i (by omega)).mp hM
    have ca := c_act (N := N) hT hE hN hI.2.1 (hA i (by omega)) o
    have e1 : ¬ cnt ≤ i := by omega
    have tl : aN (tS A 1) (ac i) ≤ 5 := actN_le (tS A 1) o.1
    have o6 := o.1
    unfold bkF
    by_cases e : aN (tS A 1) (ac i) = 0
    · rw [if_pos e]
      have sm := sm_aS hI o e
      have t0 : totN (ac i).1 (aN (tS A 1) (ac i)) = 0 := totN_z.mpr e
      have fa : actF (tS A 1) (ac i).1 (ac i).2.1 (ac i).2.2.1 (ac i).2.2.2 = aS (tS A 1) (ac i) := if_pos e
      rw [t0, fa] at ca
      have hT' : TA b S (sS A 1 (aS (tS A 1) (ac i))) 1 a d := hT.ss sm.mp (hI.act o e).1
      have ts : tS (sS A 1 (aS (tS A 1) (ac i))) 1 = aS (tS A 1) (ac i) := tS_ss _ _ _
      have ih := c_lvL hE hN hl hcnt hA ho x2 k (i + 1) m (sS A 1 (aS (tS A 1) (ac i))) hT' (by rw [ts]; exact hI.act o e) (by rw [ts]; exact hM.tr sm.mp) (by omega) (by omega)
      rw [ts, sS_sS] at ih
      rw [← ih]
      simp only [bX1_lived_17L, bX1_lived_17, pq_lit]
      simp (disch := omega) only [↓gbd_h (sz), sz, e1, ↓gbd_h (gt), gt, ↓cc, ↓f5, ↓gbd_h (ca), ca, ↓gbd_s, gbd_s, ↓gbx_s, gbx_s, ↓gnn_s, ↓grf_s, eq_self, ↓reduceIte, Nat.reduceEqDiff, Nat.reduceLeDiff, Nat.reduceLT, Nat.reduceMul, Nat.reduceAdd, not_true_eq_false, not_false_eq_true, Bool.false_eq_true, pq_lit, pq_add, pq_le, pq_lt, pq_eq, pq_en, pq_ne, pq_nle, pq_nlt, pq_len, pq_ltn, pB_z, pB_o, mzt_0, mzt_1, mzt_B]
    · rw [if_neg e]
      have t0 : ¬ totN (ac i).1 (aN (tS A 1) (ac i)) = 0 := fun q => e (totN_z.mp q)
      have fa : actF (tS A 1) (ac i).1 (ac i).2.1 (ac i).2.2.1 (ac i).2.2.2 = tS A 1 := if_neg e
      have tl2 : totN (ac i).1 (aN (tS A 1) (ac i)) ≤ 65 := by unfold totN; rw [if_neg e]; omega
      rw [fa, show sS A 1 (tS A 1) = A from sS_id A 1] at ca
      obtain ⟨m2, rfl⟩ : ∃ m2, m = m2 + 1 := ⟨m - 1, by omega⟩
      show _ = bX1_lived_57 E N b (put b (sS A 1 (aT A 1).2.2) S) x2 (Int32.ofNat (totN (ac i).1 (aN (tS A 1) (ac i)))) (Int32.ofNat i)
      rw [sS_id]
      obtain ⟨w, hw⟩ : ∃ w, w = totN (ac i).1 (aN (tS A 1) (ac i)) := ⟨_, rfl⟩
      have ca' : vInchBorders_Act_does__LInchBorders_Times__I E N (put b A S) (some (f i)) (some (tad b 1)) = some (Int32.ofNat w, put b A S) := by rw [hw]; exact ca
      rw [← hw] at t0 tl2 ⊢
      simp only [bX1_lived_17L, bX1_lived_17, pq_lit]
      simp (disch := omega) only [↓gbd_h (sz), sz, e1, ↓gbd_h (gt), gt, ↓cc, ↓f5, ↓gbd_h (ca'), ca', t0, ↓gbd_s, gbd_s, ↓gbx_s, gbx_s, ↓gnn_s, ↓grf_s, eq_self, ↓reduceIte, Nat.reduceEqDiff, Nat.reduceLeDiff, Nat.reduceLT, Nat.reduceMul, Nat.reduceAdd, not_true_eq_false, not_false_eq_true, Bool.false_eq_true, pq_lit, pq_add, pq_le, pq_lt, pq_eq, pq_en, pq_ne, pq_nle, pq_nlt, pq_len, pq_ltn, pB_z, pB_o, mzt_0, mzt_1, mzt_B]
theorem m_89 {x1 : Int32} : ∀ (k i m : Nat) (M : MS), i + k = 4 → k < m → bX5_book_89L N m M x1 (Int32.ofNat i) = bX5_book_111L N N (mR M 48 (fun j => if i ≤ j ∧ j < 4 then Int32.ofNat 0 else M.2.2.1 48 j)) x1 (-Int32.ofNat 1) (Int32.ofNat 0)
  | k, i, 0, M, h1, h2 => by omega
  | 0, i, m + 1, M, h1, h2 => by
    have e1 : 4 ≤ i := by omega
    have eg : (fun j => if i ≤ j ∧ j < 4 then Int32.ofNat 0 else M.2.2.1 48 j) = M.2.2.1 48 := by funext j; rw [if_neg (by omega)]
    rw [eg, mR_id]
    simp only [bX5_book_89L, bX5_book_89, pq_lit]
    simp (disch := omega) only [e1, eq_self, ↓reduceIte, Nat.reduceEqDiff, Nat.reduceLeDiff, Nat.reduceLT, Nat.reduceMul, Nat.reduceAdd, not_true_eq_false, not_false_eq_true, Bool.false_eq_true, pq_lit, pq_add, pq_le, pq_lt, pq_eq, pq_en, pq_ne, pq_nle, pq_nlt, pq_len, pq_ltn, pB_z, pB_o, mzt_0, mzt_1, mzt_B]
  | k + 1, i, m + 1, M, h1, h2 => by
    have e1 : ¬ 4 ≤ i := by omega
    have ih := m_89 (x1 := x1) k (i + 1) m (mR M 48 (upd (M.2.2.1 48) i (Int32.ofNat 0))) (by omega) (by omega)
    have eg : (fun j => if i + 1 ≤ j ∧ j < 4 then Int32.ofNat 0 else (mR M 48 (upd (M.2.2.1 48) i (Int32.ofNat 0))).2.2.1 48 j) = fun j => if i ≤ j ∧ j < 4 then Int32.ofNat 0 else M.2.2.1 48 j := by
      funext j
      rw [mA_e]
      by_cases q : j = i
      · rw [if_neg (by omega), if_pos (by omega), q, upd_s]
      · rw [upd_o _ _ q]
        by_cases q2 : i ≤ j ∧ j < 4
        · rw [if_pos q2, if_pos (by omega)]
        · rw [if_neg q2, if_neg (by omega)]
    rw [mR_mR, eg] at ih
    rw [← ih]
    simp only [bX5_book_89L, bX5_book_89, pq_lit]
    simp (disch := omega) only [e1, ↓mwr_n, mwr_n, ma_s, eq_self, ↓reduceIte, Nat.reduceEqDiff, Nat.reduceLeDiff, Nat.reduceLT, Nat.reduceMul, Nat.reduceAdd, not_true_eq_false, not_false_eq_true, Bool.false_eq_true, pq_lit, pq_add, pq_le, pq_lt, pq_eq, pq_en, pq_ne, pq_nle, pq_nlt, pq_len, pq_ltn, pB_z, pB_o, mzt_0, mzt_1, mzt_B]
theorem m_bkL (hN : 1000 ≤ N) (hcnt : cnt ≤ 40) (ho : ∀ i, i < cnt → aO s0 (ac i)) (x1 : Int32) {g8 : St} (hR : ∀ i, i < cnt → RowIs g8 (4 * i) (ac i).1 (ac i).2.1 (ac i).2.2.1 (ac i).2.2.2) : ∀ (k i m : Nat) (M : MS), IvA (M.2.2.1 6) → Mp s0 (M.2.2.1 6) → M.1 47 = Int32.ofNat cnt → M.2.2.1 8 = g8 → M.2.2.1 48 0 = Int32.ofNat 0 → M.2.2.1 48 1 = Int32.ofNat i → i + k = cnt → k + 1 < m → ∃ M', mSm [6, 48] M M' ∧ M'.1 = M.1 ∧ M'.2.2.1 6 = (bkF ac k i (M.2.2.1 6)).2.2 ∧ M'.2.2.1 48 0 = Int32.ofNat (bkF ac k i (M.2.2.1 6)).1 ∧ M'.2.2.1 48 1 = Int32.ofNat (bkF ac k i (M.2.2.1 6)).2.1 ∧ bX5_book_111L N m M x1 (-Int32.ofNat 1) (Int32.ofNat i) = bX5_book_201 N M' x1 (if (bkF ac k i (M.2.2.1 6)).1 = 0 then -Int32.ofNat 1 else Int32.ofNat (bkF ac k i (M.2.2.1 6)).2.1)
  | k, i, 0, M, hI, hM, h47, h8, h0, h1, h2, h3 => by omega
  | 0, i, m + 1, M, hI, hM, h47, h8, h0, h1, h2, h3 => by
    have e1 : cnt ≤ i := by omega
    refine ⟨M, mSm.rf, rfl, rfl, h0, h1, ?_⟩
    show _ = bX5_book_201 N M x1 (if (0 : Nat) = 0 then -Int32.ofNat 1 else Int32.ofNat i)
    rw [if_pos rfl]
    simp only [bX5_book_111L, bX5_book_111, pq_lit]
    simp (disch := omega) only [h47, e1, eq_self, ↓reduceIte, Nat.reduceEqDiff, Nat.reduceLeDiff, Nat.reduceLT, Nat.reduceMul, Nat.reduceAdd, not_true_eq_false, not_false_eq_true, Bool.false_eq_true, pq_lit, pq_add, pq_le, pq_lt, pq_eq, pq_en, pq_ne, pq_nle, pq_nlt, pq_len, pq_ltn, pB_z, pB_o, mzt_0, mzt_1, mzt_B]
  | k + 1, i, m + 1, M, hI, hM, h47, h8, h0, h1, h2, h3 => by
    have e1 : ¬ cnt ≤ i := by omega
    have z1 : ¬ Int32.ofNat 0 ≤ -Int32.ofNat 1 := by simp
    have o := (ho i (by omega)).mp hM
    have dz := m_dz (N := N) (M := M) (hR i (by omega)) o.1
    have ma := m_act (N := N) hI.1 hN o
    rw [← dz] at ma
    have tl : aN (M.2.2.1 6) (ac i) ≤ 5 := actN_le (M.2.2.1 6) o.1
    have o6 := o.1
    have step : ∀ K, bX5_book_111 N K M x1 (-Int32.ofNat 1) (Int32.ofNat i) = mbd (fX5_does N M (g8 (4 * i)) (g8 (4 * i + 1)) (g8 (4 * i + 2)) (g8 (4 * i + 3))) (fun r_11 S_12 => mwr S_12 48 4 (Int32.ofNat 0) r_11 (fun S_14 => mrd (S_14.2.2.1 48) 4 (Int32.ofNat 0) (fun v_16 => if v_16 ≤ Int32.ofNat 0 then mrd (S_14.2.2.1 48) 4 (Int32.ofNat 1) (fun v_19 => mwr S_14 48 4 (Int32.ofNat 1) (v_19 + Int32.ofNat 1) (fun S_21 => bX5_book_195 N K S_21 x1 (-Int32.ofNat 1) (Int32.ofNat i))) else bX5_book_195 N K S_14 x1 (Int32.ofNat i) (Int32.ofNat i)))) := by
      intro K
      simp only [bX5_book_111, pq_lit]
      simp (disch := omega) only [h47, e1, z1, pq_mul, pq_add, ↓mrd_n, mrd_n, h8, eq_self, ↓reduceIte, Nat.reduceEqDiff, Nat.reduceLeDiff, Nat.reduceLT, Nat.reduceMul, Nat.reduceAdd, not_true_eq_false, not_false_eq_true, Bool.false_eq_true, pq_le, pq_lt, pq_eq]
    unfold bkF
    by_cases e : aN (M.2.2.1 6) (ac i) = 0
    · rw [if_pos e]
      have t0 : totN (ac i).1 (aN (M.2.2.1 6) (ac i)) = 0 := totN_z.mpr e
      have fa : actF (M.2.2.1 6) (ac i).1 (ac i).2.1 (ac i).2.2.1 (ac i).2.2.2 = aS (M.2.2.1 6) (ac i) := if_pos e
      rw [t0, fa] at ma
      have sm := sm_aS hI o e
      obtain ⟨M1, hM1⟩ : ∃ M1, M1 = mR (mR M 6 (aS (M.2.2.1 6) (ac i))) 48 (upd (upd (M.2.2.1 48) 0 (Int32.ofNat 0)) 1 (Int32.ofNat (i + 1))) := ⟨_, rfl⟩
      have s1 : mSm [6, 48] M M1 := by rw [hM1]; exact (mSm.rf.mR _ (by decide)).mR _ (by decide)
      have e6 : M1.2.2.1 6 = aS (M.2.2.1 6) (ac i) := by rw [hM1, mA_n _ _ (by omega), mA_e]
      obtain ⟨M2, s2, gf, g1, g2, g3, g4⟩ := m_bkL hN hcnt ho x1 hR k (i + 1) m M1 (by rw [e6]; exact hI.act o e) (by rw [e6]; exact hM.tr sm.mp) ((s1.2 47 (by decide)).1.trans h47) ((s1.2 8 (by decide)).2.trans h8) (by rw [hM1, mA_e, upd_o _ _ (by omega), upd_s]) (by rw [hM1, mA_e, upd_s]) (by omega) (by omega)
      rw [e6] at g1 g2 g3 g4
      refine ⟨M2, s1.tr s2, gf.trans (by rw [hM1]; rfl), g1, g2, g3, ?_⟩
      show bX5_book_111 N (bX5_book_111L N m) M x1 (-Int32.ofNat 1) (Int32.ofNat i) = _
      rw [step, mbd_h ma, ← g4, hM1]
      simp only [bX5_book_195, pq_lit]
      simp (disch := omega) only [↓mwr_n, mwr_n, ma_s, mA_n, ↓mrd_n, mrd_n, mA_e, upd_s, upd_o, Nat.le_refl, h1, mR_mR, eq_self, ↓reduceIte, Nat.reduceEqDiff, Nat.reduceLeDiff, Nat.reduceLT, Nat.reduceMul, Nat.reduceAdd, not_true_eq_false, not_false_eq_true, Bool.false_eq_true, pq_lit, pq_add, pq_le, pq_lt, pq_eq, pq_en, pq_ne, pq_nle, pq_nlt, pq_len, pq_ltn, pB_z, pB_o, mzt_0, mzt_1, mzt_B]
    · rw [if_neg e]
      have t0 : ¬ totN (ac i).1 (aN (M.2.2.1 6) (ac i)) = 0 := fun q => e (totN_z.mp q)
      have fa : actF (M.2.2.1 6) (ac i).1 (ac i).2.1 (ac i).2.2.1 (ac i).2.2.2 = M.2.2.1 6 := if_neg e
      have tl2 : totN (ac i).1 (aN (M.2.2.1 6) (ac i)) ≤ 65 := by unfold totN; rw [if_neg e]; omega
      rw [fa, mR_id] at ma
      obtain ⟨m2, rfl⟩ : ∃ m2, m = m2 + 1 := ⟨m - 1, by omega⟩
      obtain ⟨w, hw⟩ : ∃ w, w = totN (ac i).1 (aN (M.2.2.1 6) (ac i)) := ⟨_, rfl⟩
      have ma' : fX5_does N M (g8 (4 * i)) (g8 (4 * i + 1)) (g8 (4 * i + 2)) (g8 (4 * i + 3)) = some (Int32.ofNat w, M) := by rw [hw]; exact ma
      show ∃ M', mSm [6, 48] M M' ∧ M'.1 = M.1 ∧ M'.2.2.1 6 = M.2.2.1 6 ∧ M'.2.2.1 48 0 = Int32.ofNat (totN (ac i).1 (aN (M.2.2.1 6) (ac i))) ∧ M'.2.2.1 48 1 = Int32.ofNat i ∧ bX5_book_111 N (bX5_book_111L N (m2 + 1)) M x1 (-Int32.ofNat 1) (Int32.ofNat i) = bX5_book_201 N M' x1 (if totN (ac i).1 (aN (M.2.2.1 6) (ac i)) = 0 then -Int32.ofNat 1 else Int32.ofNat i)
      rw [← hw] at t0 tl2 ⊢
      have t1 : ¬ w ≤ 0 := by omega
      obtain ⟨M1, hM1⟩ : ∃ M1, M1 = mR M 48 (upd (M.2.2.1 48) 0 (Int32.ofNat w)) := ⟨_, rfl⟩
      have m47 : M1.1 47 = Int32.ofNat cnt := by rw [hM1]; exact h47
      have m0 : M1.2.2.1 48 0 = Int32.ofNat w := by rw [hM1, mA_e, upd_s]
      refine ⟨M1, by rw [hM1]; exact mSm.rf.mR _ (by decide), by rw [hM1]; rfl, by rw [hM1]; exact mA_n _ _ (by omega), m0, by rw [hM1, mA_e, upd_o _ _ (by omega)]; exact h1, ?_⟩
      have last : bX5_book_111L N (m2 + 1) M1 x1 (Int32.ofNat i) (Int32.ofNat (i + 1)) = bX5_book_201 N M1 x1 (Int32.ofNat i) := by
        show bX5_book_111 N (bX5_book_111L N m2) M1 x1 (Int32.ofNat i) (Int32.ofNat (i + 1)) = _
        unfold bX5_book_111
        by_cases q : cnt ≤ i + 1
        · rw [m47, if_pos (by rw [pq_le (by omega) (by omega)]; exact q)]
        · rw [m47, if_neg (by rw [pq_le (by omega) (by omega)]; exact q), if_pos (by show Int32.ofNat 0 ≤ Int32.ofNat i; rw [pq_le (by omega) (by omega)]; omega)]
      rw [if_neg t0, step, mbd_h ma', mwr_n (by omega) (by omega), ma_s, ← hM1, mrd_n (by omega) (by omega), m0, if_neg (by rw [pq_le (by omega) (by omega)]; exact t1), ← last]
      simp only [bX5_book_195, pq_lit, pq_add]
theorem m_249 {x1 x2 : Int32} {v : Nat} (hv : v < 8) : ∀ (k i m : Nat) (M : MS), M.1 23 = Int32.ofNat (v + 1) → i + k = 47 → k < m → bX5_book_249L N m M x1 x2 (Int32.ofNat i) = bX5_book_283 N (mR M 21 (cpF (M.2.2.1 21) (M.2.2.1 22) (47 * v + i) i k)) x1 x2
  | k, i, 0, M, h1, h2, h3 => by omega
  | 0, i, m + 1, M, h1, h2, h3 => by
    have e1 : 47 ≤ i := by omega
    rw [cpF_0, mR_id]
    simp only [bX5_book_249L, bX5_book_249, pq_lit]
    simp (disch := omega) only [e1, eq_self, ↓reduceIte, Nat.reduceEqDiff, Nat.reduceLeDiff, Nat.reduceLT, Nat.reduceMul, Nat.reduceAdd, not_true_eq_false, not_false_eq_true, Bool.false_eq_true, pq_lit, pq_add, pq_le, pq_lt, pq_eq, pq_en, pq_ne, pq_nle, pq_nlt, pq_len, pq_ltn, pB_z, pB_o, mzt_0, mzt_1, mzt_B]
  | k + 1, i, m + 1, M, h1, h2, h3 => by
    have e1 : ¬ 47 ≤ i := by omega
    have es : Int32.ofNat (v + 1) - Int32.ofNat 1 = Int32.ofNat v := by rw [pq_sub (by omega)]; rfl
    have ih := m_249 (x1 := x1) (x2 := x2) hv k (i + 1) m (mR M 21 (upd (M.2.2.1 21) (47 * v + i) (M.2.2.1 22 i))) h1 (by omega) (by omega)
    rw [mR_mR, mA_e, mA_n _ _ (by omega), ← Nat.add_assoc, cpF_s] at ih
    rw [← ih]
    simp only [bX5_book_249L, bX5_book_249, pq_lit]
    simp (disch := omega) only [e1, h1, es, pq_mul, pq_add, ↓mrd_n, mrd_n, ↓mwr_n, mwr_n, ma_s, eq_self, ↓reduceIte, Nat.reduceEqDiff, Nat.reduceLeDiff, Nat.reduceLT, Nat.reduceMul, Nat.reduceAdd, not_true_eq_false, not_false_eq_true, Bool.false_eq_true, pq_lit, pq_add, pq_le, pq_lt, pq_eq, pq_en, pq_ne, pq_nle, pq_nlt, pq_len, pq_ltn, pB_z, pB_o, mzt_0, mzt_1, mzt_B]
theorem kp_ov {f s s' : St} {g : St} {u : Nat} (hu : u ≤ 8) : cpF (kpF f s' u) (cpF g s 0 91 47) (47 * (kpN u - 1)) 0 47 = kpF f s u := by
  funext k
  unfold kpN kpF
  by_cases e : u = 8
  · rw [if_pos e, if_pos e, if_pos e]
    unfold cpF
    by_cases q : 47 * (8 - 1) ≤ k ∧ k < 47 * (8 - 1) + 47
    · rw [if_pos q, if_pos (by omega), if_pos (by omega)]
      exact congrArg s (by omega)
    · rw [if_neg q, if_neg (by omega), if_neg (by omega)]
  · rw [if_neg e, if_neg e, if_neg e]
    unfold cpF
    by_cases q : 47 * (u + 1 - 1) ≤ k ∧ k < 47 * (u + 1 - 1) + 47
    · rw [if_pos q, if_pos (by omega), if_pos (by omega)]
      exact congrArg s (by omega)
    · rw [if_neg q, if_neg (by omega), if_neg (by omega)]
end BE
