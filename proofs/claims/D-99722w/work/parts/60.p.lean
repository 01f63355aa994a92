/-! caravan: one row is tried, the longest is kept -/
noncomputable def goS (l : Nat) (s : St) (p : Nat) : St := if whyC s p l = Int32.ofNat 0 then crS s p l else s
noncomputable def runS (l : Nat) (s : St) (L : List Nat) : St := L.foldl (goS l) s
noncomputable def kpC (s : St) (l : Nat) (b : Int32 × List Nat) (L : List Nat) : Int32 × List Nat := if b.1 < lenS (runS l s L) then (lenS (runS l s L), L) else b
theorem go_iv {s : St} {l p : Nat} (h : IvA s) (hp : p < nP s) (hl : l < nL s) : IvA (goS l s p) ∧ Sm s (goS l s p) ∧ nP (goS l s p) = nP s ∧ nL (goS l s p) = nL s := by
  have h6 := h.1.p6
  have h7 := h.1.l7
  unfold goS
  split
  · rename_i w
    exact ⟨h.cr hp hl w, sm_cr (by omega) (by omega), (h.1.cr hp hl).2.1, (h.1.cr hp hl).2.2.1⟩
  · exact ⟨h, Sm.rf, rfl, rfl⟩
theorem run_iv {l : Nat} : ∀ (L : List Nat) {s : St}, IvA s → (∀ x, x ∈ L → x < nP s) → l < nL s → IvA (runS l s L) ∧ Sm s (runS l s L) ∧ nP (runS l s L) = nP s ∧ nL (runS l s L) = nL s
  | [], s, h, _, _ => ⟨h, Sm.rf, rfl, rfl⟩
  | p :: L, s, h, hx, hl => by
    obtain ⟨a, b, c, d⟩ := go_iv h (hx p List.mem_cons_self) hl
    obtain ⟨a', b', c', d'⟩ := run_iv L a (fun x q => by rw [c]; exact hx x (List.mem_cons_of_mem _ q)) (by rw [d]; exact hl)
    exact ⟨a', b.tr b', c'.trans c, d'.trans d⟩
theorem len_nn {s : St} (h : IvC s) : ∀ (k p v : Nat), p + k ≤ 6 → v ≤ 240 * p → ∃ w, w ≤ 240 * (p + k) ∧ lenF s (Int32.ofNat v) p k = Int32.ofNat w
  | 0, p, v, _, hv => ⟨v, hv, rfl⟩
  | k + 1, p, v, hk, hv => by
    obtain ⟨f, h1, h2, h3⟩ := h
    have e : s (114 + p) = Int32.ofNat (f (7 + p)) := by
      have := h1 (7 + p) (by omega)
      rw [← this]
      unfold ix
      congr 1
      split <;> omega
    have h4 := h3 p (by omega)
    obtain ⟨w, w1, w2⟩ := len_nn ⟨f, h1, h2, h3⟩ k (p + 1) (v + f (7 + p)) (by omega) (by omega)
    refine ⟨w, by omega, ?_⟩
    unfold lenF
    rw [e, pq_add]
    exact w2
theorem lenS_n {s : St} (h : IvA s) : ∃ w, w ≤ 1440 ∧ lenS s = Int32.ofNat w := by
  have h6 := h.1.p6
  obtain ⟨w, w1, w2⟩ := len_nn h.2.2.2.1 (nP s) 0 0 (by omega) (by omega)
  exact ⟨w, by omega, w2⟩
section OS
variable {E : gE} {N b : Nat} {A : FA} {S : GS} {M : MS}
theorem m_c74 (hN : 1000 ≤ N) {s : St} {f0 : Nat → Int32} {l k : Nat} {best : Int32} (K66 : MS → Int32 → Int32 → Int32 → Int32 → Option (Int32 × MS)) (hk : k ≤ 6) : ∀ (T : List Nat) (i q : Nat) (M : MS), IvA (M.2.2.1 6) → Sm s (M.2.2.1 6) → M.2.2.1 22 = cpF f0 s 0 91 47 → l < nL (M.2.2.1 6) → (∀ x, x ∈ T → x < nP (M.2.2.1 6)) → (∀ j, j < T.length → M.2.2.1 39 (i + j) = Int32.ofNat (T.getD j 0)) → i + T.length = k → T.length < q → bX5_caravan_74L N K66 q M (Int32.ofNat l) (Int32.ofNat k) best (Int32.ofNat i) = if lenS (runS l (M.2.2.1 6) T) ≤ best then bX5_caravan_161 N K66 (mR M 6 s) (Int32.ofNat l) (Int32.ofNat k) best else bX5_caravan_135L N K66 N (mR M 6 s) (Int32.ofNat l) (Int32.ofNat k) (lenS (runS l (M.2.2.1 6) T)) (Int32.ofNat 0)
  | T, i, 0, M, _, _, _, _, _, _, _, h => by omega
  | [], i, q + 1, M, hI, hs, h22, hl, hx, hh, hi, _ => by
    have z : k ≤ i := by simp at hi; omega
    have ml := m_len (N := N) hI.1 (by omega)
    have mb := m_back (N := N) (by omega) M
    rw [h22, bk_sm hs] at mb
    simp only [bX5_caravan_74L, bX5_caravan_74, pq_lit]
    simp (disch := omega) only [z, ↓mbd_h (ml), ml, ↓mbd_h (mb), mb, eq_self, ↓reduceIte, Nat.reduceEqDiff, Nat.reduceLeDiff, Nat.reduceLT, Nat.reduceMul, Nat.reduceAdd, not_true_eq_false, not_false_eq_true, Bool.false_eq_true, pq_lit, pq_add, pq_le, pq_lt, pq_eq, pq_en, pq_ne, pq_nle, pq_nlt, pq_len, pq_ltn, pB_z, pB_o, mzt_0, mzt_1, mzt_B]
    rfl
  | p :: T, i, q + 1, M, hI, hs, h22, hl, hx, hh, hi, hq => by
    rw [List.length_cons] at hi hq
    have z : ¬ k ≤ i := by omega
    have hp : p < nP (M.2.2.1 6) := hx p List.mem_cons_self
    have h7 := hI.1.l7
    have e : M.2.2.1 39 i = Int32.ofNat p := hh 0 (by rw [List.length_cons]; omega)
    have hw := m_whyC (N := N) hI.1 (by omega) hp (show l < 7 by omega)
    have hc := m_cr (N := N) hI.1 hp hl
    obtain ⟨a1, a2, a3, a4⟩ := go_iv hI hp hl
    have hh' : ∀ j, j < T.length → M.2.2.1 39 (i + 1 + j) = Int32.ofNat (T.getD j 0) := fun j hj => by
      have := hh (j + 1) (by rw [List.length_cons]; omega)
      rw [show i + 1 + j = i + (j + 1) by omega, this]
      rfl
    have ih := m_c74 hN (best := best) K66 hk T (i + 1) q (mR M 6 (goS l (M.2.2.1 6) p)) (by rw [mA_e]; exact a1) (by rw [mA_e]; exact hs.tr a2) (by rw [mA_n _ _ (by omega)]; exact h22) (by rw [mA_e, a4]; exact hl) (fun x hx' => by rw [mA_e, a3]; exact hx x (List.mem_cons_of_mem _ hx')) (fun j hj => by rw [mA_n _ _ (by omega)]; exact hh' j hj) (by omega) (by omega)
    rw [mA_e, mR_mR] at ih
    have er : runS l (M.2.2.1 6) (p :: T) = runS l (goS l (M.2.2.1 6) p) T := rfl
    rw [er]
    simp only [bX5_caravan_74L, bX5_caravan_74, bX5_caravan_107, pq_lit]
    by_cases w : whyC (M.2.2.1 6) p l = Int32.ofNat 0
    · have eg : goS l (M.2.2.1 6) p = crS (M.2.2.1 6) p l := if_pos w
      rw [eg] at ih ⊢
      simp (disch := omega) only [z, ↓mrd_n, mrd_n, e, ↓mbd_h (hw), hw, w, ↓mbd_h (hc), hc, mbd_s, pq_add, ih, eq_self, ↓reduceIte, Nat.reduceEqDiff, Nat.reduceLeDiff, Nat.reduceLT, Nat.reduceMul, Nat.reduceAdd, not_true_eq_false, not_false_eq_true, Bool.false_eq_true, pq_lit, pq_add, pq_le, pq_lt, pq_eq, pq_en, pq_ne, pq_nle, pq_nlt, pq_len, pq_ltn, pB_z, pB_o, mzt_0, mzt_1, mzt_B]
    · have eg : goS l (M.2.2.1 6) p = M.2.2.1 6 := if_neg w
      rw [eg] at ih ⊢
      rw [mR_id] at ih
      simp (disch := omega) only [z, ↓mrd_n, mrd_n, e, ↓mbd_h (hw), hw, mbd_s, w, pq_add, ih, eq_self, ↓reduceIte, Nat.reduceEqDiff, Nat.reduceLeDiff, Nat.reduceLT, Nat.reduceMul, Nat.reduceAdd, not_true_eq_false, not_false_eq_true, Bool.false_eq_true, pq_lit, pq_add, pq_le, pq_lt, pq_eq, pq_en, pq_ne, pq_nle, pq_nlt, pq_len, pq_ltn, pB_z, pB_o, mzt_0, mzt_1, mzt_B]
theorem m_c135 (hN : 1000 ≤ N) {l k : Nat} {best : Int32} (K66 : MS → Int32 → Int32 → Int32 → Int32 → Option (Int32 × MS)) (hk : k ≤ 6) : ∀ (m i q : Nat) (M : MS), i + m = k → m < q → bX5_caravan_135L N K66 q M (Int32.ofNat l) (Int32.ofNat k) best (Int32.ofNat i) = bX5_caravan_161 N K66 (mR M 40 (cpF (M.2.2.1 40) (M.2.2.1 39) i i m)) (Int32.ofNat l) (Int32.ofNat k) best
  | m, i, 0, M, _, h => by omega
  | 0, i, q + 1, M, hi, _ => by
    have z : k ≤ i := by omega
    simp only [bX5_caravan_135L, bX5_caravan_135, pq_lit]
    simp (disch := omega) only [z, cpF_0, mR_id, eq_self, ↓reduceIte, Nat.reduceEqDiff, Nat.reduceLeDiff, Nat.reduceLT, Nat.reduceMul, Nat.reduceAdd, not_true_eq_false, not_false_eq_true, Bool.false_eq_true, pq_lit, pq_add, pq_le, pq_lt, pq_eq, pq_en, pq_ne, pq_nle, pq_nlt, pq_len, pq_ltn, pB_z, pB_o, mzt_0, mzt_1, mzt_B]
  | m + 1, i, q + 1, M, hi, hq => by
    have z : ¬ k ≤ i := by omega
    have ih := m_c135 hN (l := l) (best := best) K66 hk m (i + 1) q (mR M 40 (upd (M.2.2.1 40) i (M.2.2.1 39 i))) (by omega) (by omega)
    simp (disch := omega) only [mA_e, mA_n, mR_mR, cpF_s] at ih
    simp only [bX5_caravan_135L, bX5_caravan_135, pq_lit]
    simp (disch := omega) only [z, ↓mrd_n, mrd_n, ↓mwr_n, mwr_n, ma_s, pq_add, ih, eq_self, ↓reduceIte, Nat.reduceEqDiff, Nat.reduceLeDiff, Nat.reduceLT, Nat.reduceMul, Nat.reduceAdd, not_true_eq_false, not_false_eq_true, Bool.false_eq_true, pq_lit, pq_add, pq_le, pq_lt, pq_eq, pq_en, pq_ne, pq_nle, pq_nlt, pq_len, pq_ltn, pB_z, pB_o, mzt_0, mzt_1, mzt_B]
theorem Hold.cp {f g : Nat → Int32} {L : List Nat} {k : Nat} (h : Hold g L) (hk : L.length = k) : Hold (cpF f g 0 0 k) L := by
  intro i hi
  unfold cpF
  rw [if_pos (by omega), Nat.zero_add, Nat.sub_zero]
  exact h i hi
theorem getD_mem {L : List Nat} {n : Nat} (h : ∀ x, x ∈ L → x < n) (h0 : n ≤ 7) : Sml L := by
  intro i
  rw [List.getD_eq_getElem?_getD]
  cases e : L[i]? with
  | none => simp
  | some x =>
    have := h x (List.mem_of_getElem? e)
    simp
    omega
/-- all the rows, from one on -/
theorem m_c66 (hN : 1000 ≤ N) {s : St} {f0 : Nat → Int32} {l k n : Nat} (hs : IvA s) (hl : l < nL s) (hn : nP s = n) (hk : k ≤ 6) : ∀ (f q : Nat) (L : List Nat) (P : List (List Nat)) (bst : Int32 × List Nat) (M : MS), allN f L = some P → P.all (okN n k) = true → f < q → M.2.2.1 6 = s → M.2.2.1 22 = cpF f0 s 0 91 47 → Hold (M.2.2.1 39) L → Hold (M.2.2.1 40) bst.2 → ∃ M', mSm [39, 40] M M' ∧ Hold (M'.2.2.1 40) (P.foldl (kpC s l) bst).2 ∧ bX5_caravan_66L N q M (Int32.ofNat l) (Int32.ofNat k) bst.1 (Int32.ofNat 1) = some ((P.foldl (kpC s l) bst).1, mF M' 41 (Int32.ofNat k))
  | 0, q, L, P, bst, M, hP, _, _, _, _, _, _ => by simp [allN] at hP
  | f + 1, 0, L, P, bst, M, _, _, h, _, _, _, _ => by omega
  | f + 1, q + 1, L, P, bst, M, hP, hok, hq, h6, h22, h39, h40 => by
    have h6n := hs.1.p6
    obtain ⟨P', hP'⟩ : ∃ P', P = L :: P' := by
      unfold allN at hP
      cases e : nxN L with
      | none => rw [e] at hP; injection hP with hP; exact ⟨[], hP.symm⟩
      | some L' =>
        rw [e] at hP
        cases e2 : allN f L' with
        | none => simp [e2] at hP
        | some Q => simp [e2] at hP; exact ⟨Q, hP.symm⟩
    subst hP'
    rw [List.all_cons, Bool.and_eq_true] at hok
    obtain ⟨ok1, ok2⟩ := hok
    unfold okN at ok1
    simp only [Bool.and_eq_true, beq_iff_eq, List.all_eq_true, decide_eq_true_eq] at ok1
    obtain ⟨hlen, hmem⟩ := ok1
    have hsm : Sml L := getD_mem hmem (by omega)
    have tail : ∀ (M2 : MS) (b' : Int32 × List Nat), M2.2.2.1 6 = s → M2.2.2.1 22 = cpF f0 s 0 91 47 → Hold (M2.2.2.1 39) L → Hold (M2.2.2.1 40) b'.2 → ∃ M', mSm [39, 40] M2 M' ∧ Hold (M'.2.2.1 40) (P'.foldl (kpC s l) b').2 ∧ bX5_caravan_161 N (bX5_caravan_66L N q) M2 (Int32.ofNat l) (Int32.ofNat k) b'.1 = some ((P'.foldl (kpC s l) b').1, mF M' 41 (Int32.ofNat k)) := by
      intro M2 b' g6 g22 g39 g40
      have ro := m_reo (N := N) hN g39 hsm (by omega) hlen
      unfold allN at hP
      cases e : nxN L with
      | none =>
        rw [e] at hP ro
        injection hP with hP
        injection hP with _ hP
        subst hP
        refine ⟨M2, mSm.rf, g40, ?_⟩
        have ro' : fX5_reorders N M2 (Int32.ofNat k) = some (Int32.ofNat 0, M2) := ro
        obtain ⟨q', rfl⟩ : ∃ q', q = q' + 1 := ⟨q - 1, by omega⟩
        simp only [bX5_caravan_161, bX5_caravan_66L, bX5_caravan_66, pq_lit]
        simp (disch := omega) only [↓mbd_h (ro'), ro', mbd_s, ↓mpt, eq_self, ↓reduceIte, Nat.reduceEqDiff, Nat.reduceLeDiff, Nat.reduceLT, Nat.reduceMul, Nat.reduceAdd, not_true_eq_false, not_false_eq_true, Bool.false_eq_true, pq_lit, pq_add, pq_le, pq_lt, pq_eq, pq_en, pq_ne, pq_nle, pq_nlt, pq_len, pq_ltn, pB_z, pB_o, mzt_0, mzt_1, mzt_B]
        rfl
      | some L' =>
        rw [e] at hP ro
        have hP2 : allN f L' = some P' := by
          cases e2 : allN f L' with
          | none => simp [e2] at hP
          | some Q => simp [e2] at hP; rw [hP]
        obtain ⟨f', r1, r2⟩ := ro
        obtain ⟨M', m1, m2, m3⟩ := m_c66 hN hs hl hn hk f q L' P' b' (mR M2 39 f') hP2 ok2 (by omega) (by rw [mA_n _ _ (by omega)]; exact g6) (by rw [mA_n _ _ (by omega)]; exact g22) (by rw [mA_e]; exact r1) (by rw [mA_n _ _ (by omega)]; exact g40)
        refine ⟨M', ((mSm.rf (ks := [39, 40])).mR _ (by decide)).tr m1, m2, ?_⟩
        simp only [bX5_caravan_161, pq_lit]
        simp (disch := omega) only [↓mbd_h (r2), r2, mbd_s, m3, eq_self, ↓reduceIte, Nat.reduceEqDiff, Nat.reduceLeDiff, Nat.reduceLT, Nat.reduceMul, Nat.reduceAdd, not_true_eq_false, not_false_eq_true, Bool.false_eq_true, pq_lit, pq_add, pq_le, pq_lt, pq_eq, pq_en, pq_ne, pq_nle, pq_nlt, pq_len, pq_ltn, pB_z, pB_o, mzt_0, mzt_1, mzt_B]
    have c74 := m_c74 (N := N) hN (s := s) (f0 := f0) (l := l) (k := k) (best := bst.1) (bX5_caravan_66L N q) hk L 0 N M (by rw [h6]; exact hs) (by rw [h6]; exact Sm.rf) h22 (by rw [h6]; exact hl) (fun x hx => by rw [h6, hn]; exact hmem x hx) (fun j hj => by rw [Nat.zero_add]; exact h39 j hj) (by omega) (by omega)
    have em : mR M 6 s = M := by rw [← h6]; exact mR_id M 6
    rw [h6, em] at c74
    have st : bX5_caravan_66L N (q + 1) M (Int32.ofNat l) (Int32.ofNat k) bst.1 (Int32.ofNat 1) = bX5_caravan_74L N (bX5_caravan_66L N q) N M (Int32.ofNat l) (Int32.ofNat k) bst.1 (Int32.ofNat 0) := by
      simp only [bX5_caravan_66L, bX5_caravan_66, pq_lit]
      simp (disch := omega) only [eq_self, ↓reduceIte, Nat.reduceEqDiff, Nat.reduceLeDiff, Nat.reduceLT, Nat.reduceMul, Nat.reduceAdd, not_true_eq_false, not_false_eq_true, Bool.false_eq_true, pq_lit, pq_add, pq_le, pq_lt, pq_eq, pq_en, pq_ne, pq_nle, pq_nlt, pq_len, pq_ltn, pB_z, pB_o, mzt_0, mzt_1, mzt_B]
    rw [st, c74]
    show ∃ M', mSm [39, 40] M M' ∧ Hold (M'.2.2.1 40) (P'.foldl (kpC s l) (kpC s l bst L)).2 ∧ _ = some ((P'.foldl (kpC s l) (kpC s l bst L)).1, mF M' 41 (Int32.ofNat k))
    by_cases w : lenS (runS l s L) ≤ bst.1
    · have ek : kpC s l bst L = bst := if_neg (Int32.not_lt.mpr w)
      rw [if_pos w, ek]
      exact tail M bst h6 h22 h39 h40
    · have ek : kpC s l bst L = (lenS (runS l s L), L) := if_pos (Int32.not_le.mp w)
      rw [if_neg w, ek, m_c135 hN (bX5_caravan_66L N q) hk k 0 N M (by omega) (by omega)]
      obtain ⟨M', m1, m2, m3⟩ := tail (mR M 40 (cpF (M.2.2.1 40) (M.2.2.1 39) 0 0 k)) (lenS (runS l s L), L) (by rw [mA_n _ _ (by omega)]; exact h6) (by rw [mA_n _ _ (by omega)]; exact h22) (by rw [mA_n _ _ (by omega)]; exact h39) (by rw [mA_e]; exact h39.cp hlen)
      exact ⟨M', ((mSm.rf (ks := [39, 40])).mR _ (by decide)).tr m1, m2, m3⟩
end OS
