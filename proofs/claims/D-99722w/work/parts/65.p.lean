/-! said: the tree and the codes -/
theorem nb_t : vp_nar .boolean (Int32.ofNat 1) = Int32.ofNat 1 := by decide
theorem nb_f : vp_nar .boolean (Int32.ofNat 0) = Int32.ofNat 0 := by decide
theorem nb_b (v : Bool) : vp_nar .boolean (bI v) = bI v := by cases v <;> decide
theorem bI_0 (v : Bool) : (bI v = Int32.ofNat 0) = (v = false) := by cases v <;> simp [bI]
theorem CdIn.l {f : St} {o : Nat} {c1 c2 : List Cd} (h : CdIn f o (c1 ++ c2)) : CdIn f o c1 := fun j x hx => h j x (by
  have hj : j < c1.length := (List.getElem?_eq_some_iff.mp hx).1
  rw [List.getElem?_append_left hj]; exact hx)
theorem CdIn.r {f : St} {o : Nat} {c1 c2 : List Cd} (h : CdIn f o (c1 ++ c2)) : CdIn f (o + 3 * c1.length) c2 := fun j x hx => by
  have := h (c1.length + j) x (by rw [List.getElem?_append_right (by omega), Nat.add_sub_cancel_left]; exact hx)
  rw [show o + 3 * (c1.length + j) = o + 3 * c1.length + 3 * j by omega] at this
  exact this
section OX
variable {E : gE} {N b : Nat} {A : FA} {S : GS} {M : MS} {a : Nat} {d : AD} {p : Nat}
theorem m_s20 {s : St} {L D i q : Nat} {v : Bool} (h6 : M.2.2.1 6 = s) (hL : s 138 = Int32.ofNat L) (hi : i < L) (h45 : L ≤ 45) (hD : D < 45) (hc : s (139 + 3 * i) = Int32.ofNat 20) (hv : M.2.2.1 56 D = bI v) : bX5_isSaid_4L N (q + 1) M (Int32.ofNat p) (Int32.ofNat (D + 1)) (Int32.ofNat i) = bX5_isSaid_4L N q (mR M 56 (upd (M.2.2.1 56) D (bI (!v)))) (Int32.ofNat p) (Int32.ofNat (D + 1)) (Int32.ofNat (i + 1)) := by
  have z : ¬ L ≤ i := by omega
  have e : Int32.ofNat (D + 1) - Int32.ofNat 1 = Int32.ofNat D := pq_sub (by omega)
  conv => lhs; simp only [bX5_isSaid_4L, bX5_isSaid_4, bX5_isSaid_60, bX5_isSaid_206, pq_lit]
  cases v with
  | true => simp (disch := omega) only [↓mrd_n, mrd_n, h6, hL, z, pq_mul, pq_add, hc, e, hv, bI_t, bI_f, Bool.not_true, nb_f, ↓mwr_n, mwr_n, ma_s, eq_self, ↓reduceIte, Nat.reduceEqDiff, Nat.reduceLeDiff, Nat.reduceLT, Nat.reduceMul, Nat.reduceAdd, not_true_eq_false, not_false_eq_true, Bool.false_eq_true, pq_lit, pq_add, pq_le, pq_lt, pq_eq, pq_en, pq_ne, pq_nle, pq_nlt, pq_len, pq_ltn, pB_z, pB_o, mzt_0, mzt_1, mzt_B]
  | false => simp (disch := omega) only [↓mrd_n, mrd_n, h6, hL, z, pq_mul, pq_add, hc, e, hv, bI_t, bI_f, Bool.not_false, nb_t, ↓mwr_n, mwr_n, ma_s, eq_self, ↓reduceIte, Nat.reduceEqDiff, Nat.reduceLeDiff, Nat.reduceLT, Nat.reduceMul, Nat.reduceAdd, not_true_eq_false, not_false_eq_true, Bool.false_eq_true, pq_lit, pq_add, pq_le, pq_lt, pq_eq, pq_en, pq_ne, pq_nle, pq_nlt, pq_len, pq_ltn, pB_z, pB_o, mzt_0, mzt_1, mzt_B]
theorem m_s21 {s : St} {L D i q k : Nat} {v w : Bool} (h6 : M.2.2.1 6 = s) (hL : s 138 = Int32.ofNat L) (hi : i < L) (h45 : L ≤ 45) (hD : D + 1 < 45) (hk : k = 21 ∨ k = 22) (hc : s (139 + 3 * i) = Int32.ofNat k) (hv : M.2.2.1 56 D = bI v) (hw : M.2.2.1 56 (D + 1) = bI w) : bX5_isSaid_4L N (q + 1) M (Int32.ofNat p) (Int32.ofNat (D + 2)) (Int32.ofNat i) = bX5_isSaid_4L N q (mR M 56 (upd (M.2.2.1 56) D (bI (if k = 21 then v && w else v || w)))) (Int32.ofNat p) (Int32.ofNat (D + 1)) (Int32.ofNat (i + 1)) := by
  have z : ¬ L ≤ i := by omega
  have e1 : Int32.ofNat (D + 2) + -Int32.ofNat 1 = Int32.ofNat (D + 1) := dn_s (D + 2) (by omega)
  have e : Int32.ofNat (D + 1) - Int32.ofNat 1 = Int32.ofNat D := pq_sub (by omega)
  conv => lhs; simp only [bX5_isSaid_4L, bX5_isSaid_4, bX5_isSaid_88, bX5_isSaid_134, bX5_isSaid_158, bX5_isSaid_163, bX5_isSaid_206, pq_lit]
  rcases hk with rfl | rfl <;> cases v <;> cases w <;> simp (disch := omega) only [↓mrd_n, mrd_n, h6, hL, z, pq_mul, pq_add, hc, e1, e, hv, hw, bI_t, bI_f, Bool.and_true, Bool.and_false, Bool.or_true, Bool.or_false, nb_f, nb_t, ↓mwr_n, mwr_n, ma_s, eq_self, ↓reduceIte, Nat.reduceEqDiff, Nat.reduceLeDiff, Nat.reduceLT, Nat.reduceMul, Nat.reduceAdd, not_true_eq_false, not_false_eq_true, Bool.false_eq_true, pq_lit, pq_add, pq_le, pq_lt, pq_eq, pq_en, pq_ne, pq_nle, pq_nlt, pq_len, pq_ltn, pB_z, pB_o, mzt_0, mzt_1, mzt_B]
theorem m_sL {s : St} {L D i q c g k : Nat} {v : Bool} (h6 : M.2.2.1 6 = s) (hL : s 138 = Int32.ofNat L) (hi : i < L) (h45 : L ≤ 45) (hD : D < 45) (hc : c < 20) (h0 : s (139 + 3 * i) = Int32.ofNat c) (h1 : s (139 + 3 * i + 1) = Int32.ofNat g) (h2 : s (139 + 3 * i + 2) = Int32.ofNat k) (hv : fX5_isLeaf N M (Int32.ofNat p) (Int32.ofNat c) (Int32.ofNat g) (Int32.ofNat k) = some (bI v, M)) : bX5_isSaid_4L N (q + 1) M (Int32.ofNat p) (Int32.ofNat D) (Int32.ofNat i) = bX5_isSaid_4L N q (mR M 56 (upd (M.2.2.1 56) D (bI v))) (Int32.ofNat p) (Int32.ofNat (D + 1)) (Int32.ofNat (i + 1)) := by
  have z : ¬ L ≤ i := by omega
  have z0 : ¬ c = 20 := by omega
  have z1 : ¬ c = 21 := by omega
  have z2 : ¬ c = 22 := by omega
  conv => lhs; simp only [bX5_isSaid_4L, bX5_isSaid_4, bX5_isSaid_206, pq_lit]
  simp (disch := omega) only [↓mrd_n, mrd_n, h6, hL, z, pq_mul, pq_add, h0, h1, h2, z0, z1, z2, ↓mbd_h (hv), hv, mbd_s, nb_b, ↓mwr_n, mwr_n, ma_s, eq_self, ↓reduceIte, Nat.reduceEqDiff, Nat.reduceLeDiff, Nat.reduceLT, Nat.reduceMul, Nat.reduceAdd, not_true_eq_false, not_false_eq_true, Bool.false_eq_true, pq_lit, pq_add, pq_le, pq_lt, pq_eq, pq_en, pq_ne, pq_nle, pq_nlt, pq_len, pq_ltn, pB_z, pB_o, mzt_0, mzt_1, mzt_B]
/-- both at once -/
theorem cnd_b (hN : 1000 ≤ N) (hT : TA b S A 0 a d) (hp : p < nP (tS A 0)) {L : Nat} (hL : tS A 0 138 = Int32.ofNat L) (h45 : L ≤ 45) : ∀ (n r : Nat) (c : List Cd), CndAt b S (nL (tS A 0)) n r c → ∃ v : Bool, 1 ≤ c.length ∧ (∀ dd, n ≤ dd → zX31_holds E N dd (put b A S) (some r) (some (tad b 0)) (Int32.ofNat p) = some (bI v, put b A S)) ∧ ∀ (q D i : Nat) (M : MS), M.2.2.1 6 = tS A 0 → CdIn (tS A 0) (139 + 3 * i) c → D ≤ i → i + c.length ≤ L → ∃ f', (∀ j, j < D → f' j = M.2.2.1 56 j) ∧ f' D = bI v ∧ bX5_isSaid_4L N (q + c.length) M (Int32.ofNat p) (Int32.ofNat D) (Int32.ofNat i) = bX5_isSaid_4L N q (mR M 56 f') (Int32.ofNat p) (Int32.ofNat (D + 1)) (Int32.ofNat (i + c.length))
  | 0, _, _, h => h.elim
  | n + 1, r, c, h => by
    have h6 := hT.2.2.2.p6
    have h7 := hT.2.2.2.l7
    have up : ∀ (f : Nat → Int32) (D : Nat) (x : Int32) (j : Nat), j < D → upd f D x j = f j := fun f D x j hj => upd_o _ _ (by omega)
    rcases h with ⟨q, c1, h1, h2, h3⟩ | ⟨q1, q2, c1, c2, h1, h2, h3, h4⟩ | ⟨q1, q2, c1, c2, h1, h2, h3, h4⟩ | ⟨h1, h2⟩ | ⟨h1, h2⟩ | ⟨w, l, h1, h2, h3, h4⟩ | ⟨w, g, k, h1, h2, h3, h4, h5⟩
    · obtain ⟨v, l1, e1, e2⟩ := cnd_b hN hT hp hL h45 n q c1 h2
      subst h3
      refine ⟨!v, by simp, fun dd hd => ?_, fun q' D i M m6 hc hD hi => ?_⟩
      · obtain ⟨dd, rfl⟩ : ∃ k, dd = k + 1 := ⟨dd - 1, by omega⟩
        have x1 := e1 dd (by omega)
        have g0 : ∀ {β : Type} (K : Option Nat → Option β), ggr (put b A S) (some r) 100 K = K (some q) := fun K => ggr_as (h1.at A) rfl rfl K
        simp only [zX31_holds, vbInchBorders_Cond_holds__LInchBorders_Times_I_Z]
        rw [kc h1]
        simp only [fX27_holds, bX27_holds_0, bX27_holds_17, pq_lit]
        cases v <;> simp (disch := omega) only [↓g0, ↓gbd_h (x1), x1, bI_t, bI_f, Bool.not_true, Bool.not_false, mzt_0, mzt_1, pq_lit, pq_add, pq_le, pq_lt, pq_eq, pq_en, pq_ne, pq_nle, pq_nlt, pq_len, pq_ltn, pB_z, pB_o, mzt_0, mzt_1, mzt_B, ↓gbd_s, gbd_s, ↓gnn_s, ↓grf_s, eq_self, ↓reduceIte, Nat.reduceEqDiff, Nat.reduceLeDiff, Nat.reduceLT, Nat.reduceMul, Nat.reduceAdd, not_true_eq_false, not_false_eq_true, Bool.false_eq_true]
      · have el : (c1 ++ [(20, 0, 0)]).length = c1.length + 1 := by simp
        rw [el] at hi ⊢
        obtain ⟨f1, a1, a2, a3⟩ := e2 (q' + 1) D i M m6 hc.l hD (by omega)
        have hc2 := hc.r
        rw [show 139 + 3 * i + 3 * c1.length = 139 + 3 * (i + c1.length) by omega] at hc2
        have st := m_s20 (N := N) (M := mR M 56 f1) (s := tS A 0) (L := L) (D := D) (i := i + c1.length) (q := q') (p := p) (v := v) (by rw [mA_n _ _ (by omega)]; exact m6) hL (by omega) h45 (by omega) (hc2 0 _ rfl).1 (by rw [mA_e]; exact a2)
        rw [mR_mR, mA_e] at st
        refine ⟨upd f1 D (bI (!v)), fun j hj => ?_, upd_s _ _ _, ?_⟩
        · rw [up _ _ _ _ hj, a1 j hj]
        · rw [show q' + (c1.length + 1) = q' + 1 + c1.length by omega, a3]
          exact st
    · obtain ⟨v, l1, e1, e2⟩ := cnd_b hN hT hp hL h45 n q1 c1 h2
      obtain ⟨w, l2, e3, e4⟩ := cnd_b hN hT hp hL h45 n q2 c2 h3
      subst h4
      refine ⟨v && w, by simp; omega, fun dd hd => ?_, fun q' D i M m6 hc hD hi => ?_⟩
      · obtain ⟨dd, rfl⟩ : ∃ k, dd = k + 1 := ⟨dd - 1, by omega⟩
        have x1 := e1 dd (by omega)
        have x2 := e3 dd (by omega)
        have g7 : ∀ {β : Type} (K : Option Nat → Option β), ggr (put b A S) (some r) 107 K = K (some q1) := fun K => ggr_as (h1.at A) rfl rfl K
        have g8 : ∀ {β : Type} (K : Option Nat → Option β), ggr (put b A S) (some r) 108 K = K (some q2) := fun K => ggr_as (h1.at A) rfl rfl K
        have g9 : ∀ {β : Type} (K : Int32 → Option β), ggi (put b A S) (some r) 109 K = K (Int32.ofNat 1) := fun K => ggi_at (h1.at A) rfl rfl K
        simp only [zX31_holds, vbInchBorders_Cond_holds__LInchBorders_Times_I_Z]
        rw [kc h1]
        simp only [fX31_holds, bX31_holds_0, bX31_holds_35, bX31_holds_63, bX31_holds_68, pq_lit]
        cases v <;> cases w <;> simp (disch := omega) only [↓g7, ↓g8, ↓g9, ↓gbd_h (x1), x1, ↓gbd_h (x2), x2, bI_t, bI_f, Bool.and_true, Bool.and_false, Bool.or_true, Bool.or_false, mzt_0, mzt_1, pq_lit, pq_add, pq_le, pq_lt, pq_eq, pq_en, pq_ne, pq_nle, pq_nlt, pq_len, pq_ltn, pB_z, pB_o, mzt_0, mzt_1, mzt_B, ↓gbd_s, gbd_s, ↓gnn_s, ↓grf_s, eq_self, ↓reduceIte, Nat.reduceEqDiff, Nat.reduceLeDiff, Nat.reduceLT, Nat.reduceMul, Nat.reduceAdd, not_true_eq_false, not_false_eq_true, Bool.false_eq_true]
      · rw [List.append_assoc] at hc
        have el : (c1 ++ c2 ++ [(21, 0, 0)]).length = c1.length + c2.length + 1 := by simp; omega
        rw [el] at hi ⊢
        obtain ⟨f1, a1, a2, a3⟩ := e2 (q' + 1 + c2.length) D i M m6 hc.l hD (by omega)
        have hc2 := hc.r.l
        have hc3 := hc.r.r
        rw [show 139 + 3 * i + 3 * c1.length = 139 + 3 * (i + c1.length) by omega] at hc2 hc3
        rw [show 139 + 3 * (i + c1.length) + 3 * c2.length = 139 + 3 * (i + c1.length + c2.length) by omega] at hc3
        obtain ⟨f2, b1, b2, b3⟩ := e4 (q' + 1) (D + 1) (i + c1.length) (mR M 56 f1) (by rw [mA_n _ _ (by omega)]; exact m6) hc2 (by omega) (by omega)
        rw [mR_mR] at b3
        have st := m_s21 (N := N) (M := mR M 56 f2) (s := tS A 0) (L := L) (D := D) (i := i + c1.length + c2.length) (q := q') (p := p) (k := 21) (v := v) (w := w) (by rw [mA_n _ _ (by omega)]; exact m6) hL (by omega) h45 (by omega) (by omega) (hc3 0 _ rfl).1 (by rw [mA_e, b1 D (by omega), mA_e]; exact a2) (by rw [mA_e]; exact b2)
        rw [mR_mR, mA_e, if_pos rfl] at st
        refine ⟨upd f2 D (bI (v && w)), fun j hj => ?_, upd_s _ _ _, ?_⟩
        · rw [up _ _ _ _ hj, b1 j (by omega), mA_e, a1 j hj]
        · rw [show q' + (c1.length + c2.length + 1) = q' + 1 + c2.length + c1.length by omega, a3, b3, show i + (c1.length + c2.length + 1) = i + c1.length + c2.length + 1 by omega]
          exact st
    · obtain ⟨v, l1, e1, e2⟩ := cnd_b hN hT hp hL h45 n q1 c1 h2
      obtain ⟨w, l2, e3, e4⟩ := cnd_b hN hT hp hL h45 n q2 c2 h3
      subst h4
      refine ⟨v || w, by simp; omega, fun dd hd => ?_, fun q' D i M m6 hc hD hi => ?_⟩
      · obtain ⟨dd, rfl⟩ : ∃ k, dd = k + 1 := ⟨dd - 1, by omega⟩
        have x1 := e1 dd (by omega)
        have x2 := e3 dd (by omega)
        have g7 : ∀ {β : Type} (K : Option Nat → Option β), ggr (put b A S) (some r) 107 K = K (some q1) := fun K => ggr_as (h1.at A) rfl rfl K
        have g8 : ∀ {β : Type} (K : Option Nat → Option β), ggr (put b A S) (some r) 108 K = K (some q2) := fun K => ggr_as (h1.at A) rfl rfl K
        have g9 : ∀ {β : Type} (K : Int32 → Option β), ggi (put b A S) (some r) 109 K = K (Int32.ofNat 0) := fun K => ggi_at (h1.at A) rfl rfl K
        simp only [zX31_holds, vbInchBorders_Cond_holds__LInchBorders_Times_I_Z]
        rw [kc h1]
        simp only [fX31_holds, bX31_holds_0, bX31_holds_35, bX31_holds_63, bX31_holds_68, pq_lit]
        cases v <;> cases w <;> simp (disch := omega) only [↓g7, ↓g8, ↓g9, ↓gbd_h (x1), x1, ↓gbd_h (x2), x2, bI_t, bI_f, Bool.and_true, Bool.and_false, Bool.or_true, Bool.or_false, mzt_0, mzt_1, pq_lit, pq_add, pq_le, pq_lt, pq_eq, pq_en, pq_ne, pq_nle, pq_nlt, pq_len, pq_ltn, pB_z, pB_o, mzt_0, mzt_1, mzt_B, ↓gbd_s, gbd_s, ↓gnn_s, ↓grf_s, eq_self, ↓reduceIte, Nat.reduceEqDiff, Nat.reduceLeDiff, Nat.reduceLT, Nat.reduceMul, Nat.reduceAdd, not_true_eq_false, not_false_eq_true, Bool.false_eq_true]
      · rw [List.append_assoc] at hc
        have el : (c1 ++ c2 ++ [(22, 0, 0)]).length = c1.length + c2.length + 1 := by simp; omega
        rw [el] at hi ⊢
        obtain ⟨f1, a1, a2, a3⟩ := e2 (q' + 1 + c2.length) D i M m6 hc.l hD (by omega)
        have hc2 := hc.r.l
        have hc3 := hc.r.r
        rw [show 139 + 3 * i + 3 * c1.length = 139 + 3 * (i + c1.length) by omega] at hc2 hc3
        rw [show 139 + 3 * (i + c1.length) + 3 * c2.length = 139 + 3 * (i + c1.length + c2.length) by omega] at hc3
        obtain ⟨f2, b1, b2, b3⟩ := e4 (q' + 1) (D + 1) (i + c1.length) (mR M 56 f1) (by rw [mA_n _ _ (by omega)]; exact m6) hc2 (by omega) (by omega)
        rw [mR_mR] at b3
        have st := m_s21 (N := N) (M := mR M 56 f2) (s := tS A 0) (L := L) (D := D) (i := i + c1.length + c2.length) (q := q') (p := p) (k := 22) (v := v) (w := w) (by rw [mA_n _ _ (by omega)]; exact m6) hL (by omega) h45 (by omega) (by omega) (hc3 0 _ rfl).1 (by rw [mA_e, b1 D (by omega), mA_e]; exact a2) (by rw [mA_e]; exact b2)
        rw [mR_mR, mA_e, if_neg (by decide)] at st
        refine ⟨upd f2 D (bI (v || w)), fun j hj => ?_, upd_s _ _ _, ?_⟩
        · rw [up _ _ _ _ hj, b1 j (by omega), mA_e, a1 j hj]
        · rw [show q' + (c1.length + c2.length + 1) = q' + 1 + c2.length + c1.length by omega, a3, b3, show i + (c1.length + c2.length + 1) = i + c1.length + c2.length + 1 by omega]
          exact st
    · subst h2
      refine ⟨decide (tS A 0 (108 + p) = tS A 0 (79 + p)), Nat.le_refl _, fun dd hd => ?_, fun q D i M m6 hc hD hi => ⟨_, up _ D _, upd_s _ _ _, m_sL (c := 0) (g := 0) (k := 0) m6 hL (by simp at hi; omega) h45 (by simp at hi; omega) (by omega) (hc 0 _ rfl).1 (hc 0 _ rfl).2.1 (hc 0 _ rfl).2.2 (by rw [← m6]; exact m_lH (by omega) _ _)⟩⟩
      obtain ⟨dd, rfl⟩ : ∃ k, dd = k + 1 := ⟨dd - 1, by omega⟩
      simp only [zX31_holds, vbInchBorders_Cond_holds__LInchBorders_Times_I_Z]
      rw [kc h1]
      exact c_lH hT hp h1
    · subst h2
      refine ⟨decide (canS (tS A 0) p = Int32.ofNat 0), Nat.le_refl _, fun dd hd => ?_, fun q D i M m6 hc hD hi => ⟨_, up _ D _, upd_s _ _ _, m_sL (c := 1) (g := 0) (k := 0) m6 hL (by simp at hi; omega) h45 (by simp at hi; omega) (by omega) (hc 0 _ rfl).1 (hc 0 _ rfl).2.1 (hc 0 _ rfl).2.2 (by rw [← m6]; exact m_lC (by rw [m6]; exact hT.2.2.2) (by omega) (by rw [m6]; exact hp) _ _)⟩⟩
      obtain ⟨dd, rfl⟩ : ∃ k, dd = k + 1 := ⟨dd - 1, by omega⟩
      simp only [zX31_holds, vbInchBorders_Cond_holds__LInchBorders_Times_I_Z]
      rw [kc h1]
      exact c_lC hT (by omega) hp h1
    · subst h4
      refine ⟨ofV (tS A 0) p w l, Nat.le_refl _, fun dd hd => ?_, fun q D i M m6 hc hD hi => ⟨_, up _ D _, upd_s _ _ _, m_sL (c := 2 + w) (g := 0) (k := l) m6 hL (by simp at hi; omega) h45 (by simp at hi; omega) (by omega) (hc 0 _ rfl).1 (hc 0 _ rfl).2.1 (hc 0 _ rfl).2.2 (by rw [← m6]; exact m_lO (by rw [m6]; exact hT.2.2.2) (by rw [m6]; exact hp) _ h1 (by omega))⟩⟩
      obtain ⟨dd, rfl⟩ : ∃ k, dd = k + 1 := ⟨dd - 1, by omega⟩
      simp only [zX31_holds, vbInchBorders_Cond_holds__LInchBorders_Times_I_Z]
      rw [kc h3]
      exact c_lO hT hp h1 h2 h3
    · subst h5
      refine ⟨thV g k (tsV (tS A 0) p w), Nat.le_refl _, fun dd hd => ?_, fun q D i M m6 hc hD hi => ⟨_, up _ D _, upd_s _ _ _, m_sL (c := 5 + w) (g := g) (k := k) m6 hL (by simp at hi; omega) h45 (by simp at hi; omega) (by omega) (hc 0 _ rfl).1 (hc 0 _ rfl).2.1 (hc 0 _ rfl).2.2 (by rw [← m6]; exact m_lT (by omega) h1 h2)⟩⟩
      obtain ⟨dd, rfl⟩ : ∃ k, dd = k + 1 := ⟨dd - 1, by omega⟩
      simp only [zX31_holds, vbInchBorders_Cond_holds__LInchBorders_Times_I_Z]
      rw [kc h4]
      exact c_lT hT hp h1 h2 h4
end OX
