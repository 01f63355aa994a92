/-! maps: a line, the whole text -/
def MW : List (List Nat) := ["land", "store", "road", "treaty", "person"].map sBytes
abbrev mw (j : Nat) : List Nat := MW.getD j []
theorem mwd : ∀ i, i < 5 → ∀ j, j < 5 → decide (mw i = mw j) = decide (i = j) := by decide +kernel
theorem mww : ∀ j, j < 5 → Wd (mw j) := by
  have : (List.range 5).all (fun j => decide (1 ≤ (mw j).length) && decide ((mw j).length ≤ 7) && (mw j).all (fun c => decide (97 ≤ c ∧ c ≤ 122))) = true := by decide +kernel
  intro j hj
  have h := List.all_eq_true.mp this j (List.mem_range.mpr hj)
  rw [Bool.and_eq_true, Bool.and_eq_true] at h
  exact ⟨of_decide_eq_true h.1.1, of_decide_eq_true h.1.2, fun c hc => of_decide_eq_true (List.all_eq_true.mp h.2 c hc)⟩
theorem mwe : (1818324580 : Int64) = enc (mw 0) ∧ (495874699877 : Int64) = enc (mw 1) ∧ (1919902052 : Int64) = enc (mw 2) ∧ (128034675979385 : Int64) = enc (mw 3) ∧ (123581014175598 : Int64) = enc (mw 4) := by decide +kernel
theorem tk_m (t : Tk) : ∃ i, i ≤ 5 ∧ (i < 5 → t.1 = 2) ∧ ∀ j, j < 5 → twd t (mw j) = decide (i = j) := by
  by_cases e : ∃ i, i < 5 ∧ t.1 = 2 ∧ t.2.1 = mw i
  · obtain ⟨i, hi, h1, h2⟩ := e
    refine ⟨i, by omega, fun _ => h1, fun j hj => ?_⟩
    rw [← mwd i (by omega) j (by omega)]
    show decide (t.1 = 2 ∧ t.2.1 = mw j) = _
    rw [decide_eq_decide, h2]
    exact ⟨fun h => h.2, fun h => ⟨h1, h⟩⟩
  · refine ⟨5, Nat.le_refl _, fun h => by omega, fun j hj => ?_⟩
    rw [show decide (5 = j) = false from decide_eq_false (by omega)]
    exact decide_eq_false (fun h => e ⟨j, hj, h.1, h.2⟩)
def LX (E : gE) (b : Nat) (A : FA) (S0 : GS) (q a n lim : Nat) (S : GS) (M : MS) (fr : Nat) (oc : Option ((Int32 ⊕ Nat) × GS)) (om : Option (Int32 × MS)) : Prop := ∃ S' M' d' e' fr' t', oc = some (.inl (Int32.ofNat 0), put b A S') ∧ om = some (Int32.ofNat 1, M') ∧ Rd b A S' M' q 4 (mEx a) n lim fr' t' ∧ MB E b S0 S' M' a d' e' ∧ Ext S0 S' ∧ mSn rdk M M' ∧ M'.1 15 = M.1 15 ∧ fr + 1 ≤ fr' ∧ S'.2.2.1 + 9 * fr ≤ S.2.2.1 + 9 * fr' ∧ S'.2.2.2 + 110 * fr ≤ S.2.2.2 + 110 * fr'
section MI
variable {E : gE} {N b : Nat} {A : FA} {S0 S S' : GS} {M M' : MS} {q a n lim fr : Nat} {d : AD} {ee : Ee} {t : Tk}
theorem LR.lx {dc dt df : Nat} {oc oc' : Option ((Int32 ⊕ Nat) × GS)} {om om' : Option (Int32 × MS)} (h : LR E b A S0 q a n lim S M fr dc dt df oc om) (h1 : 1 ≤ df) (h2 : dc ≤ 9 * df) (h3 : dt ≤ 110 * df) (ec : ∀ S', oc = some (.inl (Int32.ofNat 0), S') → oc' = some (.inl (Int32.ofNat 0), S')) (em : ∀ M', om = some (Int32.ofNat 1, M') → om' = some (Int32.ofNat 1, M')) : LX E b A S0 q a n lim S M fr oc' om' := by
  obtain ⟨S', M', d', e', fr', t', g1, g2, g3, g4, g5, g6, i15, g7, g8, g9⟩ := h
  exact ⟨S', M', d', e', fr', t', ec _ g1, em _ g2, g3, g4, g5, g6, i15, by omega, by omega, by omega⟩
theorem l_line (cx : MCx E N b S0 q) (x : Ext S0 S) (hr : ResR M) (h : Rd b A S M q 4 (mEx a) n lim fr t) (z : MB E b S0 S M a d ee) : LX E b A S0 q a n lim S M fr (fX7_line E N (put b A S) q) (fX5_line N M) ∨ JF b A S0 M (S.2.2.1 + 60) (S.2.2.2 + 800) (fX7_line E N (put b A S) q) (fX5_line N M) := by
  have cx' := cx
  obtain ⟨kok, hN, hq⟩ := cx
  have hE := kok.1
  have hb0 := kok.2.1
  have hb : b + 111 ≤ S.2.1 := Nat.le_trans hb0 x.1
  obtain ⟨i, hi5, hi2, hi⟩ := tk_m t
  have k2 := kok.2.2.1
  have s0 := j_isC (E := E) (N := N) h (show StrAt b S (E.2.1 26) (mw 0) from (k2 26 _ rfl).ext x) (by omega)
  have s1 := j_isC (E := E) (N := N) h (show StrAt b S (E.2.1 27) (mw 1) from (k2 27 _ rfl).ext x) (by omega)
  have s2 := j_isC (E := E) (N := N) h (show StrAt b S (E.2.1 28) (mw 2) from (k2 28 _ rfl).ext x) (by omega)
  have s3 := j_isC (E := E) (N := N) h (show StrAt b S (E.2.1 29) (mw 3) from (k2 29 _ rfl).ext x) (by omega)
  have s4 := j_isC (E := E) (N := N) h (show StrAt b S (E.2.1 30) (mw 4) from (k2 30 _ rfl).ext x) (by omega)
  have m0 := j_isM (N := N) h (mww 0 (by omega))
  have m1 := j_isM (N := N) h (mww 1 (by omega))
  have m2 := j_isM (N := N) h (mww 2 (by omega))
  have m3 := j_isM (N := N) h (mww 3 (by omega))
  have m4 := j_isM (N := N) h (mww 4 (by omega))
  obtain ⟨w0, w1, w2, w3, w4⟩ := mwe
  rw [hi 0 (by omega)] at s0 m0
  rw [hi 1 (by omega)] at s1 m1
  rw [hi 2 (by omega)] at s2 m2
  rw [hi 3 (by omega)] at s3 m3
  rw [hi 4 (by omega)] at s4 m4
  rw [← w0] at m0
  rw [← w1] at m1
  rw [← w2] at m2
  rw [← w3] at m3
  rw [← w4] at m4
  have n1 := c_need1 (E := E) (N := N) (b := b) (A := A) (S := S) (q := q) (Int32.ofNat 1)
  have hcase : i = 0 ∨ i = 1 ∨ i = 2 ∨ i = 3 ∨ i = 4 ∨ i = 5 := by omega
  rcases hcase with rfl | rfl | rfl | rfl | rfl | rfl
  · rcases l_land cx' x hr h (hi2 (by omega)) z with lr | jf
    · refine Or.inl (lr.lx (by omega) (by omega) (by omega) (fun S' e => ?_) (fun M' e => ?_))
      · simp only [fX7_line, bX7_line_0, bX7_line_6, bX7_line_13, bX7_line_68, pq_lit]
        simp (disch := omega) only [v4_is h, ↓gbd_h (s0), s0, decide_true, bI_t, v4_land h, ↓gbx_h e, ↓gbd_s, gbd_s, ↓gbx_s, gbx_s, ↓gnn_s, ↓grf_s, eq_self, ↓reduceIte, Nat.reduceEqDiff, Nat.reduceLeDiff, Nat.reduceLT, Nat.reduceMul, Nat.reduceAdd, not_true_eq_false, not_false_eq_true, Bool.false_eq_true, pq_lit, pq_add, pq_le, pq_lt, pq_eq, pq_en, pq_ne, pq_nle, pq_nlt, pq_len, pq_ltn, pB_z, pB_o, mzt_0, mzt_1, mzt_B]
      · simp only [fX5_line, bX5_line_0, pq_lit]
        simp (disch := omega) only [↓mbd_h (m0), m0, decide_true, bI_t, ↓mbd_h (e), e, ↓mbd_s, mbd_s, eq_self, ↓reduceIte, Nat.reduceEqDiff, Nat.reduceLeDiff, Nat.reduceLT, Nat.reduceMul, Nat.reduceAdd, not_true_eq_false, not_false_eq_true, Bool.false_eq_true, pq_lit, pq_add, pq_le, pq_lt, pq_eq, pq_en, pq_ne, pq_nle, pq_nlt, pq_len, pq_ltn, pB_z, pB_o, mzt_0, mzt_1, mzt_B]
    · refine Or.inr (jf.mo mSn.rf (fun fa S' e => ?_) (fun M' e => ?_) (by omega) (by omega))
      · simp only [fX7_line, bX7_line_0, bX7_line_6, pq_lit]
        simp (disch := omega) only [v4_is h, ↓gbd_h (s0), s0, decide_true, bI_t, v4_land h, ↓gbx_x e, ↓gbd_s, gbd_s, ↓gbx_s, gbx_s, ↓gnn_s, ↓grf_s, eq_self, ↓reduceIte, Nat.reduceEqDiff, Nat.reduceLeDiff, Nat.reduceLT, Nat.reduceMul, Nat.reduceAdd, not_true_eq_false, not_false_eq_true, Bool.false_eq_true, pq_lit, pq_add, pq_le, pq_lt, pq_eq, pq_en, pq_ne, pq_nle, pq_nlt, pq_len, pq_ltn, pB_z, pB_o, mzt_0, mzt_1, mzt_B]
      · simp only [fX5_line, bX5_line_0, pq_lit]
        simp (disch := omega) only [↓mbd_h (m0), m0, decide_true, bI_t, ↓mbd_h (e), e, ↓mbd_s, mbd_s, eq_self, ↓reduceIte, Nat.reduceEqDiff, Nat.reduceLeDiff, Nat.reduceLT, Nat.reduceMul, Nat.reduceAdd, not_true_eq_false, not_false_eq_true, Bool.false_eq_true, pq_lit, pq_add, pq_le, pq_lt, pq_eq, pq_en, pq_ne, pq_nle, pq_nlt, pq_len, pq_ltn, pB_z, pB_o, mzt_0, mzt_1, mzt_B]
  · rcases l_store cx' x hr h (hi2 (by omega)) z with lr | jf
    · refine Or.inl (lr.lx (by omega) (by omega) (by omega) (fun S' e => ?_) (fun M' e => ?_))
      · simp only [fX7_line, bX7_line_0, bX7_line_6, bX7_line_22, bX7_line_29, bX7_line_68, pq_lit]
        simp (disch := omega) only [v4_is h, ↓gbd_h (s0), s0, ↓gbd_h (s1), s1, Nat.reduceEqDiff, decide_true, decide_false, bI_t, bI_f, v4_store h, ↓gbx_h e, ↓gbd_s, gbd_s, ↓gbx_s, gbx_s, ↓gnn_s, ↓grf_s, eq_self, ↓reduceIte, Nat.reduceEqDiff, Nat.reduceLeDiff, Nat.reduceLT, Nat.reduceMul, Nat.reduceAdd, not_true_eq_false, not_false_eq_true, Bool.false_eq_true, pq_lit, pq_add, pq_le, pq_lt, pq_eq, pq_en, pq_ne, pq_nle, pq_nlt, pq_len, pq_ltn, pB_z, pB_o, mzt_0, mzt_1, mzt_B]
      · simp only [fX5_line, bX5_line_0, pq_lit]
        simp (disch := omega) only [↓mbd_h (m0), m0, ↓mbd_h (m1), m1, Nat.reduceEqDiff, decide_true, decide_false, bI_t, bI_f, ↓mbd_h (e), e, ↓mbd_s, mbd_s, eq_self, ↓reduceIte, Nat.reduceEqDiff, Nat.reduceLeDiff, Nat.reduceLT, Nat.reduceMul, Nat.reduceAdd, not_true_eq_false, not_false_eq_true, Bool.false_eq_true, pq_lit, pq_add, pq_le, pq_lt, pq_eq, pq_en, pq_ne, pq_nle, pq_nlt, pq_len, pq_ltn, pB_z, pB_o, mzt_0, mzt_1, mzt_B]
    · refine Or.inr (jf.mo mSn.rf (fun fa S' e => ?_) (fun M' e => ?_) (by omega) (by omega))
      · simp only [fX7_line, bX7_line_0, bX7_line_6, bX7_line_22, pq_lit]
        simp (disch := omega) only [v4_is h, ↓gbd_h (s0), s0, ↓gbd_h (s1), s1, Nat.reduceEqDiff, decide_true, decide_false, bI_t, bI_f, v4_store h, ↓gbx_x e, ↓gbd_s, gbd_s, ↓gbx_s, gbx_s, ↓gnn_s, ↓grf_s, eq_self, ↓reduceIte, Nat.reduceEqDiff, Nat.reduceLeDiff, Nat.reduceLT, Nat.reduceMul, Nat.reduceAdd, not_true_eq_false, not_false_eq_true, Bool.false_eq_true, pq_lit, pq_add, pq_le, pq_lt, pq_eq, pq_en, pq_ne, pq_nle, pq_nlt, pq_len, pq_ltn, pB_z, pB_o, mzt_0, mzt_1, mzt_B]
      · simp only [fX5_line, bX5_line_0, pq_lit]
        simp (disch := omega) only [↓mbd_h (m0), m0, ↓mbd_h (m1), m1, Nat.reduceEqDiff, decide_true, decide_false, bI_t, bI_f, ↓mbd_h (e), e, ↓mbd_s, mbd_s, eq_self, ↓reduceIte, Nat.reduceEqDiff, Nat.reduceLeDiff, Nat.reduceLT, Nat.reduceMul, Nat.reduceAdd, not_true_eq_false, not_false_eq_true, Bool.false_eq_true, pq_lit, pq_add, pq_le, pq_lt, pq_eq, pq_en, pq_ne, pq_nle, pq_nlt, pq_len, pq_ltn, pB_z, pB_o, mzt_0, mzt_1, mzt_B]
  · rcases l_road cx' x hr h (hi2 (by omega)) z with lr | jf
    · refine Or.inl (lr.lx (by omega) (by omega) (by omega) (fun S' e => ?_) (fun M' e => ?_))
      · simp only [fX7_line, bX7_line_0, bX7_line_6, bX7_line_22, bX7_line_38, bX7_line_45, bX7_line_68, pq_lit]
        simp (disch := omega) only [v4_is h, ↓gbd_h (s0), s0, ↓gbd_h (s1), s1, ↓gbd_h (s2), s2, Nat.reduceEqDiff, decide_true, decide_false, bI_t, bI_f, v4_road h, ↓gbx_h e, ↓gbd_s, gbd_s, ↓gbx_s, gbx_s, ↓gnn_s, ↓grf_s, eq_self, ↓reduceIte, Nat.reduceEqDiff, Nat.reduceLeDiff, Nat.reduceLT, Nat.reduceMul, Nat.reduceAdd, not_true_eq_false, not_false_eq_true, Bool.false_eq_true, pq_lit, pq_add, pq_le, pq_lt, pq_eq, pq_en, pq_ne, pq_nle, pq_nlt, pq_len, pq_ltn, pB_z, pB_o, mzt_0, mzt_1, mzt_B]
      · simp only [fX5_line, bX5_line_0, pq_lit]
        simp (disch := omega) only [↓mbd_h (m0), m0, ↓mbd_h (m1), m1, ↓mbd_h (m2), m2, Nat.reduceEqDiff, decide_true, decide_false, bI_t, bI_f, ↓mbd_h (e), e, ↓mbd_s, mbd_s, eq_self, ↓reduceIte, Nat.reduceEqDiff, Nat.reduceLeDiff, Nat.reduceLT, Nat.reduceMul, Nat.reduceAdd, not_true_eq_false, not_false_eq_true, Bool.false_eq_true, pq_lit, pq_add, pq_le, pq_lt, pq_eq, pq_en, pq_ne, pq_nle, pq_nlt, pq_len, pq_ltn, pB_z, pB_o, mzt_0, mzt_1, mzt_B]
    · refine Or.inr (jf.mo mSn.rf (fun fa S' e => ?_) (fun M' e => ?_) (by omega) (by omega))
      · simp only [fX7_line, bX7_line_0, bX7_line_6, bX7_line_22, bX7_line_38, pq_lit]
        simp (disch := omega) only [v4_is h, ↓gbd_h (s0), s0, ↓gbd_h (s1), s1, ↓gbd_h (s2), s2, Nat.reduceEqDiff, decide_true, decide_false, bI_t, bI_f, v4_road h, ↓gbx_x e, ↓gbd_s, gbd_s, ↓gbx_s, gbx_s, ↓gnn_s, ↓grf_s, eq_self, ↓reduceIte, Nat.reduceEqDiff, Nat.reduceLeDiff, Nat.reduceLT, Nat.reduceMul, Nat.reduceAdd, not_true_eq_false, not_false_eq_true, Bool.false_eq_true, pq_lit, pq_add, pq_le, pq_lt, pq_eq, pq_en, pq_ne, pq_nle, pq_nlt, pq_len, pq_ltn, pB_z, pB_o, mzt_0, mzt_1, mzt_B]
      · simp only [fX5_line, bX5_line_0, pq_lit]
        simp (disch := omega) only [↓mbd_h (m0), m0, ↓mbd_h (m1), m1, ↓mbd_h (m2), m2, Nat.reduceEqDiff, decide_true, decide_false, bI_t, bI_f, ↓mbd_h (e), e, ↓mbd_s, mbd_s, eq_self, ↓reduceIte, Nat.reduceEqDiff, Nat.reduceLeDiff, Nat.reduceLT, Nat.reduceMul, Nat.reduceAdd, not_true_eq_false, not_false_eq_true, Bool.false_eq_true, pq_lit, pq_add, pq_le, pq_lt, pq_eq, pq_en, pq_ne, pq_nle, pq_nlt, pq_len, pq_ltn, pB_z, pB_o, mzt_0, mzt_1, mzt_B]
  · rcases l_treaty cx' x hr h (hi2 (by omega)) z with lr | jf
    · refine Or.inl (lr.lx (by omega) (by omega) (by omega) (fun S' e => ?_) (fun M' e => ?_))
      · simp only [fX7_line, bX7_line_0, bX7_line_6, bX7_line_22, bX7_line_38, bX7_line_54, bX7_line_61, bX7_line_68, pq_lit]
        simp (disch := omega) only [v4_is h, ↓gbd_h (s0), s0, ↓gbd_h (s1), s1, ↓gbd_h (s2), s2, ↓gbd_h (s3), s3, Nat.reduceEqDiff, decide_true, decide_false, bI_t, bI_f, v4_treaty h, ↓gbx_h e, ↓gbd_s, gbd_s, ↓gbx_s, gbx_s, ↓gnn_s, ↓grf_s, eq_self, ↓reduceIte, Nat.reduceEqDiff, Nat.reduceLeDiff, Nat.reduceLT, Nat.reduceMul, Nat.reduceAdd, not_true_eq_false, not_false_eq_true, Bool.false_eq_true, pq_lit, pq_add, pq_le, pq_lt, pq_eq, pq_en, pq_ne, pq_nle, pq_nlt, pq_len, pq_ltn, pB_z, pB_o, mzt_0, mzt_1, mzt_B]
      · simp only [fX5_line, bX5_line_0, pq_lit]
        simp (disch := omega) only [↓mbd_h (m0), m0, ↓mbd_h (m1), m1, ↓mbd_h (m2), m2, ↓mbd_h (m3), m3, Nat.reduceEqDiff, decide_true, decide_false, bI_t, bI_f, ↓mbd_h (e), e, ↓mbd_s, mbd_s, eq_self, ↓reduceIte, Nat.reduceEqDiff, Nat.reduceLeDiff, Nat.reduceLT, Nat.reduceMul, Nat.reduceAdd, not_true_eq_false, not_false_eq_true, Bool.false_eq_true, pq_lit, pq_add, pq_le, pq_lt, pq_eq, pq_en, pq_ne, pq_nle, pq_nlt, pq_len, pq_ltn, pB_z, pB_o, mzt_0, mzt_1, mzt_B]
    · refine Or.inr (jf.mo mSn.rf (fun fa S' e => ?_) (fun M' e => ?_) (by omega) (by omega))
      · simp only [fX7_line, bX7_line_0, bX7_line_6, bX7_line_22, bX7_line_38, bX7_line_54, pq_lit]
        simp (disch := omega) only [v4_is h, ↓gbd_h (s0), s0, ↓gbd_h (s1), s1, ↓gbd_h (s2), s2, ↓gbd_h (s3), s3, Nat.reduceEqDiff, decide_true, decide_false, bI_t, bI_f, v4_treaty h, ↓gbx_x e, ↓gbd_s, gbd_s, ↓gbx_s, gbx_s, ↓gnn_s, ↓grf_s, eq_self, ↓reduceIte, Nat.reduceEqDiff, Nat.reduceLeDiff, Nat.reduceLT, Nat.reduceMul, Nat.reduceAdd, not_true_eq_false, not_false_eq_true, Bool.false_eq_true, pq_lit, pq_add, pq_le, pq_lt, pq_eq, pq_en, pq_ne, pq_nle, pq_nlt, pq_len, pq_ltn, pB_z, pB_o, mzt_0, mzt_1, mzt_B]
      · simp only [fX5_line, bX5_line_0, pq_lit]
        simp (disch := omega) only [↓mbd_h (m0), m0, ↓mbd_h (m1), m1, ↓mbd_h (m2), m2, ↓mbd_h (m3), m3, Nat.reduceEqDiff, decide_true, decide_false, bI_t, bI_f, ↓mbd_h (e), e, ↓mbd_s, mbd_s, eq_self, ↓reduceIte, Nat.reduceEqDiff, Nat.reduceLeDiff, Nat.reduceLT, Nat.reduceMul, Nat.reduceAdd, not_true_eq_false, not_false_eq_true, Bool.false_eq_true, pq_lit, pq_add, pq_le, pq_lt, pq_eq, pq_en, pq_ne, pq_nle, pq_nlt, pq_len, pq_ltn, pB_z, pB_o, mzt_0, mzt_1, mzt_B]
  · rcases l_person cx' x hr h (hi2 (by omega)) z with lr | jf
    · refine Or.inl (lr.lx (by omega) (by omega) (by omega) (fun S' e => ?_) (fun M' e => ?_))
      · simp only [fX7_line, bX7_line_0, bX7_line_6, bX7_line_22, bX7_line_38, bX7_line_54, bX7_line_68, pq_lit]
        simp (disch := omega) only [v4_is h, ↓gbd_h (s0), s0, ↓gbd_h (s1), s1, ↓gbd_h (s2), s2, ↓gbd_h (s3), s3, Nat.reduceEqDiff, decide_true, decide_false, bI_t, bI_f, v4_person h, ↓gbd_s, gbd_s, ↓gbx_s, gbx_s, ↓gnn_s, ↓grf_s, eq_self, ↓reduceIte, Nat.reduceEqDiff, Nat.reduceLeDiff, Nat.reduceLT, Nat.reduceMul, Nat.reduceAdd, not_true_eq_false, not_false_eq_true, Bool.false_eq_true, pq_lit, pq_add, pq_le, pq_lt, pq_eq, pq_en, pq_ne, pq_nle, pq_nlt, pq_len, pq_ltn, pB_z, pB_o, mzt_0, mzt_1, mzt_B]
        simp only [fX7_person, bX7_person_0, bX7_person_7, pq_lit]
        simp (disch := omega) only [v4_is h, ↓gbd_h (s4), s4, decide_true, bI_t, v4_need h, ↓gbx_h n1, ↓gbx_h e, ↓gbd_s, gbd_s, ↓gbx_s, gbx_s, ↓gnn_s, ↓grf_s, eq_self, ↓reduceIte, Nat.reduceEqDiff, Nat.reduceLeDiff, Nat.reduceLT, Nat.reduceMul, Nat.reduceAdd, not_true_eq_false, not_false_eq_true, Bool.false_eq_true, pq_lit, pq_add, pq_le, pq_lt, pq_eq, pq_en, pq_ne, pq_nle, pq_nlt, pq_len, pq_ltn, pB_z, pB_o, mzt_0, mzt_1, mzt_B]
      · simp only [fX5_line, bX5_line_0, bX5_line_82, pq_lit]
        simp (disch := omega) only [↓mbd_h (m0), m0, ↓mbd_h (m1), m1, ↓mbd_h (m2), m2, ↓mbd_h (m3), m3, ↓mbd_h (m4), m4, Nat.reduceEqDiff, decide_true, decide_false, bI_t, bI_f, ↓mbd_h (e), e, ↓mbd_s, mbd_s, eq_self, ↓reduceIte, Nat.reduceEqDiff, Nat.reduceLeDiff, Nat.reduceLT, Nat.reduceMul, Nat.reduceAdd, not_true_eq_false, not_false_eq_true, Bool.false_eq_true, pq_lit, pq_add, pq_le, pq_lt, pq_eq, pq_en, pq_ne, pq_nle, pq_nlt, pq_len, pq_ltn, pB_z, pB_o, mzt_0, mzt_1, mzt_B]
    · refine Or.inr (jf.mo mSn.rf (fun fa S' e => ?_) (fun M' e => ?_) (by omega) (by omega))
      · simp only [fX7_line, bX7_line_0, bX7_line_6, bX7_line_22, bX7_line_38, bX7_line_54, pq_lit]
        simp (disch := omega) only [v4_is h, ↓gbd_h (s0), s0, ↓gbd_h (s1), s1, ↓gbd_h (s2), s2, ↓gbd_h (s3), s3, Nat.reduceEqDiff, decide_true, decide_false, bI_t, bI_f, v4_person h, ↓gbd_s, gbd_s, ↓gbx_s, gbx_s, ↓gnn_s, ↓grf_s, eq_self, ↓reduceIte, Nat.reduceEqDiff, Nat.reduceLeDiff, Nat.reduceLT, Nat.reduceMul, Nat.reduceAdd, not_true_eq_false, not_false_eq_true, Bool.false_eq_true, pq_lit, pq_add, pq_le, pq_lt, pq_eq, pq_en, pq_ne, pq_nle, pq_nlt, pq_len, pq_ltn, pB_z, pB_o, mzt_0, mzt_1, mzt_B]
        simp only [fX7_person, bX7_person_0, bX7_person_7, pq_lit]
        simp (disch := omega) only [v4_is h, ↓gbd_h (s4), s4, decide_true, bI_t, v4_need h, ↓gbx_h n1, ↓gbx_x e, ↓gbd_s, gbd_s, ↓gbx_s, gbx_s, ↓gnn_s, ↓grf_s, eq_self, ↓reduceIte, Nat.reduceEqDiff, Nat.reduceLeDiff, Nat.reduceLT, Nat.reduceMul, Nat.reduceAdd, not_true_eq_false, not_false_eq_true, Bool.false_eq_true, pq_lit, pq_add, pq_le, pq_lt, pq_eq, pq_en, pq_ne, pq_nle, pq_nlt, pq_len, pq_ltn, pB_z, pB_o, mzt_0, mzt_1, mzt_B]
      · simp only [fX5_line, bX5_line_0, bX5_line_82, pq_lit]
        simp (disch := omega) only [↓mbd_h (m0), m0, ↓mbd_h (m1), m1, ↓mbd_h (m2), m2, ↓mbd_h (m3), m3, ↓mbd_h (m4), m4, Nat.reduceEqDiff, decide_true, decide_false, bI_t, bI_f, ↓mbd_h (e), e, ↓mbd_s, mbd_s, eq_self, ↓reduceIte, Nat.reduceEqDiff, Nat.reduceLeDiff, Nat.reduceLT, Nat.reduceMul, Nat.reduceAdd, not_true_eq_false, not_false_eq_true, Bool.false_eq_true, pq_lit, pq_add, pq_le, pq_lt, pq_eq, pq_en, pq_ne, pq_nle, pq_nlt, pq_len, pq_ltn, pB_z, pB_o, mzt_0, mzt_1, mzt_B]
  · obtain ⟨Sb, b1, b2, xb, fl, y1, y2⟩ := j_bad (E := E) (N := N) hE hb h (k := 1) (Or.inl rfl)
    refine Or.inr (JF.bad (M1 := M) x xb fl mSn.rf ?_ ?_ (by omega) (by omega))
    · simp only [fX7_line, bX7_line_0, bX7_line_6, bX7_line_22, bX7_line_38, bX7_line_54, pq_lit]
      simp (disch := omega) only [v4_is h, ↓gbd_h (s0), s0, ↓gbd_h (s1), s1, ↓gbd_h (s2), s2, ↓gbd_h (s3), s3, Nat.reduceEqDiff, decide_true, decide_false, bI_t, bI_f, v4_person h, ↓gbd_s, gbd_s, ↓gbx_s, gbx_s, ↓gnn_s, ↓grf_s, eq_self, ↓reduceIte, Nat.reduceEqDiff, Nat.reduceLeDiff, Nat.reduceLT, Nat.reduceMul, Nat.reduceAdd, not_true_eq_false, not_false_eq_true, Bool.false_eq_true, pq_lit, pq_add, pq_le, pq_lt, pq_eq, pq_en, pq_ne, pq_nle, pq_nlt, pq_len, pq_ltn, pB_z, pB_o, mzt_0, mzt_1, mzt_B]
      simp only [fX7_person, bX7_person_0, bX7_person_7, pq_lit]
      simp (disch := omega) only [v4_is h, ↓gbd_h (s4), s4, Nat.reduceEqDiff, decide_false, bI_f, v4_need h, ↓gbx_x b1, ↓gbd_s, gbd_s, ↓gbx_s, gbx_s, ↓gnn_s, ↓grf_s, eq_self, ↓reduceIte, Nat.reduceEqDiff, Nat.reduceLeDiff, Nat.reduceLT, Nat.reduceMul, Nat.reduceAdd, not_true_eq_false, not_false_eq_true, Bool.false_eq_true, pq_lit, pq_add, pq_le, pq_lt, pq_eq, pq_en, pq_ne, pq_nle, pq_nlt, pq_len, pq_ltn, pB_z, pB_o, mzt_0, mzt_1, mzt_B]
      rfl
    · simp only [fX5_line, bX5_line_0, bX5_line_82, pq_lit]
      simp (disch := omega) only [↓mbd_h (m0), m0, ↓mbd_h (m1), m1, ↓mbd_h (m2), m2, ↓mbd_h (m3), m3, ↓mbd_h (m4), m4, Nat.reduceEqDiff, decide_true, decide_false, bI_t, bI_f, ↓mbd_h (b2), b2, ↓mbd_s, mbd_s, eq_self, ↓reduceIte, Nat.reduceEqDiff, Nat.reduceLeDiff, Nat.reduceLT, Nat.reduceMul, Nat.reduceAdd, not_true_eq_false, not_false_eq_true, Bool.false_eq_true, pq_lit, pq_add, pq_le, pq_lt, pq_eq, pq_en, pq_ne, pq_nle, pq_nlt, pq_len, pq_ltn, pB_z, pB_o, mzt_0, mzt_1, mzt_B]
theorem MB.cnt (z : MB E b S0 S M a d ee) (x0 : Ext S0 S) (ha : S0.2.1 ≤ a) (v : Int32) (eM : M' = mF M 19 v) (eS : S' = gup S a (.inr (1, [.int v, .ref d.1.1, .ref d.1.2.1, .ref d.1.2.2]))) : MB E b S0 S' M' a d ee ∧ Fx S S' ∧ Ext S0 S' ∧ (∀ a fs, Cel b S a (.inr (4, fs)) → Cel b S' a (.inr (4, fs))) := by
  obtain ⟨z1, z2, z3, z4, z5, z6, z7, z8, z9⟩ := z
  obtain ⟨⟨_, c0⟩, _, _, d0⟩ := z2.1.cl
  obtain ⟨⟨_, c1⟩, _, _, d1⟩ := z3.1.cl
  obtain ⟨⟨_, c2⟩, _, _, d2⟩ := z4.1.cl
  have hf : Fx S S' := by
    rw [eS]
    refine ⟨Nat.le_refl _, fun a' e0 ha' he0 hm => ?_⟩
    have ne : a' ≠ a := by
      rintro rfl
      rw [z1.1] at he0
      injection he0 with he0
      rw [← he0] at hm
      cases hm
    show va_up S.1 a _ a' = _
    unfold va_up; rw [if_neg ne]
  have kp : ∀ a' c', Cel b S a' c' → a' ≠ a → Cel b S' a' c' := fun a' c' y ne => by rw [eS]; exact y.uo ne _
  have e20 : M'.1 20 = M.1 20 := by rw [eM]; exact mF_ne _ _ (by omega)
  have e7 : M'.2.2.1 7 = M.2.2.1 7 := by rw [eM]; rfl
  have e9 : M'.2.2.2 9 = M.2.2.2 9 := by rw [eM]; rfl
  have e19 : M'.1 19 = v := by rw [eM]; exact mF_e _ _ _
  refine ⟨⟨?_, ?_, ?_, ?_, z5, z6, z7, z8, by rw [e7, e20]; exact z9⟩, hf, by rw [eS]; exact x0.gup ha, fun a' fs' y => kp _ _ y (y.nc z1 (by omega))⟩
  · rw [e19, eS]; exact z1.up _
  · rw [e7, e20, e9]
    exact z2.ch hf (fun c y => kp _ _ y (c0.nc z1 (by omega))) (fun c y => kp _ _ y (Ne.symm (z1.na d0))) (fun a' fs' y => kp _ _ y (y.nc z1 (by omega))) rfl (fun l hl => ⟨rfl, rfl, rfl, rfl, rfl⟩) rfl
  · rw [e7]
    exact z3.ch hf (fun c y => kp _ _ y (c1.nc z1 (by omega))) (fun c y => kp _ _ y (Ne.symm (z1.na d1))) rfl (fun l hl => ⟨rfl, rfl, rfl, rfl⟩)
  · rw [e7, e9]
    exact z4.ch hf (fun c y => kp _ _ y (c2.nc z1 (by omega))) (fun c y => kp _ _ y (Ne.symm (z1.na d2))) rfl (fun l hl => ⟨rfl, rfl, rfl⟩)
theorem v4_end' (h : Rd b A S M q 4 (mEx a) n lim fr t) : vInchBorders_MapReader_end___V E N (put b A S) (some q) = fX6_end E N (put b A S) q := v4_end h
theorem m_read (cx : MCx E N b S0 q) (ha : S0.2.1 ≤ a) : ∀ (k m m' : Nat) (S : GS) (M : MS) (fr : Nat) (t : Tk) (d : AD) (ee : Ee), lim + 1 ≤ fr + k → k < m → k < m' → Ext S0 S → ResR M → Rd b A S M q 4 (mEx a) n lim fr t → MB E b S0 S M a d ee → (∃ S' M' d' e' fr', bX7_read_4L E N q m (put b A S) = some (.inl (some a), put b A S') ∧ bX5_map_35L N m' M = bX5_map_80L N N M' (Int32.ofNat 0) ∧ Ext S0 S' ∧ mSn rdk M M' ∧ M'.1 15 = M.1 15 ∧ MB E b S0 S' M' a d' e' ∧ fr' ≤ lim ∧ S'.2.2.1 + 9 * fr ≤ S.2.2.1 + 9 * fr' ∧ S'.2.2.2 + 110 * fr ≤ S.2.2.2 + 110 * fr') ∨ (∃ fa kd pl S' M', bX7_read_4L E N q m (put b A S) = some (.inr fa, put b A S') ∧ bX5_map_35L N m' M = some (-Int32.ofNat 1 - pl, M') ∧ Ext S0 S' ∧ FltAt b S' fa kd pl ∧ M'.1 15 = kd ∧ M'.1 16 = pl ∧ mSn rdk M M' ∧ S'.2.2.1 + 9 * fr ≤ S.2.2.1 + 9 * lim + 200 ∧ S'.2.2.2 + 110 * fr ≤ S.2.2.2 + 110 * lim + 2000)
  | k, 0, m', S, M, fr, t, d, ee, hk, h1, h2, x, hr, h, z => by omega
  | k, m + 1, 0, S, M, fr, t, d, ee, hk, h1, h2, x, hr, h, z => by omega
  | k, m + 1, m' + 1, S, M, fr, t, d, ee, hk, h1, h2, x, hr, h, z => by
    have cx' := cx
    obtain ⟨kok, hN, hq⟩ := cx
    have hE := kok.1
    have hb0 := kok.2.1
    have hfl := h.m12.2
    have hh := h
    obtain ⟨p, kd, nu, sg, wr, c, g1, g2, g3, g4, g5, g6, g7, hk', g9, g10, g11, g12⟩ := h
    have r47 := fun {β : Type} (K : Int32 → Option β) => rd_47 hk' c A K
    have r52 := fun {β : Type} (K : Option Nat → Option β) => v4_52 hh K
    by_cases e0 : t.1 = 0
    · left
      have w : kd = Int32.ofNat 0 ∧ M.1 11 = Int32.ofNat 0 := by
        rcases g12 with h | h | h | h | h | h
        · exact h.2
        · omega
        · omega
        · omega
        · omega
        · omega
      refine ⟨S, M, d, ee, fr, ?_, ?_, x, mSn.rf, rfl, z, hfl, by omega, by omega⟩
      · simp only [bX7_read_4L, bX7_read_4, pq_lit]
        simp (disch := omega) only [↓r47, w.1, ↓r52, ↓gbd_s, gbd_s, ↓gbx_s, gbx_s, ↓gnn_s, ↓grf_s, eq_self, ↓reduceIte, Nat.reduceEqDiff, Nat.reduceLeDiff, Nat.reduceLT, Nat.reduceMul, Nat.reduceAdd, not_true_eq_false, not_false_eq_true, Bool.false_eq_true, pq_lit, pq_add, pq_le, pq_lt, pq_eq, pq_en, pq_ne, pq_nle, pq_nlt, pq_len, pq_ltn, pB_z, pB_o, mzt_0, mzt_1, mzt_B]
      · simp only [bX5_map_35L, bX5_map_35, pq_lit]
        simp (disch := omega) only [w.2, eq_self, ↓reduceIte, Nat.reduceEqDiff, Nat.reduceLeDiff, Nat.reduceLT, Nat.reduceMul, Nat.reduceAdd, not_true_eq_false, not_false_eq_true, Bool.false_eq_true, pq_lit, pq_add, pq_le, pq_lt, pq_eq, pq_en, pq_ne, pq_nle, pq_nlt, pq_len, pq_ltn, pB_z, pB_o, mzt_0, mzt_1, mzt_B]
    · have w : ¬ kd = Int32.ofNat 0 ∧ ¬ M.1 11 = Int32.ofNat 0 := by
        rcases g12 with h | h | h | h | h | h
        · exact absurd h.1 e0
        · rw [h.2.2]; exact ⟨by rcases h.2.1 with q | q <;> rw [q] <;> decide, by decide⟩
        · rw [h.2.1, h.2.2.1]; decide
        · rw [h.2.1, h.2.2.1]; decide
        · rw [h.2.1, h.2.2.1]; decide
        · rw [h.2.1, h.2.2.1]; decide
      have cS : bX7_read_4L E N q (m + 1) (put b A S) = gbx (fX7_line E N (put b A S) q) (fun _ S_7 => bX7_read_15 E N q (bX7_read_4L E N q m) S_7) := by
        simp only [bX7_read_4L, bX7_read_4, pq_lit]
        simp (disch := omega) only [↓r47, w.1, v4_line hh, eq_self, ↓reduceIte, Nat.reduceEqDiff, Nat.reduceLeDiff, Nat.reduceLT, Nat.reduceMul, Nat.reduceAdd, not_true_eq_false, not_false_eq_true, Bool.false_eq_true, pq_lit, pq_add, pq_le, pq_lt, pq_eq, pq_en, pq_ne, pq_nle, pq_nlt, pq_len, pq_ltn, pB_z, pB_o, mzt_0, mzt_1, mzt_B]
      have mS : bX5_map_35L N (m' + 1) M = mbd (fX5_line N M) (fun r_2 S_3 => if r_2 = Int32.ofNat 0 then bX5_map_58 N S_3 else mbd (fX5_sign N S_3 (Int32.ofNat 59)) (fun r_6 S_7 => if r_6 = Int32.ofNat 0 then bX5_map_58 N S_7 else mpt S_7 19 ((S_7.1 19) + Int32.ofNat 1) (fun S_10 => bX5_map_35L N m' S_10))) := by
        simp only [bX5_map_35L, bX5_map_35, pq_lit]
        simp (disch := omega) only [w.2, eq_self, ↓reduceIte, Nat.reduceEqDiff, Nat.reduceLeDiff, Nat.reduceLT, Nat.reduceMul, Nat.reduceAdd, not_true_eq_false, not_false_eq_true, Bool.false_eq_true, pq_lit, pq_add, pq_le, pq_lt, pq_eq, pq_en, pq_ne, pq_nle, pq_nlt, pq_len, pq_ltn, pB_z, pB_o, mzt_0, mzt_1, mzt_B]
      rcases l_line cx' x hr hh z with ⟨S1, M1, d1, e1, fr1, t1, oc, om, r1, z1, x1, sn1, i15, hf1, q1, q2⟩ | jf
      · have hb1 : b + 111 ≤ S1.2.1 := Nat.le_trans hb0 x1.1
        have fl1 := r1.m12.2
        rcases j_end (E := E) (N := N) (S0 := S0) hE hb1 x1 (by omega) r1 (by omega) with ⟨S2, M2, fr2, t2, _, gc, gm, r2, hf2, xo2, fx2, sm2, p1, p2⟩ | jf
        · obtain ⟨_, fs1, c1⟩ := r1.cl
          have z2 : MB E b S0 S2 M2 a d1 e1 := z1.sm c1 xo2 fx2 sm2 (by decide) (by decide) (by decide)
          have x2 := xo2.ext x1 hq
          have fl2 := r2.m12.2
          obtain ⟨M3, hM3⟩ : ∃ M3, M3 = mF M2 19 (M2.1 19 + Int32.ofNat 1) := ⟨_, rfl⟩
          obtain ⟨S3, hS3⟩ : ∃ S3, S3 = gup S2 a (.inr (1, [.int (M2.1 19 + Int32.ofNat 1), .ref d1.1.1, .ref d1.1.2.1, .ref d1.1.2.2])) := ⟨_, rfl⟩
          obtain ⟨z3, f3, x3, k3⟩ := z2.cnt x2 ha (M2.1 19 + Int32.ofNat 1) hM3 hS3
          have r3 : Rd b A S3 M3 q 4 (mEx a) n lim fr2 t2 := by rw [hM3]; exact (r2.k4c f3 k3).mm (fun k hk => mF_ne _ _ (by rintro rfl; revert hk; decide)) rfl rfl
          have sn3 : mSn rdk M M3 := by rw [hM3]; exact (sn1.tr (sm2.su (by decide)).sn).tr ((mSm.rf.mF _ (by decide)).sn)
          have q31 : S3.2.2.1 = S2.2.2.1 := by rw [hS3]; rfl
          have q32 : S3.2.2.2 = S2.2.2.2 := by rw [hS3]; rfl
          have rc := m_read cx' ha (k - 1) m m' S3 M3 fr2 t2 d1 e1 (by omega) (by omega) (by omega) x3 (sn3.res hr) r3 z3
          have r522 := fun {β : Type} (K : Option Nat → Option β) => v4_52 r2 K
          have r24 := fun {β : Type} (K : Int32 → Option β) => r1_24 z2.1 A K
          have hg : E.1 ≤ a := by omega
          have w24 := fun {β : Type} (K : GS → Option β) => w1_24 (E := E) z2.1 hg A (.int (M2.1 19 + Int32.ofNat 1)) K
          have cc : bX7_read_4L E N q (m + 1) (put b A S) = bX7_read_4L E N q m (put b A S3) := by
            rw [cS, gbx_h oc]
            simp only [bX7_read_15, bX7_read_19, pq_lit]
            rw [v4_end r1, gbx_h gc, r522, r24, w24, ← hS3]
          have mm : bX5_map_35L N (m' + 1) M = bX5_map_35L N m' M3 := by
            rw [mS, mbd_h om, if_neg (by decide), mbd_h gm, if_neg (by decide), hM3]
            rfl
          rw [cc, mm]
          rcases rc with ⟨S', M', d', e', fr', y1, y2, y3, y4, y15, y5, y6, y7, y8⟩ | ⟨fa, kd, pl, S', M', y1, y2, y3, y4, y5, y6, y7, y8, y9⟩
          · exact Or.inl ⟨S', M', d', e', fr', y1, y2, y3, sn3.tr y4, by rw [y15, hM3, mF_ne _ _ (by omega), (sm2.2 15 (by decide)).1, i15], y5, y6, by omega, by omega⟩
          · exact Or.inr ⟨fa, kd, pl, S', M', y1, y2, y3, y4, y5, y6, sn3.tr y7, by omega, by omega⟩
        · right
          obtain ⟨fa, kd, pl, S', M', j1, j2, j3, j4, j5, j6, j7, j8, j9⟩ := jf
          refine ⟨fa, kd, pl, S', M', ?_, ?_, j3, j4, j5, j6, sn1.tr j7, by omega, by omega⟩
          · rw [cS, gbx_h oc]
            unfold bX7_read_15
            rw [v4_end r1, gbx_x j1]
          · rw [mS, mbd_h om, if_neg (by decide), mbd_h j2, if_pos rfl]
            simp only [bX5_map_58, pq_lit]
            rw [j6]
      · right
        obtain ⟨fa, kd, pl, S', M', j1, j2, j3, j4, j5, j6, j7, j8, j9⟩ := jf
        refine ⟨fa, kd, pl, S', M', by rw [cS, gbx_x j1], ?_, j3, j4, j5, j6, j7, by omega, by omega⟩
        rw [mS, mbd_h j2, if_pos rfl]
        simp only [bX5_map_58, pq_lit]
        rw [j6]
end MI
