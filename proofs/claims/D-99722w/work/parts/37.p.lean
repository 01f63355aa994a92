/-! the component's walkers: how they are made -/
theorem Ext.gup {S S1 : GS} (x : Ext S S1) {q : Nat} {e : GE} (h : S.2.1 ≤ q) : Ext S (gup S1 q e) := by
  refine ⟨x.1, fun i hi => ?_⟩
  show va_up S1.1 q (some e) i = _
  unfold va_up
  rw [if_neg (by omega)]
  exact x.2 i hi
section WI
variable {E : gE} {N b : Nat} {A : FA} {S : GS} {a : Nat} {d : AD}
theorem gna_l {β : Type} (h : b + 111 ≤ S.2.1) {κ n : Nat} (hn : n ≤ 65536) (K : Nat → GS → Option β) : gna (put b A S) κ (OfNat.ofNat n) K = K S.2.1 (put b A (gpush S (.inl (κ, n, gdfa κ)) n)) := by
  unfold gna
  rw [pq_lit, pq_tn (by omega), if_neg, gpush_put h]
  · rfl
  · rw [show (0 : Int32) = Int32.ofNat 0 from rfl, pq_lt (by omega) (by omega)]; omega
theorem gna_n {β : Type} (h : b + 111 ≤ S.2.1) {κ n : Nat} (hn : n ≤ 65536) (K : Nat → GS → Option β) : gna (put b A S) κ (Int32.ofNat n) K = K S.2.1 (put b A (gpush S (.inl (κ, n, gdfa κ)) n)) := gna_l h hn K
theorem gnw_n {β : Type} (h : b + 111 ≤ S.2.1) (ci : Nat) (K : Nat → GS → Option β) : gnw (put b A S) ci K = K S.2.1 (put b A (gpush S (.inr (ci, gdf ci)) (gdf ci).length)) := by
  unfold gnw
  rw [gpush_put h]
  rfl
theorem wi_13 {p : Nat} (hb : b + 111 ≤ S.2.1) (hE : E.1 ≤ b) (h : TA b S A 0 a d) (hp : p < nP (tS A 0)) (more : Int32) : fX19_init E N (put b A (gpush S (.inr (13, gdf 13)) (gdf 13).length)) S.2.1 (some (tad b 0)) (Int32.ofNat p) more = some (Int32.ofNat 0, put b A (gup (gpush (gpush S (.inr (13, gdf 13)) (gdf 13).length) (.inl (1, 5, gdfa 1)) 5) S.2.1 (.inr (13, [.ref (tad b 0), .int (Int32.ofNat (hm (tS A 0) p)), .int (spW (tS A 0) p ||| more), .ref (S.2.1 + 1), .int 0, .int 0])))) := by
  have hI := h.2.2.2
  have h7 := hI.l7
  have h6 := hI.p6
  have hh := hI.hl hp
  have hj := h.1
  have ha := h.2.1
  have h1 : Cel b (gpush S (.inr (13, gdf 13)) (gdf 13).length) S.2.1 (.inr (13, [.null, .int 0, .int 0, .null, .int 0, .int 0])) := Cel.push hb _ _
  have h2 : Cel b (gpush (gpush S (.inr (13, gdf 13)) (gdf 13).length) (.inl (1, 5, gdfa 1)) 5) S.2.1 (.inr (13, [.null, .int 0, .int 0, .null, .int 0, .int 0])) := h1.ext (Ext.push _ _ _)
  have x1 : Ext S (gpush (gpush S (.inr (13, gdf 13)) (gdf 13).length) (.inl (1, 5, gdfa 1)) 5) := (Ext.push _ _ _).tr (Ext.push _ _ _)
  have hA : ∀ e, AtD b (gup (gpush (gpush S (.inr (13, gdf 13)) (gdf 13).length) (.inl (1, 5, gdfa 1)) 5) S.2.1 e) a (tS A 0) d := fun e => h.2.2.1.ext (x1.gup (Nat.le_refl _))
  have hb2 : b + 111 ≤ (gpush S (.inr (13, gdf 13)) (gdf 13).length).2.1 := by rw [gpush_2]; omega
  have hg : E.1 ≤ S.2.1 := by omega
  have e1 : (gpush S (.inr (13, gdf 13)) (gdf 13).length).2.1 = S.2.1 + 1 := rfl
  simp only [fX19_init, bX19_init_0, bX19_init_4, bX19_init_8, bX19_init_25, pq_lit]
  simp (disch := omega) only [↓gna_n hb2, ↓w13_84 h2 hg, ↓w13_81 (h2.up _) hg, ↓w13_82 (h2.up _) hg, ↓w13_83 (h2.up _) hg, ↓r13_82 (h2.up _), gup_gup, ↓t_a, t_a, ha, ↓t_33, t_33, ↓t_g2, t_g2, ↓gbd_h (a_home (hA _) hp), a_home (hA _) hp, hI.ho hp, pq_lit, pq_add, pq_le, pq_lt, pq_eq, pq_en, pq_ne, pq_nle, pq_nlt, pq_len, pq_ltn, pB_z, pB_o, mzt_0, mzt_1, mzt_B, ↓gbd_s, gbd_s, ↓gnn_s, ↓grf_s, eq_self, ↓reduceIte, Nat.reduceEqDiff, Nat.reduceLeDiff, Nat.reduceLT, Nat.reduceMul, Nat.reduceAdd, not_true_eq_false, not_false_eq_true, Bool.false_eq_true, g_rfs, p1_e, e1]
  rfl
theorem wi_14 {p : Nat} (hb : b + 111 ≤ S.2.1) (hE : E.1 ≤ b) (h : TA b S A 0 a d) (hp : p < nP (tS A 0)) (more : Int32) : fX19_init E N (put b A (gpush S (.inr (14, gdf 14)) (gdf 14).length)) S.2.1 (some (tad b 0)) (Int32.ofNat p) more = some (Int32.ofNat 0, put b A (gup (gpush (gpush S (.inr (14, gdf 14)) (gdf 14).length) (.inl (1, 5, gdfa 1)) 5) S.2.1 (.inr (14, [.ref (tad b 0), .int (Int32.ofNat (hm (tS A 0) p)), .int (spW (tS A 0) p ||| more), .ref (S.2.1 + 1), .int 0, .int 0])))) := by
  have hI := h.2.2.2
  have h7 := hI.l7
  have h6 := hI.p6
  have hh := hI.hl hp
  have hj := h.1
  have ha := h.2.1
  have h1 : Cel b (gpush S (.inr (14, gdf 14)) (gdf 14).length) S.2.1 (.inr (14, [.null, .int 0, .int 0, .null, .int 0, .int 0])) := Cel.push hb _ _
  have h2 : Cel b (gpush (gpush S (.inr (14, gdf 14)) (gdf 14).length) (.inl (1, 5, gdfa 1)) 5) S.2.1 (.inr (14, [.null, .int 0, .int 0, .null, .int 0, .int 0])) := h1.ext (Ext.push _ _ _)
  have x1 : Ext S (gpush (gpush S (.inr (14, gdf 14)) (gdf 14).length) (.inl (1, 5, gdfa 1)) 5) := (Ext.push _ _ _).tr (Ext.push _ _ _)
  have hA : ∀ e, AtD b (gup (gpush (gpush S (.inr (14, gdf 14)) (gdf 14).length) (.inl (1, 5, gdfa 1)) 5) S.2.1 e) a (tS A 0) d := fun e => h.2.2.1.ext (x1.gup (Nat.le_refl _))
  have hb2 : b + 111 ≤ (gpush S (.inr (14, gdf 14)) (gdf 14).length).2.1 := by rw [gpush_2]; omega
  have hg : E.1 ≤ S.2.1 := by omega
  have e1 : (gpush S (.inr (14, gdf 14)) (gdf 14).length).2.1 = S.2.1 + 1 := rfl
  simp only [fX19_init, bX19_init_0, bX19_init_4, bX19_init_8, bX19_init_25, pq_lit]
  simp (disch := omega) only [↓gna_n hb2, ↓w14_84 h2 hg, ↓w14_81 (h2.up _) hg, ↓w14_82 (h2.up _) hg, ↓w14_83 (h2.up _) hg, ↓r14_82 (h2.up _), gup_gup, ↓t_a, t_a, ha, ↓t_33, t_33, ↓t_g2, t_g2, ↓gbd_h (a_home (hA _) hp), a_home (hA _) hp, hI.ho hp, pq_lit, pq_add, pq_le, pq_lt, pq_eq, pq_en, pq_ne, pq_nle, pq_nlt, pq_len, pq_ltn, pB_z, pB_o, mzt_0, mzt_1, mzt_B, ↓gbd_s, gbd_s, ↓gnn_s, ↓grf_s, eq_self, ↓reduceIte, Nat.reduceEqDiff, Nat.reduceLeDiff, Nat.reduceLT, Nat.reduceMul, Nat.reduceAdd, not_true_eq_false, not_false_eq_true, Bool.false_eq_true, g_rfs, p1_e, e1]
  rfl
theorem wi_15 {p : Nat} (hb : b + 111 ≤ S.2.1) (hE : E.1 ≤ b) (h : TA b S A 0 a d) (hp : p < nP (tS A 0)) (more : Int32) : fX19_init E N (put b A (gpush S (.inr (15, gdf 15)) (gdf 15).length)) S.2.1 (some (tad b 0)) (Int32.ofNat p) more = some (Int32.ofNat 0, put b A (gup (gpush (gpush S (.inr (15, gdf 15)) (gdf 15).length) (.inl (1, 5, gdfa 1)) 5) S.2.1 (.inr (15, [.ref (tad b 0), .int (Int32.ofNat (hm (tS A 0) p)), .int (spW (tS A 0) p ||| more), .ref (S.2.1 + 1), .int 0, .null, .null, .int 0, .int 0])))) := by
  have hI := h.2.2.2
  have h7 := hI.l7
  have h6 := hI.p6
  have hh := hI.hl hp
  have hj := h.1
  have ha := h.2.1
  have h1 : Cel b (gpush S (.inr (15, gdf 15)) (gdf 15).length) S.2.1 (.inr (15, [.null, .int 0, .int 0, .null, .int 0, .null, .null, .int 0, .int 0])) := Cel.push hb _ _
  have h2 : Cel b (gpush (gpush S (.inr (15, gdf 15)) (gdf 15).length) (.inl (1, 5, gdfa 1)) 5) S.2.1 (.inr (15, [.null, .int 0, .int 0, .null, .int 0, .null, .null, .int 0, .int 0])) := h1.ext (Ext.push _ _ _)
  have x1 : Ext S (gpush (gpush S (.inr (15, gdf 15)) (gdf 15).length) (.inl (1, 5, gdfa 1)) 5) := (Ext.push _ _ _).tr (Ext.push _ _ _)
  have hA : ∀ e, AtD b (gup (gpush (gpush S (.inr (15, gdf 15)) (gdf 15).length) (.inl (1, 5, gdfa 1)) 5) S.2.1 e) a (tS A 0) d := fun e => h.2.2.1.ext (x1.gup (Nat.le_refl _))
  have hb2 : b + 111 ≤ (gpush S (.inr (15, gdf 15)) (gdf 15).length).2.1 := by rw [gpush_2]; omega
  have hg : E.1 ≤ S.2.1 := by omega
  have e1 : (gpush S (.inr (15, gdf 15)) (gdf 15).length).2.1 = S.2.1 + 1 := rfl
  simp only [fX19_init, bX19_init_0, bX19_init_4, bX19_init_8, bX19_init_25, pq_lit]
  simp (disch := omega) only [↓gna_n hb2, ↓w15_84 h2 hg, ↓w15_81 (h2.up _) hg, ↓w15_82 (h2.up _) hg, ↓w15_83 (h2.up _) hg, ↓r15_82 (h2.up _), gup_gup, ↓t_a, t_a, ha, ↓t_33, t_33, ↓t_g2, t_g2, ↓gbd_h (a_home (hA _) hp), a_home (hA _) hp, hI.ho hp, pq_lit, pq_add, pq_le, pq_lt, pq_eq, pq_en, pq_ne, pq_nle, pq_nlt, pq_len, pq_ltn, pB_z, pB_o, mzt_0, mzt_1, mzt_B, ↓gbd_s, gbd_s, ↓gnn_s, ↓grf_s, eq_self, ↓reduceIte, Nat.reduceEqDiff, Nat.reduceLeDiff, Nat.reduceLT, Nat.reduceMul, Nat.reduceAdd, not_true_eq_false, not_false_eq_true, Bool.false_eq_true, g_rfs, p1_e, e1]
  rfl
end WI
