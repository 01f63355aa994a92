/-! round, spare, made -/
theorem RstR.ch {b : Nat} {S S' : GS} {A A' : FA} {M M' : MS} {ks : List Nat} (h : RstR b S A M) (x : Ext S S') (sm : mSm ks M M')
    (way : (34 ∉ ks ∧ 31 ∉ ks ∧ aI A' 11 = aI A 11 ∧ aV A' 9 = aV A 9) ∨ WayR A' M')
    (mad : (35 ∉ ks ∧ 36 ∉ ks ∧ 32 ∉ ks ∧ aI A' 12 = aI A 12 ∧ aI A' 14 = aI A 14 ∧ aV A' 10 = aV A 10) ∨ MadR A' M')
    (spa : (38 ∉ ks ∧ 37 ∉ ks ∧ aI A' 13 = aI A 13) ∨ SpaR A' M')
    (car : (41 ∉ ks ∧ 40 ∉ ks ∧ aI A' 18 = aI A 18 ∧ aV A' 16 = aV A 16) ∨ CarR A' M')
    (par : (43 ∉ ks ∧ 42 ∉ ks ∧ aI A' 20 = aI A 20) ∨ ParR A' M')
    (pas : (45 ∉ ks ∧ 44 ∉ ks ∧ aR A' 21 = aR A 21) ∨ PasR b S' A' M')
    (tol : (49 ∉ ks ∧ 48 ∉ ks ∧ aV A' 22 = aV A 22) ∨ TolR A' M')
    (kep : 59 ∉ ks ∧ 57 ∉ ks ∧ (∀ k, aK A' k = aK A k) ∧ aT A' 10 = aT A 10 ∧ aT A' 11 = aT A 11) : RstR b S' A' M' := by
  obtain ⟨h1, h2, h3, h4, h5, h6, h7, h8, h9, h10⟩ := h
  have i := sm.2
  refine ⟨?_, ?_, ?_, ?_, ?_, ?_, ?_, ?_, ?_, ?_⟩
  · rcases way with ⟨q1, q2, q3, q4⟩ | q
    · unfold WayR; rw [q3, q4, (i 34 q1).1, (i 31 q2).2]; exact h1
    · exact q
  · rcases mad with ⟨q1, q2, q3, q4, q5, q6⟩ | q
    · unfold MadR; rw [q4, q5, q6, (i 35 q1).1, (i 36 q2).1, (i 32 q3).2]; exact h2
    · exact q
  · rcases spa with ⟨q1, q2, q3⟩ | q
    · unfold SpaR; rw [q3, (i 38 q1).1, (i 37 q2).1]; exact h3
    · exact q
  · rcases car with ⟨q1, q2, q3, q4⟩ | q
    · unfold CarR; rw [q3, q4, (i 41 q1).1, (i 40 q2).2]; exact h4
    · exact q
  · rcases par with ⟨q1, q2, q3⟩ | q
    · unfold ParR; rw [q3, (i 43 q1).1, (i 42 q2).1]; exact h5
    · exact q
  · rcases pas with ⟨q1, q2, q3⟩ | q
    · obtain ⟨z, w, p1, p2, p3, p4, p5⟩ := h6
      refine ⟨z, w, q3.trans p1, p2.ext x, p3, ?_, ?_⟩
      · rw [(i 45 q1).1]; exact p4
      · rw [(i 44 q2).2]; exact p5
    · exact q
  · rcases tol with ⟨q1, q2, q3⟩ | q
    · unfold TolR; rw [q3, (i 49 q1).1, (i 48 q2).2]; exact h7
    · exact q
  · obtain ⟨q1, q2, q3, q4, q5⟩ := kep
    unfold KepR tS; rw [q3, (i 59 q1).2, (i 57 q2).2, sm.1, show 10 + 0 = 10 from rfl, q4]
    rcases h8 with q | ⟨q, a, d, w1, w2, w3, w4⟩
    · exact Or.inl q
    · exact Or.inr ⟨q, a, d, w1, w2, w3, w4.ext x⟩
  · obtain ⟨q1, q2, q3, q4, q5⟩ := kep
    unfold KepR tS; rw [q3, (i 59 q1).2, (i 57 q2).2, sm.1, show 10 + 1 = 11 from rfl, q5]
    rcases h9 with q | ⟨q, a, d, w1, w2, w3, w4⟩
    · exact Or.inl q
    · exact Or.inr ⟨q, a, d, w1, w2, w3, w4.ext x⟩
  · unfold ResR; rw [sm.1]; exact h10
/-- what is so stays; something of the rest is new -/
theorem Rel.ch {E : gE} {b : Nat} {S S' : GS} {A A' : FA} {M M' : MS} {ks : List Nat} (h : Rel E b A S M) (x : Ext S S') (sm : mSm ks M M') (hk : 1 ∉ ks ∧ 15 ∉ ks ∧ 6 ∉ ks ∧ 21 ∉ ks ∧ 23 ∉ ks) (e0 : aV A' 0 = aV A 0) (e2 : aI A' 2 = aI A 2) (e8 : aI A' 8 = aI A 8) (eR : aR A' 3 = aR A 3 ∧ aR A' 6 = aR A 6) (eC : aC A' = aC A) (eT : ∀ j, j ≠ 1 → aT A' j = aT A j) (tp : (2 ∉ ks ∧ aI A' 1 = aI A 1) ∨ (∃ t, t ≤ 940 ∧ aI A' 1 = Int32.ofNat t ∧ M'.1 2 = Int32.ofNat t)) (rst : RstR b S' A' M') : Rel E b A' S' M' := by
  obtain ⟨h1, ⟨t1, t2, t3⟩, ⟨a, d, u, g3, g0, gs, gW, gU⟩, h4⟩ := h
  have i := sm.2
  refine ⟨h1.ext x, ⟨?_, ?_, ?_⟩, ⟨a, d, u, ?_, ?_, ?_, ?_, ?_⟩, rst⟩
  · rw [e0, (i 1 hk.1).2]; exact t1
  · rcases tp with ⟨q1, q2⟩ | q
    · rw [q2, (i 2 q1).1]; exact t2
    · exact q
  · rw [e2, (i 15 hk.2.1).1]; exact t3
  · rw [eR.1]; exact g3
  · rw [eT 0 (by omega)]; exact g0
  · unfold tS; rw [eT 0 (by omega), (i 6 hk.2.2.1).2]; exact gs
  · rw [eR.2, (i 6 hk.2.2.1).2, sm.1]; exact gW.ext x
  · obtain ⟨u1, u2, u3, u4⟩ := gU
    refine ⟨u1, by rw [e8]; exact u2, by rw [(i 23 hk.2.2.2.2).1]; exact u3, fun j hj => ?_⟩
    have b1 := bi_ge (aC A) j
    unfold tS
    rw [eC, eT _ (by omega), (i 6 hk.2.2.1).2, (i 21 hk.2.2.2.1).2]
    exact u4 j hj
section WB
variable {E : gE} {N b : Nat} {A : FA} {S : GS} {a : Nat} {d : AD}
def bOb (b g h : Nat) (sp fr m : Int32) : GE := .inr (14, [.ref (tad b 0), .int (Int32.ofNat h), .int sp, .ref (g + 1), .int fr, .int m])
def bEn (fr : Int32) (_ : List Nat) (m : Int32) (x t : Int32) : Bool × Int32 := (false, if x = fr then mx m t else m)
theorem run_b (fr : Int32) : ∀ (L : List Row) (m : Int32), runR (bEn fr) L m = (none, rndF fr L m)
  | [], _ => rfl
  | r :: L, m => by
    have e : runR (bEn fr) (r :: L) m = runR (bEn fr) L (if r.2.1 = fr then mx m r.2.2 else m) := if_neg (show ¬ false = true by decide)
    rw [e, run_b fr L]
    rfl
theorem bWlk {S2 : GS} {g h : Nat} {sp fr : Int32} (hE : E.1 ≤ b) (hb : b ≤ g) (hT : TA b S A 0 a d) (x : Ext S S2) (hg : S.2.1 ≤ g) {e e' : GE} (c1 : Cel b S2 g e) (c2 : Cel b S2 (g + 1) e') : Wlk E N b A a d g 14 h sp (fun P m => wS S2 g (bOb b g h sp fr m) P) (bEn fr) := by
  refine ⟨Or.inr (Or.inl rfl), by omega, fun P w => ⟨hT.1, hT.2.1, hT.2.2.1.ext (wS_ext x hg), hT.2.2.2⟩, fun P w => ⟨_, wS_g c1⟩, fun P w => wS_p c2, fun P w k v => wS_u _ _ _ _ _, fun P m p x t _ _ _ _ => ?_⟩
  have c : Cel b (wS S2 g (bOb b g h sp fr m) P) g (.inr (14, [.ref (tad b 0), .int (Int32.ofNat h), .int sp, .ref (g + 1), .int fr, .int m])) := wS_g c1
  have hg2 : E.1 ≤ g := by omega
  simp only [vInchBorders_Walk_ends__III_Z, bX21_ends_20, bX21_ends_0, fX21_ends, pq_lit]
  simp only [↓kc c, ↓r14_87 c, ↓r14_88 c, ↓w14_88 c hg2, bEn]
  by_cases q1 : x = fr
  · have e9 : gup (wS S2 g (bOb b g h sp fr m) P) g (.inr (14, [.ref (tad b 0), .int (Int32.ofNat h), .int sp, .ref (g + 1), .int fr, .int (mx m t)])) = wS S2 g (bOb b g h sp fr (mx m t)) P := wS_o _ _ _ _ _
    have e8 : (if m < t then t else m) = mx m t := rfl
    simp (disch := omega) only [q1, e8, e9, pB_F, pq_lit, pq_add, pq_le, pq_lt, pq_eq, pq_en, pq_ne, pq_nle, pq_nlt, pq_len, pq_ltn, pB_z, pB_o, mzt_0, mzt_1, mzt_B, ↓gbd_s, gbd_s, ↓gnn_s, ↓grf_s, eq_self, ↓reduceIte, Nat.reduceEqDiff, Nat.reduceLeDiff, Nat.reduceLT, Nat.reduceMul, Nat.reduceAdd, not_true_eq_false, not_false_eq_true, Bool.false_eq_true]
  · simp (disch := omega) only [q1, pB_F, pq_lit, pq_add, pq_le, pq_lt, pq_eq, pq_en, pq_ne, pq_nle, pq_nlt, pq_len, pq_ltn, pB_z, pB_o, mzt_0, mzt_1, mzt_B, ↓gbd_s, gbd_s, ↓gnn_s, ↓grf_s, eq_self, ↓reduceIte, Nat.reduceEqDiff, Nat.reduceLeDiff, Nat.reduceLT, Nat.reduceMul, Nat.reduceAdd, not_true_eq_false, not_false_eq_true, Bool.false_eq_true]
theorem c_back (hE : E.1 ≤ b) (hb : b + 111 ≤ S.2.1) (hT : TA b S A 0 a d) {p : Nat} (hp : p < nP (tS A 0)) : ∃ S2, Ext S S2 ∧ S2.2 = (S.2.1 + 2, S.2.2.1 + 2, S.2.2.2 + 11) ∧ (∃ e e', Cel b S2 S.2.1 e ∧ Cel b S2 (S.2.1 + 1) e') ∧ fX21_init E N (put b A (gpush S (.inr (14, gdf 14)) (gdf 14).length)) S.2.1 (some (tad b 0)) (Int32.ofNat p) = some (Int32.ofNat 0, put b A (wS S2 S.2.1 (bOb b S.2.1 (hm (tS A 0) p) (spW (tS A 0) p) (tS A 0 (108 + p)) (-Int32.ofNat 1)) (fun _ => 0))) := by
  have h1 : Cel b (gpush S (.inr (14, gdf 14)) (gdf 14).length) S.2.1 (.inr (14, gdf 14)) := Cel.push hb _ _
  have hb2 : b + 111 ≤ (gpush S (.inr (14, gdf 14)) (gdf 14).length).2.1 := by rw [gpush_2]; omega
  have h2 : Cel b (gpush (gpush S (.inr (14, gdf 14)) (gdf 14).length) (.inl (1, 5, gdfa 1)) 5) S.2.1 (.inr (14, gdf 14)) := h1.ext (Ext.push _ _ _)
  have h3 : Cel b (gpush (gpush S (.inr (14, gdf 14)) (gdf 14).length) (.inl (1, 5, gdfa 1)) 5) (S.2.1 + 1) (.inl (1, 5, .inl (fun _ => 0))) := Cel.push hb2 _ _
  have hg : E.1 ≤ S.2.1 := by omega
  have h6 := hT.2.2.2.p6
  have hj := hT.1
  refine ⟨gpush (gpush S (.inr (14, gdf 14)) (gdf 14).length) (.inl (1, 5, gdfa 1)) 5, (Ext.push _ _ _).tr (Ext.push _ _ _), rfl, ⟨_, _, h2, h3⟩, ?_⟩
  rw [wS_i h3]
  simp only [bX21_init_7, bX21_init_0, fX21_init, pq_lit]
  simp (disch := omega) only [↓gbd_h (wi_14 hb hE hT hp (Int32.ofNat 0)), wi_14 hb hE hT hp (Int32.ofNat 0), ↓w14_88 (h2.up _) hg, ↓t_34, t_34, ↓t_g3, t_g3, ↓w14_87 (h2.up _) hg, gup_gup, bOb, spW_0]
theorem c_rndL {S2 : GS} {g h : Nat} {sp : Int32} (hN : 100 ≤ N) {p : Nat} (H : Wlk E N b A a d g 14 h sp (fun P m => wS S2 g (bOb b g h sp (tS A 0 (108 + p)) m) P) (bEn (tS A 0 (108 + p)))) (hh : h < nL (tS A 0)) (hp : p < nP (tS A 0)) {e : GE} (c1 : Cel b S2 g e) : ∀ (m k q : Nat) (P : Nat → Int32) (w : Int32), k + m = 6 → m < q → ∃ P', bX1_round_25L E N b q (put b A (wS S2 g (bOb b g h sp (tS A 0 (108 + p)) w) P)) (Int32.ofNat p) (some g) (Int32.ofNat k) = some (rndS (tS A 0) h sp (tS A 0 (108 + p)) (tS A 0 (114 + p)) (tS A 0 (94 + h)) k m w, put b A (wS S2 g (bOb b g h sp (tS A 0 (108 + p)) (rndS (tS A 0) h sp (tS A 0 (108 + p)) (tS A 0 (114 + p)) (tS A 0 (94 + h)) k m w)) P'))
  | m, k, 0, P, _, _, h => by omega
  | 0, k, q + 1, P, w, hk, _ => by
    refine ⟨P, ?_⟩
    have z : 5 < k := by omega
    have c : Cel b (wS S2 g (bOb b g h sp (tS A 0 (108 + p)) w) P) g (.inr (14, [.ref (tad b 0), .int (Int32.ofNat h), .int sp, .ref (g + 1), .int (tS A 0 (108 + p)), .int w])) := wS_g c1
    simp only [bX1_round_25L, bX1_round_25, pq_lit, rndS]
    simp (disch := omega) only [z, ↓r14_88 c, pq_lit, pq_add, pq_le, pq_lt, pq_eq, pq_en, pq_ne, pq_nle, pq_nlt, pq_len, pq_ltn, pB_z, pB_o, mzt_0, mzt_1, mzt_B, ↓gbd_s, gbd_s, ↓gnn_s, ↓grf_s, eq_self, ↓reduceIte, Nat.reduceEqDiff, Nat.reduceLeDiff, Nat.reduceLT, Nat.reduceMul, Nat.reduceAdd, not_true_eq_false, not_false_eq_true, Bool.false_eq_true]
  | m + 1, k, q + 1, P, w, hk, hq => by
    have z : ¬ 5 < k := by omega
    obtain ⟨P1, r1, r2, r3⟩ := c_starts H hN hh hp (j := k) (by omega) P w
    rw [run_b] at r1
    obtain ⟨xs, hx⟩ := H.2.2.2.1 P w
    obtain ⟨P2, j⟩ := c_rndL hN H hh hp c1 m (k + 1) q P1 (rndF (tS A 0 (108 + p)) (rows (tS A 0) h sp k (tS A 0 (108 + p)) (tS A 0 (114 + p)) (tS A 0 (94 + h))) w) (by omega) (by omega)
    refine ⟨P2, ?_⟩
    show _ = some (rndS (tS A 0) h sp (tS A 0 (108 + p)) (tS A 0 (114 + p)) (tS A 0 (94 + h)) (k + 1) m _, put b A (wS S2 g (bOb b g h sp (tS A 0 (108 + p)) (rndS (tS A 0) h sp (tS A 0 (108 + p)) (tS A 0 (114 + p)) (tS A 0 (94 + h)) (k + 1) m _)) P2))
    rw [← j]
    simp only [bX1_round_25L, bX1_round_25, bX1_round_36, vInchBorders_Back_starts__II_Z, pq_lit]
    simp (disch := omega) only [z, ↓kc hx, ↓gbd_h (r1), r1, pq_lit, pq_add, pq_le, pq_lt, pq_eq, pq_en, pq_ne, pq_nle, pq_nlt, pq_len, pq_ltn, pB_z, pB_o, mzt_0, mzt_1, mzt_B, ↓gbd_s, gbd_s, ↓gnn_s, ↓grf_s, eq_self, ↓reduceIte, Nat.reduceEqDiff, Nat.reduceLeDiff, Nat.reduceLT, Nat.reduceMul, Nat.reduceAdd, not_true_eq_false, not_false_eq_true, Bool.false_eq_true]
end WB
section OK2
variable {E : gE} {N b : Nat} {A : FA} {S : GS} {M : MS}
theorem o_round (h : Rel E b A S M) (hN : 3000000 ≤ N) (x : Int32) : Op E b S 2 11 (fX1_round E N (put b A S) b x) (fX5_round N M x) := by
  have hh := h
  obtain ⟨r1, r2, ⟨a, d, u, h3, h0, hs, hW, hU⟩, r4⟩ := h
  have hE := r1.1
  have hb := r1.2.1
  have hI := hW.2.2.2.1
  have h6 := hI.p6
  have h7 := hI.l7
  have hI0 : IvS ((mF M 0 (Int32.ofNat 0)).2.2.1 6) := hI
  have hT : TA b S A 0 a d := ⟨by omega, h0, by rw [hs]; exact hW.1, by rw [hs]; exact hI⟩
  by_cases e1 : inN x (nP (M.2.2.1 6)) = true
  · have e0 := e1
    obtain ⟨p, hp, rfl⟩ := (inN_i (by omega)).mp e1
    have hp' : p < nP (tS A 0) := by rw [hs]; exact hp
    have hh' := hI.hl hp
    obtain ⟨S2, x2, s2, ⟨c0, c0', c1, c2⟩, gi⟩ := c_back (E := E) (N := N) hE hb hT hp'
    have H := bWlk (E := E) (N := N) (h := hm (tS A 0) p) (sp := spW (tS A 0) p) (fr := tS A 0 (108 + p)) hE (show b ≤ S.2.1 by omega) hT x2 (Nat.le_refl _) c1 c2
    obtain ⟨P', cf⟩ := c_rndL (show 100 ≤ N by omega) H (by rw [hs]; exact hh') hp' c1 5 1 N (fun _ => 0) (-Int32.ofNat 1) (by omega) (by omega)
    obtain ⟨M1, m1, mf⟩ := m_rnd3 (N := N) hI hN hp 5 1 N (mF M 0 (Int32.ofNat 0)) (-Int32.ofNat 1) rfl (by omega) (by omega) (by omega)
    rw [hs] at cf gi
    have cc := Eq.trans (a := fX1_round E N (put b A S) b (Int32.ofNat p)) (by
      simp only [fX1_round, bX1_round_0, bX1_round_5, bX1_round_13, bX1_round_22, pq_lit]
      simp (disch := omega) only [↓gbd_h (k_isP h3 hW.1 _), k_isP h3 hW.1 _, e0, ↓gnw_n hb, ↓f_4, ↓gbd_h (gi), gi, pq_lit, pq_add, pq_le, pq_lt, pq_eq, pq_en, pq_ne, pq_nle, pq_nlt, pq_len, pq_ltn, pB_z, pB_o, mzt_0, mzt_1, mzt_B, ↓gbd_s, gbd_s, ↓gnn_s, ↓grf_s, eq_self, ↓reduceIte, Nat.reduceEqDiff, Nat.reduceLeDiff, Nat.reduceLT, Nat.reduceMul, Nat.reduceAdd, not_true_eq_false, not_false_eq_true, Bool.false_eq_true]) cf
    have mm := Eq.trans (a := fX5_round N M (Int32.ofNat p)) (by
      simp only [fX5_round, bX5_round_0, pq_lit]
      simp (disch := omega) only [↓mpt, ↓mbd_h (m_isPerson hI0 _), m_isPerson hI0 _, mF_a, e0, eq_self, ↓reduceIte, Nat.reduceEqDiff, Nat.reduceLeDiff, Nat.reduceLT, Nat.reduceMul, Nat.reduceAdd, not_true_eq_false, not_false_eq_true, Bool.false_eq_true, pq_lit, pq_add, pq_le, pq_lt, pq_eq, pq_en, pq_ne, pq_nle, pq_nlt, pq_len, pq_ltn, pB_z, pB_o, mzt_0, mzt_1, mzt_B]) mf
    exact ⟨_, A, _, M1, cc, mm, (hh.ext (wS_ext x2 (Nat.le_refl _))).mm (ks := [0, 24, 25, 26, 27, 28, 29, 30]) (((mSm.rf (ks := [0, 24, 25, 26, 27, 28, 29, 30])).mF _ (by decide)).tr (m1.su (by decide))) (by decide), Nat.le_of_eq (by show S2.2.2.1 = _; rw [s2]), Nat.le_of_eq (by show S2.2.2.2 = _; rw [s2])⟩
  · refine ⟨-Int32.ofNat 1, A, S, mF M 0 (Int32.ofNat 0), ?_, ?_, hh.m0 _, Nat.le_add_right _ _, Nat.le_add_right _ _⟩
    · simp only [fX1_round, bX1_round_0, bX1_round_5, pq_lit]
      simp (disch := omega) only [↓gbd_h (k_isP h3 hW.1 _), k_isP h3 hW.1 _, e1, pq_lit, pq_add, pq_le, pq_lt, pq_eq, pq_en, pq_ne, pq_nle, pq_nlt, pq_len, pq_ltn, pB_z, pB_o, mzt_0, mzt_1, mzt_B, ↓gbd_s, gbd_s, ↓gnn_s, ↓grf_s, eq_self, ↓reduceIte, Nat.reduceEqDiff, Nat.reduceLeDiff, Nat.reduceLT, Nat.reduceMul, Nat.reduceAdd, not_true_eq_false, not_false_eq_true, Bool.false_eq_true]
    · simp only [fX5_round, bX5_round_0, pq_lit]
      simp (disch := omega) only [↓mpt, ↓mbd_h (m_isPerson hI0 _), m_isPerson hI0 _, mF_a, e1, eq_self, ↓reduceIte, Nat.reduceEqDiff, Nat.reduceLeDiff, Nat.reduceLT, Nat.reduceMul, Nat.reduceAdd, not_true_eq_false, not_false_eq_true, Bool.false_eq_true, pq_lit, pq_add, pq_le, pq_lt, pq_eq, pq_en, pq_ne, pq_nle, pq_nlt, pq_len, pq_ltn, pB_z, pB_o, mzt_0, mzt_1, mzt_B]
end OK2
