/-! ways: the walker to a goal -/
theorem pB_T {i : Decidable True} : @pB True i = Int32.ofNat 1 := if_pos trivial
theorem pB_F {i : Decidable False} : @pB False i = Int32.ofNat 0 := if_neg id
def wS (S2 : GS) (g : Nat) (o : GE) (P : Nat → Int32) : GS := gup (gup S2 g o) (g + 1) (.inl (1, 5, .inl P))
theorem wS_ext {S S2 : GS} {g : Nat} {o : GE} {P : Nat → Int32} (x : Ext S S2) (hg : S.2.1 ≤ g) : Ext S (wS S2 g o P) := (x.gup hg).gup (by omega)
theorem wS_g {b : Nat} {S2 : GS} {g : Nat} {o e : GE} {P : Nat → Int32} (h : Cel b S2 g e) : Cel b (wS S2 g o P) g o := (h.up o).uo (by omega) _
theorem wS_p {b : Nat} {S2 : GS} {g : Nat} {o e : GE} {P : Nat → Int32} (h : Cel b S2 (g + 1) e) : Cel b (wS S2 g o P) (g + 1) (.inl (1, 5, .inl P)) := (h.uo (by omega) o).up _
theorem wS_u (S2 : GS) (g : Nat) (o : GE) (P P' : Nat → Int32) : gup (wS S2 g o P) (g + 1) (.inl (1, 5, .inl P')) = wS S2 g o P' := gup_gup _ _ _ _
theorem gup_cm (S : GS) {p q : Nat} (e e' : GE) (h : p ≠ q) : gup (gup S p e) q e' = gup (gup S q e') p e := by
  unfold gup
  refine Prod.ext (funext fun i => ?_) rfl
  simp only [va_up]
  by_cases h1 : i = p
  · subst h1
    rw [if_neg h, if_pos rfl, if_pos rfl]
  · by_cases h2 : i = q
    · subst h2
      rw [if_pos rfl, if_neg h1, if_pos rfl]
    · rw [if_neg h2, if_neg h1, if_neg h1, if_neg h2]
theorem wS_o (S2 : GS) (g : Nat) (o o' : GE) (P : Nat → Int32) : gup (wS S2 g o P) g o' = wS S2 g o' P := by
  unfold wS
  rw [gup_cm _ _ _ (by omega), gup_gup]
theorem wS_i {b : Nat} {S2 : GS} {g : Nat} {o : GE} {P : Nat → Int32} (h : Cel b S2 (g + 1) (.inl (1, 5, .inl P))) : wS S2 g o P = gup S2 g o := by
  unfold wS
  exact gup_i (h.uo (by omega) o).1
section WG
variable {E : gE} {N b : Nat} {A : FA} {S : GS} {a : Nat} {d : AD}
def gOb (b g h : Nat) (sp l n : Int32) : GE := .inr (13, [.ref (tad b 0), .int (Int32.ofNat h), .int sp, .ref (g + 1), .int l, .int n])
def gEn (l n : Int32) (_ : List Nat) (_ : Unit) (x t : Int32) : Bool × Unit := (decide (x = l ∧ ¬ t < n), ())
theorem run_g (l n : Int32) : ∀ (L : List Row), (runR (gEn l n) L ()).1 = fnd l n L
  | [] => rfl
  | r :: L => by
    have ih := run_g l n L
    unfold fnd at ih ⊢
    by_cases q : r.2.1 = l ∧ ¬ r.2.2 < n
    · have e : (gEn l n r.1 () r.2.1 r.2.2).1 = true := decide_eq_true q
      have e2 : runR (gEn l n) (r :: L) () = (some r, (gEn l n r.1 () r.2.1 r.2.2).2) := if_pos e
      rw [List.find?_cons_of_pos (by simpa using q), e2]
    · have e : ¬ (gEn l n r.1 () r.2.1 r.2.2).1 = true := fun w => q (of_decide_eq_true w)
      have e2 : runR (gEn l n) (r :: L) () = runR (gEn l n) L () := if_neg e
      rw [List.find?_cons_of_neg (by simpa using q), ← ih, e2]
theorem gWlk {S2 : GS} {g h : Nat} {sp l n : Int32} (hE : E.1 ≤ b) (hb : b ≤ g) (hT : TA b S A 0 a d) (x : Ext S S2) (hg : S.2.1 ≤ g) {e e' : GE} (c1 : Cel b S2 g e) (c2 : Cel b S2 (g + 1) e') : Wlk E N b A a d g 13 h sp (fun P (_ : Unit) => wS S2 g (gOb b g h sp l n) P) (gEn l n) := by
  refine ⟨Or.inl rfl, by omega, fun P w => ⟨hT.1, hT.2.1, hT.2.2.1.ext (wS_ext x hg), hT.2.2.2⟩, fun P w => ⟨_, wS_g c1⟩, fun P w => wS_p c2, fun P w k v => wS_u _ _ _ _ _, fun P w p x t _ _ _ _ => ?_⟩
  have c : Cel b (wS S2 g (gOb b g h sp l n) P) g (.inr (13, [.ref (tad b 0), .int (Int32.ofNat h), .int sp, .ref (g + 1), .int l, .int n])) := wS_g c1
  simp only [vInchBorders_Walk_ends__III_Z, bX20_ends_21, bX20_ends_20, bX20_ends_0, fX20_ends, pq_lit]
  simp only [↓kc c, ↓r13_85 c, ↓r13_86 c, gEn]
  by_cases q1 : x = l
  · by_cases q2 : t < n
    · simp (disch := omega) only [q1, q2, and_false, true_and, decide_false, pB_F, pq_lit, pq_add, pq_le, pq_lt, pq_eq, pq_en, pq_ne, pq_nle, pq_nlt, pq_len, pq_ltn, pB_z, pB_o, mzt_0, mzt_1, mzt_B, ↓gbd_s, gbd_s, ↓gnn_s, ↓grf_s, eq_self, ↓reduceIte, Nat.reduceEqDiff, Nat.reduceLeDiff, Nat.reduceLT, Nat.reduceMul, Nat.reduceAdd, not_true_eq_false, not_false_eq_true, Bool.false_eq_true]
    · simp (disch := omega) only [q1, q2, and_true, true_and, decide_true, pB_T, pq_lit, pq_add, pq_le, pq_lt, pq_eq, pq_en, pq_ne, pq_nle, pq_nlt, pq_len, pq_ltn, pB_z, pB_o, mzt_0, mzt_1, mzt_B, ↓gbd_s, gbd_s, ↓gnn_s, ↓grf_s, eq_self, ↓reduceIte, Nat.reduceEqDiff, Nat.reduceLeDiff, Nat.reduceLT, Nat.reduceMul, Nat.reduceAdd, not_true_eq_false, not_false_eq_true, Bool.false_eq_true]
  · simp (disch := omega) only [q1, false_and, decide_false, pB_F, pq_lit, pq_add, pq_le, pq_lt, pq_eq, pq_en, pq_ne, pq_nle, pq_nlt, pq_len, pq_ltn, pB_z, pB_o, mzt_0, mzt_1, mzt_B, ↓gbd_s, gbd_s, ↓gnn_s, ↓grf_s, eq_self, ↓reduceIte, Nat.reduceEqDiff, Nat.reduceLeDiff, Nat.reduceLT, Nat.reduceMul, Nat.reduceAdd, not_true_eq_false, not_false_eq_true, Bool.false_eq_true]
theorem c_fewL {S2 : GS} {g h : Nat} {sp l n : Int32} (hN : 100 ≤ N) (H : Wlk E N b A a d g 13 h sp (fun P (_ : Unit) => wS S2 g (gOb b g h sp l n) P) (gEn l n)) (hh : h < nL (tS A 0)) {p : Nat} (hp : p < nP (tS A 0)) : ∀ (m k q : Nat) (P : Nat → Int32), k + m = 6 → m < q → ∃ P', match fewS (tS A 0) h sp (tS A 0 (108 + p)) (tS A 0 (114 + p)) (tS A 0 (94 + h)) l n k m with
    | some r => bX20_fewest_2L E N g q (put b A (wS S2 g (gOb b g h sp l n) P)) (Int32.ofNat p) (Int32.ofNat k) = some (Int32.ofNat r.1, put b A (wS S2 g (gOb b g h sp l n) P')) ∧ Pth P' r.2.1 ∧ r.1 ≤ 5 ∧ r.2.1.length = r.1
    | none => bX20_fewest_2L E N g q (put b A (wS S2 g (gOb b g h sp l n) P)) (Int32.ofNat p) (Int32.ofNat k) = some (-Int32.ofNat 1, put b A (wS S2 g (gOb b g h sp l n) P'))
  | m, k, 0, P, _, h => by omega
  | 0, k, q + 1, P, hk, _ => by
    refine ⟨P, ?_⟩
    have w : 5 < k := by omega
    show _ = _
    simp only [bX20_fewest_2L, bX20_fewest_2, pq_lit]
    simp (disch := omega) only [w, pq_lit, pq_add, pq_le, pq_lt, pq_eq, pq_en, pq_ne, pq_nle, pq_nlt, pq_len, pq_ltn, pB_z, pB_o, mzt_0, mzt_1, mzt_B, ↓gbd_s, gbd_s, ↓gnn_s, ↓grf_s, eq_self, ↓reduceIte, Nat.reduceEqDiff, Nat.reduceLeDiff, Nat.reduceLT, Nat.reduceMul, Nat.reduceAdd, not_true_eq_false, not_false_eq_true, Bool.false_eq_true]
  | m + 1, k, q + 1, P, hk, hq => by
    have w : ¬ 5 < k := by omega
    obtain ⟨P1, r1, r2, r3⟩ := c_starts H hN hh hp (j := k) (by omega) P ()
    rw [run_g] at r1 r3
    obtain ⟨xs, hx⟩ := H.2.2.2.1 P ()
    have st : bX20_fewest_2L E N g (q + 1) (put b A (wS S2 g (gOb b g h sp l n) P)) (Int32.ofNat p) (Int32.ofNat k) = if (fnd l n (rows (tS A 0) h sp k (tS A 0 (108 + p)) (tS A 0 (114 + p)) (tS A 0 (94 + h)))).isSome = true then some (Int32.ofNat k, put b A (wS S2 g (gOb b g h sp l n) P1)) else bX20_fewest_2L E N g q (put b A (wS S2 g (gOb b g h sp l n) P1)) (Int32.ofNat p) (Int32.ofNat (k + 1)) := by
      simp only [bX20_fewest_2L, bX20_fewest_2, vInchBorders_Goal_starts__II_Z, pq_lit]
      simp (disch := omega) only [w, ↓kc hx, ↓gbd_h (r1), r1, pq_lit, pq_add, pq_le, pq_lt, pq_eq, pq_en, pq_ne, pq_nle, pq_nlt, pq_len, pq_ltn, pB_z, pB_o, mzt_0, mzt_1, mzt_B, ↓gbd_s, gbd_s, ↓gnn_s, ↓grf_s, eq_self, ↓reduceIte, Nat.reduceEqDiff, Nat.reduceLeDiff, Nat.reduceLT, Nat.reduceMul, Nat.reduceAdd, not_true_eq_false, not_false_eq_true, Bool.false_eq_true]
      cases z : (fnd l n (rows (tS A 0) h sp k (tS A 0 (108 + p)) (tS A 0 (114 + p)) (tS A 0 (94 + h)))).isSome <;> simp
    rw [st]
    unfold fewS
    cases z : fnd l n (rows (tS A 0) h sp k (tS A 0 (108 + p)) (tS A 0 (114 + p)) (tS A 0 (94 + h))) with
    | some r =>
      have hr := rows_len k _ _ _ r (List.mem_of_find?_eq_some z)
      exact ⟨P1, rfl, r3 r z, by omega, hr.1⟩
    | none =>
      obtain ⟨P2, j⟩ := c_fewL hN H hh hp m (k + 1) q P1 (by omega) (by omega)
      exact ⟨P2, j⟩
/-- a goal is made, and gone for -/
theorem c_goal (hE : E.1 ≤ b) (hb : b + 111 ≤ S.2.1) (hN : 1000 ≤ N) (hT : TA b S A 0 a d) {p : Nat} (hp : p < nP (tS A 0)) (more l n : Int32) : ∃ S2, Ext S S2 ∧ S2.2 = (S.2.1 + 2, S.2.2.1 + 2, S.2.2.2 + 11) ∧ (∃ e e', Cel b S2 S.2.1 e ∧ Cel b S2 (S.2.1 + 1) e') ∧ fX20_init E N (put b A (gpush S (.inr (13, gdf 13)) (gdf 13).length)) S.2.1 (some (tad b 0)) (Int32.ofNat p) more l n = some (Int32.ofNat 0, put b A (wS S2 S.2.1 (gOb b S.2.1 (hm (tS A 0) p) (spW (tS A 0) p ||| more) l n) (fun _ => 0))) := by
  have h1 : Cel b (gpush S (.inr (13, gdf 13)) (gdf 13).length) S.2.1 (.inr (13, gdf 13)) := Cel.push hb _ _
  have hb2 : b + 111 ≤ (gpush S (.inr (13, gdf 13)) (gdf 13).length).2.1 := by rw [gpush_2]; omega
  have h2 : Cel b (gpush (gpush S (.inr (13, gdf 13)) (gdf 13).length) (.inl (1, 5, gdfa 1)) 5) S.2.1 (.inr (13, gdf 13)) := h1.ext (Ext.push _ _ _)
  have h3 : Cel b (gpush (gpush S (.inr (13, gdf 13)) (gdf 13).length) (.inl (1, 5, gdfa 1)) 5) (S.2.1 + 1) (.inl (1, 5, .inl (fun _ => 0))) := Cel.push hb2 _ _
  have hg : E.1 ≤ S.2.1 := by omega
  refine ⟨gpush (gpush S (.inr (13, gdf 13)) (gdf 13).length) (.inl (1, 5, gdfa 1)) 5, (Ext.push _ _ _).tr (Ext.push _ _ _), rfl, ⟨_, _, h2, h3⟩, ?_⟩
  rw [wS_i h3]
  simp only [bX20_init_7, bX20_init_0, fX20_init, pq_lit]
  simp (disch := omega) only [↓gbd_h (wi_13 hb hE hT hp more), wi_13 hb hE hT hp more, ↓w13_85 (h2.up _) hg, ↓w13_86 (h2.up _) hg, gup_gup, gOb]
end WG
section OJ
variable {E : gE} {N b : Nat} {A : FA} {S : GS} {M : MS}
theorem k_ask {a : Nat} {s : St} {d : AD} (h3 : aR A 3 = some a) (hA : AtD b S a s d) (x y z : Int32) : vInchBorders_isAsked__III_Z E N (put b A S) (some b) x y z = some (pB (inN x (nP s) = true ∧ inN y (nL s) = true ∧ (Int32.ofNat 0 ≤ z ∧ z ≤ Int32.ofNat 240)), put b A S) := by
  simp only [vInchBorders_isAsked__III_Z, bX1_isAsked_32, bX1_isAsked_31, bX1_isAsked_0, fX1_isAsked, pq_lit]
  by_cases e1 : inN x (nP s) = true
  · by_cases e2 : inN y (nL s) = true
    · by_cases e3 : Int32.ofNat 0 ≤ z ∧ z ≤ Int32.ofNat 240
      · rw [pB_t ⟨e1, e2, e3⟩]
        simp (disch := omega) only [↓f_cls, ↓gbd_h (k_isP h3 hA _), k_isP h3 hA _, ↓gbd_h (k_isL h3 hA _), k_isL h3 hA _, ↓gbd_h (c_isIn _ _ _), c_isIn _ _ _, e1, e2, e3, and_self, pq_lit, pq_add, pq_le, pq_lt, pq_eq, pq_en, pq_ne, pq_nle, pq_nlt, pq_len, pq_ltn, pB_z, pB_o, mzt_0, mzt_1, mzt_B, ↓gbd_s, gbd_s, ↓gnn_s, ↓grf_s, eq_self, ↓reduceIte, Nat.reduceEqDiff, Nat.reduceLeDiff, Nat.reduceLT, Nat.reduceMul, Nat.reduceAdd, not_true_eq_false, not_false_eq_true, Bool.false_eq_true]
      · rw [pB_f (fun q => e3 q.2.2)]
        simp (disch := omega) only [↓f_cls, ↓gbd_h (k_isP h3 hA _), k_isP h3 hA _, ↓gbd_h (k_isL h3 hA _), k_isL h3 hA _, ↓gbd_h (c_isIn _ _ _), c_isIn _ _ _, e1, e2, e3, pq_lit, pq_add, pq_le, pq_lt, pq_eq, pq_en, pq_ne, pq_nle, pq_nlt, pq_len, pq_ltn, pB_z, pB_o, mzt_0, mzt_1, mzt_B, ↓gbd_s, gbd_s, ↓gnn_s, ↓grf_s, eq_self, ↓reduceIte, Nat.reduceEqDiff, Nat.reduceLeDiff, Nat.reduceLT, Nat.reduceMul, Nat.reduceAdd, not_true_eq_false, not_false_eq_true, Bool.false_eq_true]
    · rw [pB_f (fun q => e2 q.2.1)]
      simp (disch := omega) only [↓f_cls, ↓gbd_h (k_isP h3 hA _), k_isP h3 hA _, ↓gbd_h (k_isL h3 hA _), k_isL h3 hA _, e1, e2, pq_lit, pq_add, pq_le, pq_lt, pq_eq, pq_en, pq_ne, pq_nle, pq_nlt, pq_len, pq_ltn, pB_z, pB_o, mzt_0, mzt_1, mzt_B, ↓gbd_s, gbd_s, ↓gnn_s, ↓grf_s, eq_self, ↓reduceIte, Nat.reduceEqDiff, Nat.reduceLeDiff, Nat.reduceLT, Nat.reduceMul, Nat.reduceAdd, not_true_eq_false, not_false_eq_true, Bool.false_eq_true]
  · rw [pB_f (fun q => e1 q.1)]
    simp (disch := omega) only [↓f_cls, ↓gbd_h (k_isP h3 hA _), k_isP h3 hA _, e1, pq_lit, pq_add, pq_le, pq_lt, pq_eq, pq_en, pq_ne, pq_nle, pq_nlt, pq_len, pq_ltn, pB_z, pB_o, mzt_0, mzt_1, mzt_B, ↓gbd_s, gbd_s, ↓gnn_s, ↓grf_s, eq_self, ↓reduceIte, Nat.reduceEqDiff, Nat.reduceLeDiff, Nat.reduceLT, Nat.reduceMul, Nat.reduceAdd, not_true_eq_false, not_false_eq_true, Bool.false_eq_true]
theorem m_wayC {k : Nat} (hk : k ≤ 5) : ∀ (m i n : Nat) (M : MS), i + m = k → m < n → bX5_way_63L N n M (Int32.ofNat k) (Int32.ofNat i) = some (Int32.ofNat k, mR M 31 (cpF (M.2.2.1 31) (M.2.2.1 27) i i m))
  | m, i, 0, M, _, h => by omega
  | 0, i, n + 1, M, h, _ => by
    have q : k ≤ i := by omega
    simp only [bX5_way_63L, bX5_way_63, pq_lit]
    simp (disch := omega) only [q, cpF_0, mR_id, eq_self, ↓reduceIte, Nat.reduceEqDiff, Nat.reduceLeDiff, Nat.reduceLT, Nat.reduceMul, Nat.reduceAdd, not_true_eq_false, not_false_eq_true, Bool.false_eq_true, pq_lit, pq_add, pq_le, pq_lt, pq_eq, pq_en, pq_ne, pq_nle, pq_nlt, pq_len, pq_ltn, pB_z, pB_o, mzt_0, mzt_1, mzt_B]
  | m + 1, i, n + 1, M, h, hn => by
    have q : ¬ k ≤ i := by omega
    have ih := m_wayC hk m (i + 1) n (mR M 31 (upd (M.2.2.1 31) i (M.2.2.1 27 i))) (by omega) (by omega)
    simp (disch := omega) only [mA_e, mA_n, mR_mR, cpF_s] at ih
    simp only [bX5_way_63L, bX5_way_63, pq_lit]
    simp (disch := omega) only [q, ↓mrd_n, mrd_n, mwr_n, ma_s, ih, eq_self, ↓reduceIte, Nat.reduceEqDiff, Nat.reduceLeDiff, Nat.reduceLT, Nat.reduceMul, Nat.reduceAdd, not_true_eq_false, not_false_eq_true, Bool.false_eq_true, pq_lit, pq_add, pq_le, pq_lt, pq_eq, pq_en, pq_ne, pq_nle, pq_nlt, pq_len, pq_ltn, pB_z, pB_o, mzt_0, mzt_1, mzt_B]
theorem m_ask (hI0 : IvS ((mF M 0 (Int32.ofNat 0)).2.2.1 6)) (x y z : Int32) (K : Int32 → MS → Option (Int32 × MS)) (bad : MS → Option (Int32 × MS)) : (mbd (fX5_isPerson N (mF M 0 (Int32.ofNat 0)) x) fun r_2 S_3 => if r_2 = Int32.ofNat 0 then bad S_3 else mbd (fX5_isLand N S_3 y) fun r_6 S_7 => if r_6 = Int32.ofNat 0 then bad S_7 else mbd (fX5_isIn N S_7 z (Int32.ofNat 0) (Int32.ofNat 240)) fun r_10 S_11 => if r_10 = Int32.ofNat 0 then bad S_11 else K r_10 S_11) = if inN x (nP (M.2.2.1 6)) = true ∧ inN y (nL (M.2.2.1 6)) = true ∧ (Int32.ofNat 0 ≤ z ∧ z ≤ Int32.ofNat 240) then K (Int32.ofNat 1) (mF M 0 (Int32.ofNat 0)) else bad (mF M 0 (Int32.ofNat 0)) := by
  by_cases e1 : inN x (nP (M.2.2.1 6)) = true
  · by_cases e2 : inN y (nL (M.2.2.1 6)) = true
    · by_cases e3 : Int32.ofNat 0 ≤ z ∧ z ≤ Int32.ofNat 240
      · simp (disch := omega) only [↓mbd_h (m_isPerson hI0 _), m_isPerson hI0 _, ↓mbd_h (m_isLand hI0 _), m_isLand hI0 _, ↓mbd_h (m_isIn _ _ _), m_isIn _ _ _, mF_a, e1, e2, e3, and_self, pB_T, eq_self, ↓reduceIte, Nat.reduceEqDiff, Nat.reduceLeDiff, Nat.reduceLT, Nat.reduceMul, Nat.reduceAdd, not_true_eq_false, not_false_eq_true, Bool.false_eq_true, pq_lit, pq_add, pq_le, pq_lt, pq_eq, pq_en, pq_ne, pq_nle, pq_nlt, pq_len, pq_ltn, pB_z, pB_o, mzt_0, mzt_1, mzt_B]
      · simp (disch := omega) only [↓mbd_h (m_isPerson hI0 _), m_isPerson hI0 _, ↓mbd_h (m_isLand hI0 _), m_isLand hI0 _, ↓mbd_h (m_isIn _ _ _), m_isIn _ _ _, mF_a, e1, e2, e3, and_false, eq_self, ↓reduceIte, Nat.reduceEqDiff, Nat.reduceLeDiff, Nat.reduceLT, Nat.reduceMul, Nat.reduceAdd, not_true_eq_false, not_false_eq_true, Bool.false_eq_true, pq_lit, pq_add, pq_le, pq_lt, pq_eq, pq_en, pq_ne, pq_nle, pq_nlt, pq_len, pq_ltn, pB_z, pB_o, mzt_0, mzt_1, mzt_B]
    · simp (disch := omega) only [↓mbd_h (m_isPerson hI0 _), m_isPerson hI0 _, ↓mbd_h (m_isLand hI0 _), m_isLand hI0 _, mF_a, e1, e2, false_and, and_false, eq_self, ↓reduceIte, Nat.reduceEqDiff, Nat.reduceLeDiff, Nat.reduceLT, Nat.reduceMul, Nat.reduceAdd, not_true_eq_false, not_false_eq_true, Bool.false_eq_true, pq_lit, pq_add, pq_le, pq_lt, pq_eq, pq_en, pq_ne, pq_nle, pq_nlt, pq_len, pq_ltn, pB_z, pB_o, mzt_0, mzt_1, mzt_B]
  · simp (disch := omega) only [↓mbd_h (m_isPerson hI0 _), m_isPerson hI0 _, mF_a, e1, false_and, eq_self, ↓reduceIte, Nat.reduceEqDiff, Nat.reduceLeDiff, Nat.reduceLT, Nat.reduceMul, Nat.reduceAdd, not_true_eq_false, not_false_eq_true, Bool.false_eq_true, pq_lit, pq_add, pq_le, pq_lt, pq_eq, pq_en, pq_ne, pq_nle, pq_nlt, pq_len, pq_ltn, pB_z, pB_o, mzt_0, mzt_1, mzt_B]
theorem spW_0 (s : St) (p : Nat) : spW s p ||| Int32.ofNat 0 = spW s p := pq_or0 _
theorem o_way (h : Rel E b A S M) (hN : 3000000 ≤ N) (x y z : Int32) : Op E b S 2 11 (fX1_way E N (put b A S) b x y z) (fX5_way N M x y z) := by
  have hh := h
  obtain ⟨r1, r2, ⟨a, d, u, h3, h0, hs, hW, hU⟩, r4⟩ := h
  have hE := r1.1
  have hb := r1.2.1
  have hI := hW.2.2.2.1
  have h6 := hI.p6
  have h7 := hI.l7
  have hI0 : IvS ((mF M 0 (Int32.ofNat 0)).2.2.1 6) := hI
  have hT : TA b S A 0 a d := ⟨by omega, h0, by rw [hs]; exact hW.1, by rw [hs]; exact hI⟩
  have mAsk := m_ask (N := N) (M := M) hI0 x y z
  by_cases e : inN x (nP (M.2.2.1 6)) = true ∧ inN y (nL (M.2.2.1 6)) = true ∧ (Int32.ofNat 0 ≤ z ∧ z ≤ Int32.ofNat 240)
  · have e' := e
    obtain ⟨e1, e2, e3⟩ := e
    obtain ⟨p, hp, rfl⟩ := (inN_i (by omega)).mp e1
    obtain ⟨l, hl, rfl⟩ := (inN_i (by omega)).mp e2
    obtain ⟨n, hn, rfl⟩ := pq_ofle e3.1 e3.2 (by omega)
    have hp' : p < nP (tS A 0) := by rw [hs]; exact hp
    have hh' := hI.hl hp
    obtain ⟨S2, x2, s2, ⟨c0, c0', c1, c2⟩, gi⟩ := c_goal (E := E) (N := N) hE hb (by omega) hT hp' (Int32.ofNat 0) (Int32.ofNat l) (Int32.ofNat n)
    have H := gWlk (E := E) (N := N) (h := hm (tS A 0) p) (sp := spW (tS A 0) p ||| Int32.ofNat 0) (l := Int32.ofNat l) (n := Int32.ofNat n) hE (show b ≤ S.2.1 by omega) hT x2 (Nat.le_refl _) c1 c2
    obtain ⟨P', cf⟩ := c_fewL (show 100 ≤ N by omega) H (by rw [hs]; exact hh') hp' 6 0 N (fun _ => 0) (by omega) (by omega)
    obtain ⟨M1, m1, mf⟩ := m_few (N := N) hI hN hp (Int32.ofNat l) (Int32.ofNat n) (Int32.ofNat 0) (M := mF M 0 (Int32.ofNat 0)) rfl
    rw [hs, spW_0] at cf
    rw [spW_0] at mf
    rw [hs, spW_0] at gi H
    have sx : Ext S (wS S2 S.2.1 (gOb b S.2.1 (hm (M.2.2.1 6) p) (spW (M.2.2.1 6) p) (Int32.ofNat l) (Int32.ofNat n)) P') := wS_ext x2 (Nat.le_refl _)
    have sc : (wS S2 S.2.1 (gOb b S.2.1 (hm (M.2.2.1 6) p) (spW (M.2.2.1 6) p) (Int32.ofNat l) (Int32.ofNat n)) P').2 = (S.2.1 + 2, S.2.2.1 + 2, S.2.2.2 + 11) := s2
    have pc : Cel b (wS S2 S.2.1 (gOb b S.2.1 (hm (M.2.2.1 6) p) (spW (M.2.2.1 6) p) (Int32.ofNat l) (Int32.ofNat n)) P') (S.2.1 + 1) (.inl (1, 5, .inl P')) := wS_p c2
    obtain ⟨xs, hx⟩ := H.2.2.2.1 (fun _ => 0) ()
    have g84 := fun {β : Type} (K : Option Nat → Option β) => H.g84 P' () K
    have c0w : fX1_way E N (put b A S) b (Int32.ofNat p) (Int32.ofNat l) (Int32.ofNat n) = gbd (bX20_fewest_2L E N S.2.1 N (put b A (wS S2 S.2.1 (gOb b S.2.1 (hm (M.2.2.1 6) p) (spW (M.2.2.1 6) p) (Int32.ofNat l) (Int32.ofNat n)) (fun _ => 0))) (Int32.ofNat p) (Int32.ofNat 0)) (fun r_1 S_2 => bX1_way_35 E N b S_2 (some S.2.1) r_1) := by
      simp only [fX1_way, bX1_way_0, bX1_way_7, bX1_way_15, bX1_way_27, vInchBorders_Goal_fewest__I_I, fX20_fewest, bX20_fewest_0, pq_lit]
      simp (disch := omega) only [↓gbd_h (k_ask h3 hW.1 _ _ _), k_ask h3 hW.1 _ _ _, e', and_self, ↓gnw_n hb, ↓f_4, ↓gbd_h (gi), gi, ↓kc hx, pq_lit, pq_add, pq_le, pq_lt, pq_eq, pq_en, pq_ne, pq_nle, pq_nlt, pq_len, pq_ltn, pB_z, pB_o, mzt_0, mzt_1, mzt_B, ↓gbd_s, gbd_s, ↓gnn_s, ↓grf_s, eq_self, ↓reduceIte, Nat.reduceEqDiff, Nat.reduceLeDiff, Nat.reduceLT, Nat.reduceMul, Nat.reduceAdd, not_true_eq_false, not_false_eq_true, Bool.false_eq_true]
    cases z : fewS (M.2.2.1 6) (hm (M.2.2.1 6) p) (spW (M.2.2.1 6) p) (M.2.2.1 6 (108 + p)) (M.2.2.1 6 (114 + p)) (M.2.2.1 6 (94 + hm (M.2.2.1 6) p)) (Int32.ofNat l) (Int32.ofNat n) 0 6 with
    | some kr =>
      obtain ⟨k, row⟩ := kr
      rw [z] at cf mf
      obtain ⟨cf1, cf2, cf3, cf4⟩ := cf
      obtain ⟨mf1, mf2, mf3, mf4⟩ := mf
      simp only [] at cf1 cf2 cf3 cf4 mf1 mf2 mf3 mf4
      refine ⟨Int32.ofNat k, sI (sV A 9 (va_cpy P' (aV A 9) 0 0 k)) 11 (Int32.ofNat k), _, mR (mF M1 34 (Int32.ofNat k)) 31 (cpF (M1.2.2.1 31) (M1.2.2.1 27) 0 0 k), ?_, ?_, ?_, Nat.le_of_eq (by rw [sc]), Nat.le_of_eq (by rw [sc])⟩
      · rw [c0w, cf1, gbd_s]
        simp only [bX1_way_35, bX1_way_61, pq_lit]
        simp (disch := omega) only [g84, ↓f_9, gcp_at (pc.at A) f_c9 (show E.1 ≤ b + 23 by omega) cf3 cf3 (show 5 ≤ 65536 by omega) (show 5 ≤ 65536 by omega), f_u9, ↓f_p11, pq_lit, pq_add, pq_le, pq_lt, pq_eq, pq_en, pq_ne, pq_nle, pq_nlt, pq_len, pq_ltn, pB_z, pB_o, mzt_0, mzt_1, mzt_B, ↓gbd_s, gbd_s, ↓gnn_s, ↓grf_s, eq_self, ↓reduceIte, Nat.reduceEqDiff, Nat.reduceLeDiff, Nat.reduceLT, Nat.reduceMul, Nat.reduceAdd, not_true_eq_false, not_false_eq_true, Bool.false_eq_true]
      · simp only [fX5_way, bX5_way_0, bX5_way_32, pq_lit, mpt]
        rw [mAsk (fun _ S_11 => _) (fun S_3 => some (-Int32.ofNat 1, S_3)), if_pos e', mf1, mbd_s, if_neg (by rw [pq_eq (by omega) (by omega)]; omega)]
        exact m_wayC (N := N) cf3 k 0 N _ (by omega) (by omega)
      · have sm : mSm [0, 24, 25, 26, 27, 28, 29, 30, 31, 34] M (mR (mF M1 34 (Int32.ofNat k)) 31 (cpF (M1.2.2.1 31) (M1.2.2.1 27) 0 0 k)) := ((((mSm.rf (ks := [0, 24, 25, 26, 27, 28, 29, 30, 31, 34])).mF _ (by decide)).tr (m1.su (by decide))).mF _ (by decide)).mR _ (by decide)
        have rel : Rel E b A _ M := hh.ext sx
        obtain ⟨q1, q2, ⟨a', d', u', q3⟩, q4⟩ := rel
        obtain ⟨w1, w2, w3, w4, w5, w6, w7, w8, w9, w10⟩ := q4
        have i : ∀ j, j ∉ [0, 24, 25, 26, 27, 28, 29, 30, 31, 34] → _ := sm.2
        refine ⟨q1, ?_, ?_, ?_⟩
        · unfold TapR
          rw [(i 1 (by decide)).2, (i 2 (by decide)).1, (i 15 (by decide)).1]
          exact q2
        · refine ⟨a', d', u', ?_⟩
          unfold UndR
          rw [(i 6 (by decide)).2, (i 21 (by decide)).2, (i 23 (by decide)).1, sm.1]
          exact q3
        · refine ⟨⟨k, cf3, rfl, Or.inl (by rw [mA_i, mF_e]), fun j hj => ?_⟩, ?_, ?_, ?_, ?_, ?_, ?_, ?_, ?_, ?_⟩
          · rw [mA_e]
            show va_cpy P' (aV A 9) 0 0 k j = _
            unfold va_cpy cpF
            rw [if_pos (by omega), if_pos (by omega)]
            have hjl : row.1[j]? = some row.1[j] := List.getElem?_eq_getElem (by omega)
            rw [Nat.zero_add, Nat.sub_zero, cf2 j _ hjl, mf2 j _ hjl]
          · unfold MadR; rw [(i 35 (by decide)).1, (i 36 (by decide)).1, (i 32 (by decide)).2]; exact w2
          · unfold SpaR; rw [(i 38 (by decide)).1, (i 37 (by decide)).1]; exact w3
          · unfold CarR; rw [(i 41 (by decide)).1, (i 40 (by decide)).2]; exact w4
          · unfold ParR; rw [(i 43 (by decide)).1, (i 42 (by decide)).1]; exact w5
          · unfold PasR; rw [(i 45 (by decide)).1, (i 44 (by decide)).2]; exact w6
          · unfold TolR; rw [(i 49 (by decide)).1, (i 48 (by decide)).2]; exact w7
          · unfold KepR; rw [(i 59 (by decide)).2, (i 57 (by decide)).2, sm.1]; exact w8
          · unfold KepR; rw [(i 59 (by decide)).2, (i 57 (by decide)).2, sm.1]; exact w9
          · unfold ResR; rw [sm.1]; exact w10
    | none =>
      rw [z] at cf mf
      refine ⟨-Int32.ofNat 1, A, _, M1, ?_, ?_, (hh.ext sx).mm (ks := [0, 24, 25, 26, 27, 28, 29, 30]) (((mSm.rf (ks := [0, 24, 25, 26, 27, 28, 29, 30])).mF _ (by decide)).tr (m1.su (by decide))) (by decide), Nat.le_of_eq (by rw [sc]), Nat.le_of_eq (by rw [sc])⟩
      · rw [c0w, cf, gbd_s]
        simp only [bX1_way_35, pq_lit]
        simp (disch := omega) only [pq_lit, pq_add, pq_le, pq_lt, pq_eq, pq_en, pq_ne, pq_nle, pq_nlt, pq_len, pq_ltn, pB_z, pB_o, mzt_0, mzt_1, mzt_B, ↓gbd_s, gbd_s, ↓gnn_s, ↓grf_s, eq_self, ↓reduceIte, Nat.reduceEqDiff, Nat.reduceLeDiff, Nat.reduceLT, Nat.reduceMul, Nat.reduceAdd, not_true_eq_false, not_false_eq_true, Bool.false_eq_true]
      · simp only [fX5_way, bX5_way_0, bX5_way_32, pq_lit, mpt]
        rw [mAsk (fun _ S_11 => _) (fun S_3 => some (-Int32.ofNat 1, S_3)), if_pos e', mf, mbd_s, if_pos rfl]
  · refine ⟨-Int32.ofNat 1, A, S, mF M 0 (Int32.ofNat 0), ?_, ?_, hh.m0 _, Nat.le_add_right _ _, Nat.le_add_right _ _⟩
    · simp only [fX1_way, bX1_way_0, bX1_way_7, pq_lit]
      simp (disch := omega) only [↓gbd_h (k_ask h3 hW.1 _ _ _), k_ask h3 hW.1 _ _ _, e, pq_lit, pq_add, pq_le, pq_lt, pq_eq, pq_en, pq_ne, pq_nle, pq_nlt, pq_len, pq_ltn, pB_z, pB_o, mzt_0, mzt_1, mzt_B, ↓gbd_s, gbd_s, ↓gnn_s, ↓grf_s, eq_self, ↓reduceIte, Nat.reduceEqDiff, Nat.reduceLeDiff, Nat.reduceLT, Nat.reduceMul, Nat.reduceAdd, not_true_eq_false, not_false_eq_true, Bool.false_eq_true]
    · simp only [fX5_way, bX5_way_0, bX5_way_32, pq_lit, mpt]
      rw [mAsk (fun _ S_11 => _) (fun S_3 => some (-Int32.ofNat 1, S_3)), if_neg e]
end OJ
