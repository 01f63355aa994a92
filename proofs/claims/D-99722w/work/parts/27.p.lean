/-! the component's Times by words of s -/
abbrev tS (A : FA) (j : Nat) : St := (aT A j).2.2
def TA (b : Nat) (S : GS) (A : FA) (j a : Nat) (d : AD) : Prop := j < 12 ∧ (aT A j).1 = some a ∧ AtD b S a (tS A j) d ∧ IvS (tS A j)
theorem TA.ss {b : Nat} {S : GS} {A : FA} {j a : Nat} {d : AD} (h : TA b S A j a d) {s' : St} (m : Mp (tS A j) s') (i : IvS s') : TA b S (sS A j s') j a d := by
  refine ⟨h.1, ?_, ?_, ?_⟩
  · rw [aT_sS]; exact h.2.1
  · unfold tS; rw [aT_sS]; exact h.2.2.1.mp h.2.2.2 m
  · unfold tS; rw [aT_sS]; exact i
theorem tS_ss (A : FA) (j : Nat) (s : St) : tS (sS A j s) j = s := by unfold tS; rw [aT_sS]
theorem mp_cr {s : St} {p l : Nat} : Mp s (crS s p l) := by
  intro k hk
  unfold crS
  simp only []
  rw [upd_o _ _ (by omega), upd_o _ _ (by omega), upd_o _ _ (by omega)]
  split
  · rw [upd_o _ _ (by omega), upd_o _ _ (by omega), upd_o _ _ (by omega)]
  · split
    · rw [upd_o _ _ (by omega), upd_o _ _ (by omega), upd_o _ _ (by omega)]
    · rfl
theorem mp_grow {s : St} {p : Nat} : Mp s (growS s p) := by
  unfold growS
  split
  · exact (Mp.rf.up (by omega)).up (by omega)
  · exact Mp.rf
theorem mp_dayF : ∀ (k p : Nat) (s : St), Mp s (dayF p k s)
  | 0, _, _ => Mp.rf
  | k + 1, p, s => mp_grow.tr (mp_dayF k (p + 1) _)
theorem mp_day {s : St} : Mp s (dayS s) := (mp_dayF _ _ _).up (by omega)
theorem mp_go : ∀ (k d : Nat) (s : St), Mp s (goF k d s).2
  | 0, _, _ => Mp.rf
  | k + 1, d, s => by
    unfold goF
    split
    · exact mp_day.tr (mp_go k _ _)
    · exact Mp.rf
/-- does any of them grow -/
def anyF (s : St) : Nat → Nat → Bool
  | _, 0 => false
  | p, k + 1 => growB s p || anyF s (p + 1) k
/-- the day is one of 400 -/
def IvD (s : St) : Prop := ∃ k, k ≤ 400 ∧ s 91 = Int32.ofNat k
theorem dayF_91 : ∀ (k p : Nat) (s : St), dayF p k s 91 = s 91
  | 0, _, _ => rfl
  | k + 1, p, s => by
    unfold dayF
    rw [dayF_91 k]
    unfold growS
    split
    · rw [upd_o _ _ (by omega), upd_o _ _ (by omega)]
    · rfl
theorem IvD.day {s : St} (h : IvD s) (q : s 91 < Int32.ofNat 400) : IvD (dayS s) := by
  obtain ⟨k, hk, e⟩ := h
  rw [e, pq_lt (by omega) (by omega)] at q
  refine ⟨k + 1, by omega, ?_⟩
  unfold dayS
  rw [upd_s, dayF_91, e, pq_add]
section TM
variable {E : gE} {N b : Nat} {A : FA} {S : GS} {j a : Nat} {d : AD}
theorem c_lands (h : TA b S A j a d) : vInchBorders_Times_lands___I E N (put b A S) (some (tad b j)) = some (Int32.ofNat (nL (tS A j)), put b A S) := by
  obtain ⟨hj, ha, hA, hI⟩ := h
  simp only [vInchBorders_Times_lands___I, t_cls hj, if_true, bX3_lands_0, fX3_lands, t_a hj, ha, a_25 hA, a_sL hA, gbd_s]
theorem c_persons (h : TA b S A j a d) : vInchBorders_Times_persons___I E N (put b A S) (some (tad b j)) = some (Int32.ofNat (nP (tS A j)), put b A S) := by
  obtain ⟨hj, ha, hA, hI⟩ := h
  simp only [vInchBorders_Times_persons___I, t_cls hj, if_true, bX3_persons_0, fX3_persons, t_a hj, ha, a_27 hA, a_sP hA, gbd_s]
theorem c_take (h : TA b S A j a d) {l : Nat} (hl : l < nL (tS A j)) : vInchBorders_Times_take__I_I E N (put b A S) (some (tad b j)) (Int32.ofNat l) = some (tS A j (3 + l), put b A S) := by
  obtain ⟨hj, ha, hA, hI⟩ := h
  simp only [vInchBorders_Times_take__I_I, t_cls hj, if_true, bX3_take_0, fX3_take, t_a hj, ha, a_25 hA, a_gL hA hl, a_cL hA hl, a_62 hA hl, gbd_s]
theorem c_giv (h : TA b S A j a d) {l : Nat} (hl : l < nL (tS A j)) (m st : Int32) : vInchBorders_Times_gives__III_I E N (put b A S) (some (tad b j)) (Int32.ofNat l) m st = some (givS (tS A j) l m st, put b A S) := by
  obtain ⟨hj, ha, hA, hI⟩ := h
  simp only [vInchBorders_Times_gives__III_I, t_cls hj, if_true, bX3_gives_0, fX3_gives, t_a hj, ha, a_25 hA, a_gL hA hl, a_cL hA hl, a_63 hA hl, gbd_s, pq_lit]
  rfl
theorem c_isSp (h : TA b S A j a d) {k l : Nat} (hk : k < 7) (hl : l < 32) : vInchBorders_Times_isSpared__II_Z E N (put b A S) (some (tad b j)) (Int32.ofNat k) (Int32.ofNat l) = some (pB ((decide (k = l) || bt (tS A j (101 + k)) (Int32.ofNat l)) = true), put b A S) := by
  obtain ⟨hj, ha, hA, hI⟩ := h
  simp (disch := omega) only [vInchBorders_Times_isSpared__II_Z, t_cls hj, if_true, bX3_isSpared_23, bX3_isSpared_18, bX3_isSpared_0, fX3_isSpared, t_33 hj, t_g2 hj, c_bt, pq_lit, pq_add, pq_le, pq_lt, pq_eq, pq_en, pq_ne, pq_nle, pq_nlt, pq_len, pq_ltn, pB_z, pB_o, mzt_0, mzt_1, mzt_B, gbd_s, gnn_s, grf_s]
  by_cases e : k = l
  · rw [if_pos e, pB_t (by simp [e])]
  · rw [if_neg e]
    cases e2 : bt (tS A j (101 + k)) (Int32.ofNat l)
    · rw [if_pos (by simp [e2]), pB_f (by simp [e])]
    · rw [if_neg (by simp [e2]), pB_t (by simp)]
theorem c_why (h : TA b S A j a d) (hN : 100 ≤ N) (fr m : Int32) (sp : Bool) {l : Nat} (hl : l < nL (tS A j)) : vInchBorders_Times_why__IIIZ_I E N (put b A S) (some (tad b j)) fr (Int32.ofNat l) m (pB (sp = true)) = some (whyS (tS A j) fr l m sp, put b A S) := by
  have ht := h
  obtain ⟨hj, ha, hA, hI⟩ := h
  have h12 := hI.r12
  simp (disch := omega) only [vInchBorders_Times_why__IIIZ_I, t_cls hj, if_true, bX3_why_95, bX3_why_94, bX3_why_0, fX3_why, t_a hj, ha, a_road hA hI hN, t_31 hj, c_bt, pq_lit, pq_add, pq_le, pq_lt, pq_eq, pq_en, pq_ne, pq_nle, pq_nlt, pq_len, pq_ltn, pB_z, pB_o, mzt_0, mzt_1, mzt_B, gbd_s, gnn_s, grf_s]
  unfold whyS
  cases e : roadO (tS A j) fr (Int32.ofNat l) with
  | none => simp only [oI, if_true]
  | some r =>
    have hr := roadO_lt e
    simp (disch := omega) only [oI, a_26 hA, a_gR hA hr, a_cR hA hr, a_69 hA hr, a_70 hA hr, c_take ht hl, pq_lit, pq_add, pq_le, pq_lt, pq_eq, pq_en, pq_ne, pq_nle, pq_nlt, pq_len, pq_ltn, pB_z, pB_o, mzt_0, mzt_1, mzt_B, gbd_s, gnn_s, grf_s, if_false]
    cases sp <;> simp only [Classical.not_not, ← Int32.not_lt, Bool.false_eq_true, not_false_eq_true, if_true, if_false, true_and, reduceCtorEq, false_and, not_true_eq_false] <;> grind
theorem c_whyC (h : TA b S A j a d) (hN : 100 ≤ N) {p l : Nat} (hp : p < nP (tS A j)) (hl : l < nL (tS A j)) : vInchBorders_Times_whyCross__II_I E N (put b A S) (some (tad b j)) (Int32.ofNat p) (Int32.ofNat l) = some (whyC (tS A j) p l, put b A S) := by
  have ht := h
  obtain ⟨hj, ha, hA, hI⟩ := h
  have h6 := hI.p6
  have h7 := hI.l7
  have hh := hI.hl hp
  simp (disch := omega) only [vInchBorders_Times_whyCross__II_I, t_cls hj, if_true, bX3_whyCross_0, fX3_whyCross, t_a hj, t_34 hj, t_35 hj, t_g3 hj, t_g4 hj, ha, a_home hA hp, hI.ho hp, c_isSp ht, c_why ht hN _ _ _ hl, pq_lit, pq_add, pq_le, pq_lt, pq_eq, pq_en, pq_ne, pq_nle, pq_nlt, pq_len, pq_ltn, pB_z, pB_o, mzt_0, mzt_1, mzt_B, gbd_s, gnn_s, grf_s]
  unfold whyC
  rw [spd_i (by omega) (by omega)]
theorem c_canL (h : TA b S A j a d) (hN : 100 ≤ N) {p : Nat} (hp : p < nP (tS A j)) : ∀ (k l n : Nat) (set : Int32), l + k = nL (tS A j) → k < n → bX3_canCross_4L E N (tad b j) n (put b A S) (Int32.ofNat p) set (Int32.ofNat l) = some (canF (tS A j) p set l k, put b A S)
  | k, l, 0, _, _, h => by omega
  | 0, l, n + 1, set, hk, _ => by
    have h7 := h.2.2.2.l7
    simp (disch := omega) only [bX3_canCross_4L, bX3_canCross_27, bX3_canCross_4, bX3_canCross_0, fX3_canCross, c_lands h, pq_lit, pq_add, pq_le, pq_lt, pq_eq, pq_en, pq_ne, pq_nle, pq_nlt, pq_len, pq_ltn, pB_z, pB_o, mzt_0, mzt_1, mzt_B, gbd_s, gnn_s, grf_s]
    rw [if_pos (by omega)]
    rfl
  | k + 1, l, n + 1, set, hk, hn => by
    have h7 := h.2.2.2.l7
    have ih := fun set => c_canL h hN hp k (l + 1) n set (by omega) (by omega)
    simp (disch := omega) only [bX3_canCross_4L, bX3_canCross_27, bX3_canCross_4, bX3_canCross_0, fX3_canCross, c_lands h, c_whyC h hN hp, pq_lit, pq_add, pq_le, pq_lt, pq_eq, pq_en, pq_ne, pq_nle, pq_nlt, pq_len, pq_ltn, pB_z, pB_o, mzt_0, mzt_1, mzt_B, gbd_s, gnn_s, grf_s, ih, canF, p1_e]
    rw [if_neg (by omega)]
    split <;> rfl
theorem c_can (h : TA b S A j a d) (hN : 100 ≤ N) {p : Nat} (hp : p < nP (tS A j)) : fX3_canCross E N (put b A S) (tad b j) (Int32.ofNat p) = some (canS (tS A j) p, put b A S) := by
  have h7 := h.2.2.2.l7
  exact c_canL h hN hp _ 0 N _ (by omega) (by omega)
theorem c_cr (h : TA b S A j a d) (hE : E.1 ≤ b) {p l : Nat} (hp : p < nP (tS A j)) (hl : l < nL (tS A j)) : vInchBorders_Times_cross__II_V E N (put b A S) (some (tad b j)) (Int32.ofNat p) (Int32.ofNat l) = some (Int32.ofNat 0, put b (sS A j (crS (tS A j) p l)) S) := by
  have ht := h
  obtain ⟨hj, ha, hA, hI⟩ := h
  have h6 := hI.p6
  have h7 := hI.l7
  have hh := hI.hl hp
  have k1 : ∀ v, TA b S (sS A j (upd (tS A j) (94 + l) v)) j a d := fun v => ht.ss (Mp.rf.up (by omega)) (hI.up (by omega) (by omega))
  have k2 : ∀ v w, TA b S (sS A j (upd (upd (tS A j) (94 + l) v) (114 + p) w)) j a d := fun v w => ht.ss ((Mp.rf.up (by omega)).up (by omega)) ((hI.up (by omega) (by omega)).up (by omega) (by omega))
  have l1 : ∀ v, l < nL (tS (sS A j (upd (tS A j) (94 + l) v)) j) := fun v => by rw [tS_ss, upd_nL (by omega)]; exact hl
  have l2 : ∀ v w, l < nL (tS (sS A j (upd (upd (tS A j) (94 + l) v) (114 + p) w)) j) := fun v w => by rw [tS_ss, upd_nL (by omega), upd_nL (by omega)]; exact hl
  simp (disch := omega) only [vInchBorders_Times_cross__II_V, t_cls hj, if_true, bX3_cross_120, bX3_cross_0, fX3_cross, ha, a_home hA hp, hI.ho hp, t_a, t_29, t_30, t_31, t_39, t_32, t_33, t_34, t_35, t_36, t_37, t_38, t_g1, t_g2, t_g3, t_g4, t_g5, t_g6, t_g7, t_l1, t_l2, t_l3, t_l4, t_l5, t_l6, t_l7, t_w1, t_w2, t_w3, t_w4, t_w5, t_w6, t_w7, t_p29, t_p30, t_p31, t_p39, t_pa, t_cls, aT_sS, sS_sS, aT_sT, sT_sT, c_giv ht hh, c_isSp ht, c_take ht hl, c_take (k1 _) (l1 _), c_take (k2 _ _) (l2 _ _), tS_ss, pq_lit, pq_add, pq_le, pq_lt, pq_eq, pq_en, pq_ne, pq_nle, pq_nlt, pq_len, pq_ltn, pB_z, pB_o, mzt_0, mzt_1, mzt_B, gbd_s, gnn_s, grf_s, upd_s, upd_o]
  unfold crS
  rw [spd_i (by omega) (by omega)]
  by_cases e : l = hm (tS A j) p
  · rw [if_pos e, if_pos e]
    subst e
    congr 4
    funext j
    simp only [upd]
    grind
  · have e' : ¬ hm (tS A j) p = l := fun q => e q.symm
    rw [if_neg e, if_neg e]
    cases e2 : bt (tS A j (101 + hm (tS A j) p)) (Int32.ofNat l) with
    | true => simp [e', e2]
    | false =>
      simp only [e', decide_false, Bool.false_or, Bool.false_eq_true, not_false_eq_true, if_true]
      congr 4
      funext j
      simp only [upd]
      grind
theorem c_grow (h : TA b S A j a d) {p : Nat} (hp : p < nP (tS A j)) : vInchBorders_Times_grows__I_Z E N (put b A S) (some (tad b j)) (Int32.ofNat p) = some (pB (growB (tS A j) p = true), put b A S) := by
  obtain ⟨hj, ha, hA, hI⟩ := h
  have h6 := hI.p6
  have h7 := hI.l7
  have hh := hI.hl hp
  have hw := hI.wl hp
  simp (disch := omega) only [vInchBorders_Times_grows__I_Z, t_cls hj, if_true, bX3_grows_48, bX3_grows_47, bX3_grows_0, fX3_grows, ha, a_home hA hp, t_a, t_29, t_30, t_31, t_39, t_32, t_33, t_34, t_35, t_36, t_37, t_38, t_g1, t_g2, t_g3, t_g4, t_g5, t_g6, t_g7, t_l1, t_l2, t_l3, t_l4, t_l5, t_l6, t_l7, t_w1, t_w2, t_w3, t_w4, t_w5, t_w6, t_w7, t_p29, t_p30, t_p31, t_p39, t_pa, t_cls, aT_sS, sS_sS, aT_sT, sT_sT, hI.wo hp, hI.ho hp, pq_lit, pq_add, pq_le, pq_lt, pq_eq, pq_en, pq_ne, pq_nle, pq_nlt, pq_len, pq_ltn, pB_z, pB_o, mzt_0, mzt_1, mzt_B, gbd_s, gnn_s, grf_s]
  unfold growB
  simp (disch := omega) only [decide_eq_true_eq, hI.wo hp, hI.ho hp, pq_eq, ← Int32.not_lt]
  by_cases e : wh (tS A j) p = hm (tS A j) p
  · rw [e]; grind [pB]
  · grind [pB]
theorem c_dayL (hE : E.1 ≤ b) : ∀ (k p n : Nat) (A : FA), TA b S A j a d → p + k = nP (tS A j) → k < n → bX3_pass_2L E N (tad b j) n (put b A S) (Int32.ofNat p) = some (Int32.ofNat 0, put b (sS A j (upd (dayF p k (tS A j)) 91 (dayF p k (tS A j) 91 + Int32.ofNat 1))) S)
  | k, p, 0, _, _, _, h => by omega
  | 0, p, n + 1, A, h, hk, _ => by
    have h6 := h.2.2.2.p6
    have hj := h.1
    simp (disch := omega) only [bX3_pass_2L, bX3_pass_46, bX3_pass_2, bX3_pass_0, fX3_pass, c_persons h, t_a, t_29, t_30, t_31, t_39, t_32, t_33, t_34, t_35, t_36, t_37, t_38, t_g1, t_g2, t_g3, t_g4, t_g5, t_g6, t_g7, t_l1, t_l2, t_l3, t_l4, t_l5, t_l6, t_l7, t_w1, t_w2, t_w3, t_w4, t_w5, t_w6, t_w7, t_p29, t_p30, t_p31, t_p39, t_pa, t_cls, aT_sS, sS_sS, aT_sT, sT_sT, pq_lit, pq_add, pq_le, pq_lt, pq_eq, pq_en, pq_ne, pq_nle, pq_nlt, pq_len, pq_ltn, pB_z, pB_o, mzt_0, mzt_1, mzt_B, gbd_s, gnn_s, grf_s]
    rw [if_pos (by omega)]
    rfl
  | k + 1, p, n + 1, A, h, hk, hn => by
    have hI := h.2.2.2
    have h6 := hI.p6
    have h7 := hI.l7
    have hj := h.1
    have hp : p < nP (tS A j) := by omega
    have hh := hI.hl hp
    have hw := hI.wl hp
    have i1 := hI.grow hp
    have ih := c_dayL hE k (p + 1) n (sS A j (growS (tS A j) p)) (h.ss mp_grow i1.1) (by rw [tS_ss, i1.2.1]; omega) (by omega)
    rw [tS_ss, sS_sS] at ih
    simp (disch := omega) only [bX3_pass_2L, bX3_pass_46, bX3_pass_2, bX3_pass_0, fX3_pass, c_persons h, c_grow h hp, t_a, t_29, t_30, t_31, t_39, t_32, t_33, t_34, t_35, t_36, t_37, t_38, t_g1, t_g2, t_g3, t_g4, t_g5, t_g6, t_g7, t_l1, t_l2, t_l3, t_l4, t_l5, t_l6, t_l7, t_w1, t_w2, t_w3, t_w4, t_w5, t_w6, t_w7, t_p29, t_p30, t_p31, t_p39, t_pa, t_cls, aT_sS, sS_sS, aT_sT, sT_sT, pq_lit, pq_add, pq_le, pq_lt, pq_eq, pq_en, pq_ne, pq_nle, pq_nlt, pq_len, pq_ltn, pB_z, pB_o, mzt_0, mzt_1, mzt_B, gbd_s, gnn_s, grf_s, hI.wo hp, dayF]
    rw [if_neg (by omega), ← ih]
    by_cases e : growB (tS A j) p = true
    · have e1 : wh (tS A j) p = hm (tS A j) p := by
        have q := e
        unfold growB at q
        rw [decide_eq_true_eq, hI.wo hp, hI.ho hp, pq_eq (by omega) (by omega)] at q
        exact q.1
      rw [if_neg (by simp [e])]
      congr 2
      congr 1
      unfold growS
      rw [if_pos e, e1]
      funext i
      simp only [upd]
      grind
    · rw [if_pos e]
      unfold growS
      rw [if_neg e, sS_id]
theorem c_day (h : TA b S A j a d) (hE : E.1 ≤ b) (hN : 100 ≤ N) : vInchBorders_Times_pass___V E N (put b A S) (some (tad b j)) = some (Int32.ofNat 0, put b (sS A j (dayS (tS A j))) S) := by
  have h6 := h.2.2.2.p6
  simp only [vInchBorders_Times_pass___V, t_cls h.1, if_true]
  exact c_dayL hE _ 0 N A h (by omega) (by omega)
theorem c_over (h : TA b S A j a d) (hD : IvD (tS A j)) : vInchBorders_Times_isOver___Z E N (put b A S) (some (tad b j)) = some (pB (¬ tS A j 91 < Int32.ofNat 400), put b A S) := by
  obtain ⟨hj, ha, hA, hI⟩ := h
  obtain ⟨k, hk, e⟩ := hD
  simp (disch := omega) only [vInchBorders_Times_isOver___Z, t_cls hj, if_true, bX3_isOver_15, bX3_isOver_0, fX3_isOver, t_a, t_29, t_30, t_31, t_39, t_32, t_33, t_34, t_35, t_36, t_37, t_38, t_g1, t_g2, t_g3, t_g4, t_g5, t_g6, t_g7, t_l1, t_l2, t_l3, t_l4, t_l5, t_l6, t_l7, t_w1, t_w2, t_w3, t_w4, t_w5, t_w6, t_w7, t_p29, t_p30, t_p31, t_p39, t_pa, t_cls, aT_sS, sS_sS, aT_sT, sT_sT, pq_lit, pq_add, pq_le, pq_lt, pq_eq, pq_en, pq_ne, pq_nle, pq_nlt, pq_len, pq_ltn, pB_z, pB_o, mzt_0, mzt_1, mzt_B, gbd_s, gnn_s, grf_s, e]
  by_cases q : k = 400
  · rw [if_pos q, pB_t (by omega)]
  · rw [if_neg q, pB_f (by omega)]
theorem c_anyL (h : TA b S A j a d) : ∀ (k p n : Nat), p + k = nP (tS A j) → k < n → bX3_anyGrows_2L E N (tad b j) n (put b A S) (Int32.ofNat p) = some (pB (anyF (tS A j) p k = true), put b A S)
  | k, p, 0, _, h => by omega
  | 0, p, n + 1, hk, _ => by
    have h6 := h.2.2.2.p6
    simp (disch := omega) only [bX3_anyGrows_2L, bX3_anyGrows_2, bX3_anyGrows_0, fX3_anyGrows, c_persons h, pq_lit, pq_add, pq_le, pq_lt, pq_eq, pq_en, pq_ne, pq_nle, pq_nlt, pq_len, pq_ltn, pB_z, pB_o, mzt_0, mzt_1, mzt_B, gbd_s, gnn_s, grf_s]
    rw [if_pos (by omega), pB_f (by simp [anyF])]
  | k + 1, p, n + 1, hk, hn => by
    have h6 := h.2.2.2.p6
    have ih := c_anyL h k (p + 1) n (by omega) (by omega)
    simp (disch := omega) only [bX3_anyGrows_2L, bX3_anyGrows_2, bX3_anyGrows_0, fX3_anyGrows, c_persons h, c_grow h, pq_lit, pq_add, pq_le, pq_lt, pq_eq, pq_en, pq_ne, pq_nle, pq_nlt, pq_len, pq_ltn, pB_z, pB_o, mzt_0, mzt_1, mzt_B, gbd_s, gnn_s, grf_s, ih]
    rw [if_neg (by omega)]
    by_cases e : growB (tS A j) p = true
    · rw [if_neg (by simp [e]), pB_t (by simp [anyF, e])]
    · rw [if_pos e]
      congr 2
      exact pB_c (by simp [anyF, e])
theorem c_any (h : TA b S A j a d) (hN : 100 ≤ N) : fX3_anyGrows E N (put b A S) (tad b j) = some (pB (anyF (tS A j) 0 (nP (tS A j)) = true), put b A S) := by
  have h6 := h.2.2.2.p6
  exact c_anyL h _ 0 N (by omega) (by omega)
theorem c_goL (hE : E.1 ≤ b) (hN : 100 ≤ N) {m : Nat} (hm : m < 1000) : ∀ (k e n : Nat) (A : FA), TA b S A j a d → IvD (tS A j) → e + k = m → k < n → bX3_passAll_2L E N (tad b j) n (put b A S) (Int32.ofNat m) (Int32.ofNat e) = some (Int32.ofNat (goF k e (tS A j)).1, put b (sS A j (goF k e (tS A j)).2) S)
  | k, e, 0, _, _, _, _, h => by omega
  | 0, e, n + 1, A, h, hD, hk, _ => by
    simp (disch := omega) only [bX3_passAll_2L, bX3_passAll_24, bX3_passAll_2, bX3_passAll_0, fX3_passAll, pq_lit, pq_add, pq_le, pq_lt, pq_eq, pq_en, pq_ne, pq_nle, pq_nlt, pq_len, pq_ltn, pB_z, pB_o, mzt_0, mzt_1, mzt_B, gbd_s, gnn_s, grf_s, goF, sS_id]
    rw [if_pos (by omega)]
  | k + 1, e, n + 1, A, h, hD, hk, hn => by
    simp (disch := omega) only [bX3_passAll_2L, bX3_passAll_24, bX3_passAll_2, bX3_passAll_0, fX3_passAll, c_over h hD, c_day h hE hN, pq_lit, pq_add, pq_le, pq_lt, pq_eq, pq_en, pq_ne, pq_nle, pq_nlt, pq_len, pq_ltn, pB_z, pB_o, mzt_0, mzt_1, mzt_B, gbd_s, gnn_s, grf_s, goF]
    rw [if_neg (by omega)]
    by_cases q : tS A j 91 < Int32.ofNat 400
    · have ih := c_goL hE hN hm k (e + 1) n (sS A j (dayS (tS A j))) (h.ss mp_day h.2.2.2.day.1) (by rw [tS_ss]; exact hD.day q) (by omega) (by omega)
      rw [tS_ss, sS_sS] at ih
      rw [if_pos (fun w => w q), if_pos q, ih]
    · rw [if_neg (fun w => w q), if_neg q, sS_id]
theorem c_go (h : TA b S A j a d) (hE : E.1 ≤ b) (hN : 1000 ≤ N) (hD : IvD (tS A j)) {m : Nat} (hm : m < 1000) : fX3_passAll E N (put b A S) (tad b j) (Int32.ofNat m) = some (Int32.ofNat (goF m 0 (tS A j)).1, put b (sS A j (goF m 0 (tS A j)).2) S) :=
  c_goL hE (by omega) hm m 0 N A h hD (by omega) (by omega)
theorem c_draw0 (hj : j < 12) (hE : E.1 ≤ b) (x : Int32) : fX3_draw E N (put b A S) (tad b j) x = mnz x (some ((dsd (aT A j).2.1).toUInt32 >>> ((Int32.ofNat 8).toUInt32 &&& Int32.toUInt32 (Int32.ofNat 31)) |>.toInt32 |> fun z => z - z / x * x, put b (sT A j ((aT A j).1, dsd (aT A j).2.1, tS A j)) S)) := by
  unfold fX3_draw bX3_draw_0
  rw [t_39 hj, pq_lit, pq_lit, dsd_e, t_p39 hE hj, t_39 hj, aT_sT]
  rfl
theorem c_draw (h : TA b S A j a d) (hE : E.1 ≤ b) {k : Nat} (h0 : 0 < k) (hk : k < 2147483648) : vInchBorders_Times_draw__I_I E N (put b A S) (some (tad b j)) (Int32.ofNat k) = some (Int32.ofNat (drw (dsd (aT A j).2.1) k), put b (sT A j ((aT A j).1, dsd (aT A j).2.1, tS A j)) S) := by
  have hj := h.1
  have h1 := dsu_lt (dsd (aT A j).2.1)
  simp only [vInchBorders_Times_draw__I_I, t_cls hj, if_true, c_draw0 hj hE]
  generalize dsd (aT A j).2.1 = x at *
  rw [mnz_n h0 hk]
  simp (disch := omega) only [dsu_e, pq_rem, drw_e]
end TM
