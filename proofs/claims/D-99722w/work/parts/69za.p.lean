/-! sentences: and, or, brackets -/
theorem nts_s {cs : List Cd} {st : List Nat} (h : ∀ x s', st = x :: s' → x ≠ 20) : nts cs st = (cs, st) := by
  cases st with
  | nil => rfl
  | cons x s' => exact if_neg (h x s' rfl)
theorem jns_s {o : Bool} {cs : List Cd} {st : List Nat} (h : ∀ x s', st = x :: s' → x ≠ 21 ∧ (o = true → x ≠ 22)) : jns o cs st = (cs, st) := by
  cases st with
  | nil => rfl
  | cons x s' => exact if_neg (fun q => q.elim (h x s' rfl).1 (fun r => (h x s' rfl).2 r.2 r.1))
section SI
variable {E : gE} {N b : Nat} {A : FA} {S0 S : GS} {M0 M : MS} {q a nl l0 n lim fr on wi : Nat} {f0 : Nat → Nat} {t : Tk} {ρ0 ρ1 ρ2 ρ3 : GS → Option Nat → Option ((Option Nat ⊕ Nat) × GS)} {cs cs1 : List Cd} {st st1 : List Nat}
theorem Rd.k4 {M1 : MS} {ks : List Nat} (h : Rd b A S M q 18 (sEx a on wi) n lim fr t) (s : mSm ks M M1) (hk : ∀ k, k ∈ [3, 4, 5, 11, 12, 14, 1] → k ∉ ks) (w : M1.2.1 = M.2.1) : Rd b A S M1 q 18 (sEx a on wi) n lim fr t := h.mm (fun k q => (s.2 k (hk k (by
  simp only [List.mem_cons, List.not_mem_nil, or_false] at q ⊢; omega))).1) (s.2 1 (hk 1 (by decide))).2 w
theorem Rd.m11 (h : Rd b A S M q 18 (sEx a on wi) n lim fr t) : M.1 11 = Int32.ofNat 0 ↔ t.1 = 0 := by
  obtain ⟨p, kd, nu, sg, wr, c, h1, h2, h3, h4, h5, h6, h7, hk, h9, h10, h11, h12⟩ := h
  rcases h12 with h | h | h | h | h | h
  · exact ⟨fun _ => h.1, fun _ => h.2.2⟩
  · rw [h.2.2, h.1]; decide
  · rw [h.2.2.1, h.1]; decide
  · rw [h.2.2.1, h.1]; decide
  · rw [h.2.2.1, h.1]; decide
  · rw [h.2.2.1, h.1]; decide
theorem Rd.m12 {ci : Nat} {ex : List Value} (h : Rd b A S M q ci ex n lim fr t) : M.1 12 = Int32.ofNat fr ∧ fr ≤ lim := by
  obtain ⟨p, kd, nu, sg, wr, c, h1, h2, h3, h4, h5, h6, h7, hk, h9, h10, h11, h12⟩ := h
  exact ⟨h9, h10⟩
/-- a word that joins: what the model does, the component's go -/
theorem j_beh (cx : SCx E N b A S0 M0 q a nl l0 f0) (x : Ext S0 S) (sm : mSm sk M0 M) (h : Rd b A S M q 18 (sEx a on wi) n lim fr t) (hs : SnM M cs1 st1 on true) {o : Bool} (hj : jns o (nts cs1 st1).1 (nts cs1 st1).2 = (cs, st)) (t10 : tg t 10 = !o) (t11 : o = true → tg t 11 = true) : ∃ S4 M4 fr4 t4, fX6_go E N (put b A S) q = some (Int32.ofNat 0, put b A S4) ∧ fX5_behind N M = some (Int32.ofNat 1, M4) ∧ Rd b A S4 M4 q 18 (sEx a on wi) n lim fr4 t4 ∧ SnM M4 cs ((if o = true then 22 else 21) :: st) on false ∧ Xo q S S4 ∧ mSm sk M0 M4 ∧ fr + 1 ≤ fr4 ∧ S4.2.2.1 ≤ S.2.2.1 + 4 ∧ S4.2.2.2 ≤ S.2.2.2 + 40 := by
  have cx' := cx
  obtain ⟨kok, hN, hq, hr, hl, ha, h6⟩ := cx
  have hE := kok.1
  have hb0 := kok.2.1
  have hb : b + 111 ≤ S.2.1 := Nat.le_trans hb0 x.1
  obtain ⟨a0, a1, a2, a3, a4, a5, a6, a7, a8, a9, a10, a11⟩ := lwe
  have hl1 : st1.length ≤ 40 := by have := hs.2.2.2.2.2.2.2.1; have := hs.2.2.2.2.2.2.2.2.1; omega
  have ht : t.1 = 2 := by
    cases o with
    | false => exact (of_decide_eq_true t10).1
    | true => exact (of_decide_eq_true (t11 rfl)).1
  obtain ⟨M1, s1, w1, n1, e1⟩ := m_nots (N := N) st1 cs1 N M hs (by omega)
  have h1 := h.k4 s1 (by decide) w1
  have hl2 := (nts_l st1 cs1).2.1
  obtain ⟨M2, s2, w2, n2, e2⟩ := m_joins (N := N) (o := o) rfl (nts cs1 st1).2 (nts cs1 st1).1 N M1 n1 (by omega)
  rw [hj] at n2
  have h2 := h1.k4 s2 (by decide) w2
  have i1 := (s_is cx' x h1).2
  have i2 := (s_is cx' x h2).2
  have j10 := i1 10 (by omega)
  have j11 := i1 11 (by omega)
  have k10 := i2 10 (by omega)
  rw [← a10, t10] at j10 k10
  rw [← a11] at j11
  obtain ⟨h51, h8, h53, h50, h52, h54, h55, hlen, ho20, hx23⟩ := n2
  have hlen' : cs.length + st.length + 1 ≤ 2 * on := hlen
  obtain ⟨X, hX⟩ : ∃ X, X = if o = true then 22 else 21 := ⟨_, rfl⟩
  have hX2 : X = 21 ∨ X = 22 := by rw [hX]; split <;> omega
  have dX : dpt (X :: st) = dpt st := by
    show (if X = 20 ∨ X = 23 then 1 else 0) + dpt st = _
    rw [if_neg (by omega)]; omega
  obtain ⟨M3, hM3⟩ : ∃ M3, M3 = mF (mF (mR M2 50 (upd (M2.2.2.1 50) st.length (Int32.ofNat X))) 53 (Int32.ofNat (st.length + 1))) 55 (Int32.ofNat 0) := ⟨_, rfl⟩
  have s3 : mSm [50, 53, 55] M2 M3 := by rw [hM3]; exact ((mSm.rf.mR _ (by decide)).mF _ (by decide)).mF _ (by decide)
  have w3 : M3.2.1 = M2.2.1 := by rw [hM3]; rfl
  have h3 := h2.k4 s3 (by decide) w3
  have n3 : SnM M3 cs (X :: st) on false := by
    refine SnM.psh (M := M2) (wh := true) ⟨h51, h8, h53, h50, h52, h54, h55, hlen, ho20, hx23⟩ (x := X) (by omega) (by rw [hM3]; rfl) (by rw [hM3]; rfl) (by rw [hM3]; rfl) ?_ (by rw [hM3]; exact h52) (by rw [dX, hM3]; exact h54) (by rw [hM3]; rfl) (by show cs.length + st.length + 1 + 0 ≤ _; omega) ho20
    rw [hM3, mF_a, mF_a, mA_e]
  obtain ⟨S4, M4, fr4, t4, gc, gm, h4, hf, xo4, fx4, sm4, p1, p2⟩ := j_gw (E := E) (N := N) hE (by omega) hb (by omega) h3 (by omega)
  have k70 : bX5_behind_70 N M2 (M2.1 53) (Int32.ofNat X) = some (Int32.ofNat 1, M4) := by
    simp only [bX5_behind_70, pq_lit]
    simp (disch := omega) only [h53, ↓mwr_n, mwr_n, ma_s, mA_i, ↓mpt, ← hM3, ↓mbd_h (gm), gm, ↓mbd_s, mbd_s, eq_self, ↓reduceIte, Nat.reduceEqDiff, Nat.reduceLeDiff, Nat.reduceLT, Nat.reduceMul, Nat.reduceAdd, not_true_eq_false, not_false_eq_true, Bool.false_eq_true, pq_lit, pq_add, pq_le, pq_lt, pq_eq, pq_en, pq_ne, pq_nle, pq_nlt, pq_len, pq_ltn, pB_z, pB_o, mzt_0, mzt_1, mzt_B]
  refine ⟨S4, M4, fr4, t4, gc, ?_, h4, ?_, xo4, (((sm.tr (s1.su (by decide))).tr (s2.su (by decide))).tr (s3.su (by decide))).tr (sm4.su (by decide)), hf, p1, p2⟩
  · have e1' : fX5_nots N M = some (Int32.ofNat 0, M1) := e1
    cases o with
    | false =>
      have e2' : fX5_joins N M1 (Int32.ofNat 21) = some (Int32.ofNat 0, M2) := e2
      have j10' : fX5_isWord N M1 (6385252 : Int64) = some (Int32.ofNat 1, M1) := j10
      have k10' : fX5_isWord N M2 (6385252 : Int64) = some (Int32.ofNat 1, M2) := k10
      have hX1 : X = 21 := hX
      rw [hX1] at k70
      simp only [fX5_behind, bX5_behind_0, bX5_behind_24, bX5_behind_42, pq_lit]
      simp (disch := omega) only [↓mbd_h (e1'), e1', ↓mbd_h (j10'), j10', ↓mbd_h (e2'), e2', ↓mbd_h (k10'), k10', k70, ↓mbd_s, mbd_s, eq_self, ↓reduceIte, Nat.reduceEqDiff, Nat.reduceLeDiff, Nat.reduceLT, Nat.reduceMul, Nat.reduceAdd, not_true_eq_false, not_false_eq_true, Bool.false_eq_true, pq_lit, pq_add, pq_le, pq_lt, pq_eq, pq_en, pq_ne, pq_nle, pq_nlt, pq_len, pq_ltn, pB_z, pB_o, mzt_0, mzt_1, mzt_B]
    | true =>
      have e2' : fX5_joins N M1 (Int32.ofNat 22) = some (Int32.ofNat 0, M2) := e2
      have j10' : fX5_isWord N M1 (6385252 : Int64) = some (Int32.ofNat 0, M1) := j10
      have k10' : fX5_isWord N M2 (6385252 : Int64) = some (Int32.ofNat 0, M2) := k10
      rw [t11 rfl] at j11
      have j11' : fX5_isWord N M1 (28530 : Int64) = some (Int32.ofNat 1, M1) := j11
      have hX1 : X = 22 := hX
      rw [hX1] at k70
      simp only [fX5_behind, bX5_behind_0, bX5_behind_24, bX5_behind_42, pq_lit]
      simp (disch := omega) only [↓mbd_h (e1'), e1', ↓mbd_h (j10'), j10', ↓mbd_h (j11'), j11', ↓mbd_h (e2'), e2', ↓mbd_h (k10'), k10', k70, ↓mbd_s, mbd_s, eq_self, ↓reduceIte, Nat.reduceEqDiff, Nat.reduceLeDiff, Nat.reduceLT, Nat.reduceMul, Nat.reduceAdd, not_true_eq_false, not_false_eq_true, Bool.false_eq_true, pq_lit, pq_add, pq_le, pq_lt, pq_eq, pq_en, pq_ne, pq_nle, pq_nlt, pq_len, pq_ltn, pB_z, pB_o, mzt_0, mzt_1, mzt_B]
  · rw [← hX]; exact n3.sm sm4 (by decide)
/-- behind a condition nothing joins: what is on the stack then -/
theorem m_bj (cx : SCx E N b A S0 M0 q a nl l0 f0) (x : Ext S0 S) (h : Rd b A S M q 18 (sEx a on wi) n lim fr t) (hs : SnM M cs1 st1 on true) (hj : jns true (nts cs1 st1).1 (nts cs1 st1).2 = (cs, st)) (t10 : tg t 10 = false) (t11 : tg t 11 = false) : ∃ M2, mSm [8, 51, 53, 54] M M2 ∧ M2.2.1 = M.2.1 ∧ SnM M2 cs st on true ∧ Rd b A S M2 q 18 (sEx a on wi) n lim fr t ∧ fX5_behind N M = mbd (fX5_isSign N M2 (Int32.ofNat 41)) (fun r_15 S_16 => if r_15 = Int32.ofNat 0 then bX5_behind_114 N S_16 else if (S_16.1 53) = Int32.ofNat 0 then bX5_behind_114 N S_16 else mpt S_16 53 ((S_16.1 53) - Int32.ofNat 1) (fun S_20 => mpt S_20 54 ((S_20.1 54) - Int32.ofNat 1) (fun S_21 => mbd (fX5_next N S_21) (fun _ S_23 => mzt (Int32.ofNat 1) (some (Int32.ofNat 1, S_23)))))) ∧ ∀ k, M.1 11 = Int32.ofNat 0 → sL N (k + 1) M = (if (M2.1 53) ≤ Int32.ofNat 0 then bX5_sentence_48L N k M2 (Int32.ofNat 0) else mbd (fX5_bad N M2 (Int32.ofNat 1)) (fun r_13 S_14 => some (-Int32.ofNat 1 - (S_14.1 16), S_14))) := by
  have cx' := cx
  obtain ⟨kok, hN, hq, hr, hl, ha, h6⟩ := cx
  obtain ⟨a0, a1, a2, a3, a4, a5, a6, a7, a8, a9, a10, a11⟩ := lwe
  have hl1 : st1.length ≤ 40 := by have := hs.2.2.2.2.2.2.2.1; have := hs.2.2.2.2.2.2.2.2.1; omega
  have h55 : M.1 55 = Int32.ofNat 1 := hs.2.2.2.2.2.2.1
  obtain ⟨M1, s1, w1, n1, e1⟩ := m_nots (N := N) st1 cs1 N M hs (by omega)
  have h1 := h.k4 s1 (by decide) w1
  have hl2 := (nts_l st1 cs1).2.1
  obtain ⟨M2, s2, w2, n2, e2⟩ := m_joins (N := N) (o := true) rfl (nts cs1 st1).2 (nts cs1 st1).1 N M1 n1 (by omega)
  rw [hj] at n2
  have h2 := h1.k4 s2 (by decide) w2
  have i1 := (s_is cx' x h1).2
  have j10 := i1 10 (by omega)
  have j11 := i1 11 (by omega)
  rw [← a10, t10] at j10
  rw [← a11, t11] at j11
  have e1' : fX5_nots N M = some (Int32.ofNat 0, M1) := e1
  have e2' : fX5_joins N M1 (Int32.ofNat 22) = some (Int32.ofNat 0, M2) := e2
  have j10' : fX5_isWord N M1 (6385252 : Int64) = some (Int32.ofNat 0, M1) := j10
  have j11' : fX5_isWord N M1 (28530 : Int64) = some (Int32.ofNat 0, M1) := j11
  refine ⟨M2, s1.tr s2, w2.trans w1, n2, h2, ?_, fun k h11 => ?_⟩
  · unfold fX5_behind bX5_behind_0
    rw [mbd_h e1', mbd_h j10', if_pos (show Int32.ofNat 0 = (0 : Int32) from rfl), mbd_h j11', if_pos (show Int32.ofNat 0 = (0 : Int32) from rfl), mbd_h (show fX5_joins N M1 (22 : Int32) = some (Int32.ofNat 0, M2) from e2)]
    rfl
  · unfold sL
    show bX5_sentence_48 N (bX5_sentence_48L N k) M (Int32.ofNat 1) = _
    unfold bX5_sentence_48
    rw [if_neg (by decide), h55, if_neg (by decide), h11, if_pos (show Int32.ofNat 0 = (0 : Int32) from rfl), mbd_h e1', mbd_h (show fX5_joins N M1 (22 : Int32) = some (Int32.ofNat 0, M2) from e2)]
    rfl
/-- and nothing may stand there -/
theorem j_bx (cx : SCx E N b A S0 M0 q a nl l0 f0) (x : Ext S0 S) (sm : mSm sk M0 M) (h : Rd b A S M q 18 (sEx a on wi) n lim fr t) (hs : SnM M cs1 st1 on true) (hj : jns true (nts cs1 st1).1 (nts cs1 st1).2 = (cs, st)) (t10 : tg t 10 = false) (t11 : tg t 11 = false) (hw : (t.1 = 0 ∧ st ≠ []) ∨ (t.1 ≠ 0 ∧ (cls t = false ∨ st = []))) {oc : Option ((Option Nat ⊕ Nat) × GS)} (hc : ∀ S', fX6_need E N (put b A S) q (Int32.ofNat 0) (Int32.ofNat 1) = some (Sum.inr S.2.1, put b A S') → oc = some (Sum.inr S.2.1, put b A S')) : SF N b A S0 M0 lim S M fr oc := by
  obtain ⟨M2, s2, w2, n2, h2, eb, es⟩ := m_bj (N := N) cx x h hs hj t10 t11
  obtain ⟨kok, hN, hq, hr, hl, ha, h6⟩ := cx
  have hE := kok.1
  have hb : b + 111 ≤ S.2.1 := Nat.le_trans kok.2.1 x.1
  obtain ⟨S7, b1, b2, x7, f7, q1, q2⟩ := j_bad (E := E) (N := N) hE hb h2 (k := 1) (Or.inl rfl)
  have hfl := h.m12.2
  have h55 : M.1 55 = Int32.ofNat 1 := hs.2.2.2.2.2.2.1
  have l53 := n2.2.2.1
  have hlen : cs.length + st.length + 1 ≤ 2 * on := n2.2.2.2.2.2.2.2.1
  have ho := n2.2.2.2.2.2.2.2.2.1
  have c1 : fX6_need E N (put b A S) q (Int32.ofNat 0) (Int32.ofNat 1) = some (Sum.inr S.2.1, put b A S7) := b1
  have s16 : mSm [15, 16] M2 (mF (mF M2 15 (Int32.ofNat 1)) 16 (Int32.ofNat fr)) := (mSm.rf.mF _ (by decide)).mF _ (by decide)
  refine ⟨S.2.1, _, _, S7, mF (mF M2 15 (Int32.ofNat 1)) 16 (Int32.ofNat fr), 1, hc _ c1, fun k => ?_, x.tr x7, f7, ?_, mF_e _ _ _, ((sm.tr (s2.su (by decide))).su (by decide)).sn.tr (s16.rd (by decide)), by omega, by omega, by omega⟩
  · rcases hw with ⟨h0, hne⟩ | ⟨h0, hne⟩
    · have hpos : 0 < st.length := by
        cases st with
        | nil => exact absurd rfl hne
        | cons y s' => exact Nat.succ_pos _
      rw [es k (h.m11.mpr h0), l53, if_neg (by rw [pq_le (by omega) (by omega)]; omega), mbd_h b2, mF_e]
    · have n11 : ¬ M.1 11 = Int32.ofNat 0 := fun q => h0 (h.m11.mp q)
      have b114 : bX5_behind_114 N M2 = some (Int32.ofNat 0, mF (mF M2 15 (Int32.ofNat 1)) 16 (Int32.ofNat fr)) := by
        simp only [bX5_behind_114, pq_lit]
        simp (disch := omega) only [↓mbd_h (b2), b2, ↓mbd_s, mbd_s, eq_self, ↓reduceIte, Nat.reduceEqDiff, Nat.reduceLeDiff, Nat.reduceLT, Nat.reduceMul, Nat.reduceAdd, not_true_eq_false, not_false_eq_true, Bool.false_eq_true, pq_lit, pq_add, pq_le, pq_lt, pq_eq, pq_en, pq_ne, pq_nle, pq_nlt, pq_len, pq_ltn, pB_z, pB_o, mzt_0, mzt_1, mzt_B]
      have sg := (m_opn (N := N) h2).2
      have bb : fX5_behind N M = some (Int32.ofNat 0, mF (mF M2 15 (Int32.ofNat 1)) 16 (Int32.ofNat fr)) := by
        rw [eb]
        cases ec : cls t with
        | false =>
          rw [ec] at sg
          rw [mbd_h sg, if_pos (show bI false = Int32.ofNat 0 from rfl), b114]
        | true =>
          rw [ec] at sg
          have hst : st = [] := by
            rcases hne with q | q
            · rw [ec] at q; cases q
            · exact q
          rw [hst] at l53
          rw [mbd_h sg, if_neg (show ¬ bI true = Int32.ofNat 0 by decide), if_pos (show M2.1 53 = Int32.ofNat 0 from l53), b114]
      rw [sL_bx h55 n11 bb, mF_e]
  · rw [mF_ne _ _ (by omega)]; exact mF_e _ _ _
theorem c_andL (cx : SCx E N b A S0 M0 q a nl l0 f0) (hd : dpt st = wi) (hst : ∀ x s', st = x :: s' → x ≠ 20 ∧ x ≠ 21 ) (ih : ∀ (S : GS) (M : MS) (fr : Nat) (t : Tk) (on : Nat) (cs : List Cd) (st : List Nat), Ext S0 S → mSm sk M0 M → Rd b A S M q 18 (sEx a on wi) n lim fr t → SnM M cs st on false → dpt st = wi → SP N b A S0 M0 q a nl n lim wi Rs (fun _ => True) S M fr cs st (ρ2 (put b A S) (some q))) : ∀ (k m : Nat) (S : GS) (M : MS) (fr : Nat) (t : Tk) (on : Nat) (cs1 : List Cd) (st1 : List Nat) (xr : Nat) (c : List Cd), lim + 1 ≤ fr + k → k < m → Ext S0 S → mSm sk M0 M → Rd b A S M q 18 (sEx a on wi) n lim fr t → SnM M cs1 st1 on true → Ra (cs1, st1) (cs ++ c, st) → CndAt b S nl c.length xr c → 1 ≤ c.length →  SP N b A S0 M0 q a nl n lim wi Ra (fun t => tg t 10 = false) S M fr cs st (bX25_and_5L E N ρ0 ρ1 ρ2 ρ3 q m (put b A S) (some xr))
  | k, 0, S, M, fr, t, on, cs1, st1, xr, c, hk, hm, x, sm, h, hs, hR, hc, h1  => by omega
  | k, m + 1, S, M, fr, t, on, cs1, st1, xr, c, hk, hm, x, sm, h, hs, hR, hc, h1  => by
    have cx' := cx
    obtain ⟨kok, hN, hq, hr, hl, ha, h6⟩ := cx
    have hE := kok.1
    have hb0 := kok.2.1
    have hfl := h.m12.2
    have ic := (s_is cx' x h).1 21 10 (by decide)
    have h55 : M.1 55 = Int32.ofNat 1 := hs.2.2.2.2.2.2.1
    cases et : tg t 10 with
    | false =>
      rw [et] at ic
      left
      refine ⟨xr, S, M, c, cs1, st1, on, fr, t, 0, ?_, fun k => rfl, h, et, hs, hR, hc, h1, Xo.rf, x, sm, by omega, by omega, by omega⟩
      show bX25_and_5 E N ρ0 ρ1 ρ2 ρ3 q (bX25_and_5L E N ρ0 ρ1 ρ2 ρ3 q m) (put b A S) (some xr) = _
      unfold bX25_and_5 bX25_and_11
      rw [v_is h, gbd_h ic]
      rfl
    | true =>
      rw [et] at ic
      have ht : t.1 = 2 := (of_decide_eq_true et).1
      obtain ⟨S4, M4, fr4, t4, gc, gb, h4, n4, xo4, sm4, hf4, p1, p2⟩ := j_beh (o := false) cx' x sm h hs hR et (fun q => by cases q)
      have x4 := xo4.ext x hq
      have hb4 : b + 111 ≤ S4.2.1 := Nat.le_trans hb0 x4.1
      obtain ⟨S5, hS5⟩ : ∃ S5, S5 = gpush S4 (.inr (23, gdf 23)) (gdf 23).length := ⟨_, rfl⟩
      have x5 : Ext S4 S5 := by rw [hS5]; exact Ext.push _ _ _
      have c5 : Cel b S5 S4.2.1 (.inr (23, [.null, .null, .int (Int32.ofNat 0)])) := by rw [hS5]; exact Cel.push hb4 _ _
      have z5 : S5.2 = (S4.2.1 + 1, S4.2.2.1 + 1, S4.2.2.2 + 3) := by rw [hS5]; rfl
      have z51 : S5.2.2.1 = S4.2.2.1 + 1 := by rw [z5]
      have z52 : S5.2.2.2 = S4.2.2.2 + 3 := by rw [z5]
      have hq4 := h4.lt
      have pre : bX25_and_5L E N ρ0 ρ1 ρ2 ρ3 q (m + 1) (put b A S) (some xr) = gbx (ρ2 (put b A S5) (some q)) (fun r_1 S_2 => bX25_and_27 E N ρ0 ρ1 ρ2 ρ3 q (bX25_and_5L E N ρ0 ρ1 ρ2 ρ3 q m) S_2 (some S4.2.1) (some S4.2.1) (some xr) r_1) := by
        show bX25_and_5 E N ρ0 ρ1 ρ2 ρ3 q (bX25_and_5L E N ρ0 ρ1 ρ2 ρ3 q m) (put b A S) (some xr) = _
        unfold bX25_and_5 bX25_and_11
        rw [v_is h, gbd_h ic, if_neg (show ¬ bI true = (0 : Int32) by decide), v_go h, gbd_h gc]
        unfold bX25_and_18
        rw [gnw_n hb4, ← hS5]
        rfl
      have n11 : ¬ M.1 11 = Int32.ofNat 0 := fun q => by have := h.m11.mp q; omega
      have L1 : ∀ k, sL N (k + 1) M = sL N k M4 := fun k => sL_b h55 n11 gb
      have ed : dpt (21 :: st) = wi := by show 0 + dpt st = _; omega
      rcases ih S5 M4 fr4 t4 on (cs ++ c) (21 :: st) (x4.tr x5) sm4 (h4.ext x5) n4 ed  with ss | sf
      · obtain ⟨y, S6, M6, c2, cs2, st2, on2, fr6, t6, j, e1, e2, h6', hQ6, s6, hR6, hcd6, hl6, xo6, x06, sm6, hf6, r1, r2⟩ := ss
        have c6 : Cel b S6 S4.2.1 (.inr (23, [.null, .null, .int (Int32.ofNat 0)])) := xo6.cel c5 (by omega)
        obtain ⟨S7, hS7⟩ : ∃ S7, S7 = gup S6 S4.2.1 (.inr (23, [.ref xr, .ref y, .int (Int32.ofNat 1)])) := ⟨_, rfl⟩
        have c7 : Cel b S7 S4.2.1 (.inr (23, [.ref xr, .ref y, .int (Int32.ofNat 1)])) := by rw [hS7]; exact c6.up _
        have h7 : Rd b A S7 M6 q 18 (sEx a on2 wi) n lim fr6 t6 := by rw [hS7]; exact h6'.up c6.1 rfl (by omega) _
        have nc : ¬ cndE (.inr (23, [.null, .null, .int (Int32.ofNat 0)])) := by
          rintro (⟨_, h⟩ | ⟨_, _, _, h⟩ | ⟨_, h⟩ | ⟨_, _, h⟩ | ⟨_, _, _, h⟩) <;> injection h with h <;> injection h with h1 h2
          · omega
          · injection h2 with h2; cases h2
          · omega
          · omega
          · omega
        have fx6 : Fx S S6 := (h.xf xo4).tr (x5.fx.tr ((h4.ext x5).xf xo6))
        have cdx : CndAt b S7 nl c.length xr c := by rw [hS7]; exact (hc.fx fx6).up c6.1 nc _
        have cdy : CndAt b S7 nl c2.length y c2 := by rw [hS7]; exact hcd6.up c6.1 nc _
        have xo7 : Xo q S S7 := by rw [hS7]; exact ((xo4.tr x5.xo).tr xo6).gu xo4.1 _
        have hg : E.1 ≤ S4.2.1 := by omega
        have p9 : ∀ {β : Type} (K : GS → Option β), gpv E (put b A S7) (some S4.2.1) 109 (.int (Int32.ofNat 1)) K = K (put b A S7) := by
          intro β K
          rw [w23_109 c7 hg, gup_i c7.1]
        have cont : bX25_and_5L E N ρ0 ρ1 ρ2 ρ3 q (m + 1) (put b A S) (some xr) = bX25_and_5L E N ρ0 ρ1 ρ2 ρ3 q m (put b A S7) (some S4.2.1) := by
          rw [pre]
          simp only [bX25_and_27, bX25_and_31, bX31_init_0, fX31_init, bX26_init_0, fX26_init, pq_lit]
          simp (disch := omega) only [↓gbx_h e1, g_rfs, ↓w23_107 c6 hg, ↓w23_108 (c6.up _) hg, ↓w23_109 (c6.up _) hg, ↓p9, gup_gup, ← hS7, ↓gbd_s, gbd_s, ↓gbx_s, gbx_s, ↓gnn_s, ↓grf_s, eq_self, ↓reduceIte, Nat.reduceEqDiff, Nat.reduceLeDiff, Nat.reduceLT, Nat.reduceMul, Nat.reduceAdd, not_true_eq_false, not_false_eq_true, Bool.false_eq_true, pq_lit, pq_add, pq_le, pq_lt, pq_eq, pq_en, pq_ne, pq_nle, pq_nlt, pq_len, pq_ltn, pB_z, pB_o, mzt_0, mzt_1, mzt_B]
        have hR' : Ra (cs2, st2) (cs ++ (c ++ c2 ++ [(21, 0, 0)]), st) := by
          have e0 : nts cs2 st2 = nts (cs ++ c ++ c2) (21 :: st) := hR6
          have e9 : nts (cs ++ c ++ c2) (21 :: st) = (cs ++ c ++ c2, 21 :: st) := if_neg (by decide)
          show jns false (nts cs2 st2).1 (nts cs2 st2).2 = _
          rw [e0, e9]
          show jns false (cs ++ c ++ c2) (21 :: st) = _
          rw [show jns false (cs ++ c ++ c2) (21 :: st) = jns false (cs ++ c ++ c2 ++ [(21, 0, 0)]) st from if_pos (Or.inl rfl), jns_s (fun x s' e => ⟨(hst x s' e).2, fun q => by cases q⟩)]
          simp only [List.append_assoc]
        have k1 : S7.2.2.1 = S6.2.2.1 := by rw [hS7]; rfl
        have k2 : S7.2.2.2 = S6.2.2.2 := by rw [hS7]; rfl
        have cl : (c ++ c2 ++ [(21, 0, 0)] : List Cd).length = c.length + c2.length + 1 := by simp only [List.length_append, List.length_cons, List.length_nil]
        have cd7 : CndAt b S7 nl (c ++ c2 ++ [(21, 0, 0)] : List Cd).length S4.2.1 (c ++ c2 ++ [(21, 0, 0)]) := by
          rw [cl]
          exact Or.inr (Or.inl ⟨xr, y, c, c2, c7, cdx.mo _ _ (by omega), cdy.mo _ _ (by omega), rfl⟩)
        have rc := c_andL cx' hd hst ih (k - 1) m S7 M6 fr6 t6 on2 cs2 st2 S4.2.1 (c ++ c2 ++ [(21, 0, 0)]) (by omega) (by omega) (by rw [hS7]; exact x06.gup x4.1) sm6 h7 s6 hR' cd7 (by omega) 
        have L2 : ∀ k, sL N (k + (j + 1)) M = sL N k M6 := fun k => by rw [← Nat.add_assoc, L1, e2]
        rw [cont]
        rcases rc with ss | sf
        · exact Or.inl (ss.tr L2 xo7 (by omega) (by omega) (by omega))
        · exact Or.inr (sf.tr L2 (by omega) (by omega) (by omega))
      · right
        rw [pre]
        exact SF.tr (S1 := S5) (sf.oc (fun fa S' e => by rw [gbx_x e])) L1 (by omega) (by omega) (by omega)
theorem c_orL (cx : SCx E N b A S0 M0 q a nl l0 f0) (hd : dpt st = wi) (hst : ∀ x s', st = x :: s' → x ≠ 20 ∧ x ≠ 21 ∧ x ≠ 22) (ih : ∀ (S : GS) (M : MS) (fr : Nat) (t : Tk) (on : Nat) (cs : List Cd) (st : List Nat), Ext S0 S → mSm sk M0 M → Rd b A S M q 18 (sEx a on wi) n lim fr t → SnM M cs st on false → dpt st = wi → (∀ x s', st = x :: s' → x ≠ 20 ∧ x ≠ 21) → SP N b A S0 M0 q a nl n lim wi Ra (fun t => tg t 10 = false) S M fr cs st (ρ3 (put b A S) (some q))) : ∀ (k m : Nat) (S : GS) (M : MS) (fr : Nat) (t : Tk) (on : Nat) (cs1 : List Cd) (st1 : List Nat) (xr : Nat) (c : List Cd), lim + 1 ≤ fr + k → k < m → Ext S0 S → mSm sk M0 M → Rd b A S M q 18 (sEx a on wi) n lim fr t → SnM M cs1 st1 on true → Ro (cs1, st1) (cs ++ c, st) → CndAt b S nl c.length xr c → 1 ≤ c.length → tg t 10 = false → SP N b A S0 M0 q a nl n lim wi Ro (fun t => tg t 10 = false ∧ tg t 11 = false) S M fr cs st (bX25_or_5L E N ρ0 ρ1 ρ2 ρ3 q m (put b A S) (some xr))
  | k, 0, S, M, fr, t, on, cs1, st1, xr, c, hk, hm, x, sm, h, hs, hR, hc, h1 , ht10 => by omega
  | k, m + 1, S, M, fr, t, on, cs1, st1, xr, c, hk, hm, x, sm, h, hs, hR, hc, h1 , ht10 => by
    have cx' := cx
    obtain ⟨kok, hN, hq, hr, hl, ha, h6⟩ := cx
    have hE := kok.1
    have hb0 := kok.2.1
    have hfl := h.m12.2
    have ic := (s_is cx' x h).1 22 11 (by decide)
    have h55 : M.1 55 = Int32.ofNat 1 := hs.2.2.2.2.2.2.1
    cases et : tg t 11 with
    | false =>
      rw [et] at ic
      left
      refine ⟨xr, S, M, c, cs1, st1, on, fr, t, 0, ?_, fun k => rfl, h, ⟨ht10, et⟩, hs, hR, hc, h1, Xo.rf, x, sm, by omega, by omega, by omega⟩
      show bX25_or_5 E N ρ0 ρ1 ρ2 ρ3 q (bX25_or_5L E N ρ0 ρ1 ρ2 ρ3 q m) (put b A S) (some xr) = _
      unfold bX25_or_5 bX25_or_11
      rw [v_is h, gbd_h ic]
      rfl
    | true =>
      rw [et] at ic
      have ht : t.1 = 2 := (of_decide_eq_true et).1
      obtain ⟨S4, M4, fr4, t4, gc, gb, h4, n4, xo4, sm4, hf4, p1, p2⟩ := j_beh (o := true) cx' x sm h hs hR ht10 (fun _ => et)
      have x4 := xo4.ext x hq
      have hb4 : b + 111 ≤ S4.2.1 := Nat.le_trans hb0 x4.1
      obtain ⟨S5, hS5⟩ : ∃ S5, S5 = gpush S4 (.inr (23, gdf 23)) (gdf 23).length := ⟨_, rfl⟩
      have x5 : Ext S4 S5 := by rw [hS5]; exact Ext.push _ _ _
      have c5 : Cel b S5 S4.2.1 (.inr (23, [.null, .null, .int (Int32.ofNat 0)])) := by rw [hS5]; exact Cel.push hb4 _ _
      have z5 : S5.2 = (S4.2.1 + 1, S4.2.2.1 + 1, S4.2.2.2 + 3) := by rw [hS5]; rfl
      have z51 : S5.2.2.1 = S4.2.2.1 + 1 := by rw [z5]
      have z52 : S5.2.2.2 = S4.2.2.2 + 3 := by rw [z5]
      have hq4 := h4.lt
      have pre : bX25_or_5L E N ρ0 ρ1 ρ2 ρ3 q (m + 1) (put b A S) (some xr) = gbx (ρ3 (put b A S5) (some q)) (fun r_1 S_2 => bX25_or_27 E N ρ0 ρ1 ρ2 ρ3 q (bX25_or_5L E N ρ0 ρ1 ρ2 ρ3 q m) S_2 (some S4.2.1) (some S4.2.1) (some xr) r_1) := by
        show bX25_or_5 E N ρ0 ρ1 ρ2 ρ3 q (bX25_or_5L E N ρ0 ρ1 ρ2 ρ3 q m) (put b A S) (some xr) = _
        unfold bX25_or_5 bX25_or_11
        rw [v_is h, gbd_h ic, if_neg (show ¬ bI true = (0 : Int32) by decide), v_go h, gbd_h gc]
        unfold bX25_or_18
        rw [gnw_n hb4, ← hS5]
        rfl
      have n11 : ¬ M.1 11 = Int32.ofNat 0 := fun q => by have := h.m11.mp q; omega
      have L1 : ∀ k, sL N (k + 1) M = sL N k M4 := fun k => sL_b h55 n11 gb
      have ed : dpt (22 :: st) = wi := by show 0 + dpt st = _; omega
      rcases ih S5 M4 fr4 t4 on (cs ++ c) (22 :: st) (x4.tr x5) sm4 (h4.ext x5) n4 ed (fun x s' e => by injection e with e1 e2; omega) with ss | sf
      · obtain ⟨y, S6, M6, c2, cs2, st2, on2, fr6, t6, j, e1, e2, h6', hQ6, s6, hR6, hcd6, hl6, xo6, x06, sm6, hf6, r1, r2⟩ := ss
        have c6 : Cel b S6 S4.2.1 (.inr (23, [.null, .null, .int (Int32.ofNat 0)])) := xo6.cel c5 (by omega)
        obtain ⟨S7, hS7⟩ : ∃ S7, S7 = gup S6 S4.2.1 (.inr (23, [.ref xr, .ref y, .int (Int32.ofNat 0)])) := ⟨_, rfl⟩
        have c7 : Cel b S7 S4.2.1 (.inr (23, [.ref xr, .ref y, .int (Int32.ofNat 0)])) := by rw [hS7]; exact c6.up _
        have h7 : Rd b A S7 M6 q 18 (sEx a on2 wi) n lim fr6 t6 := by rw [hS7]; exact h6'.up c6.1 rfl (by omega) _
        have nc : ¬ cndE (.inr (23, [.null, .null, .int (Int32.ofNat 0)])) := by
          rintro (⟨_, h⟩ | ⟨_, _, _, h⟩ | ⟨_, h⟩ | ⟨_, _, h⟩ | ⟨_, _, _, h⟩) <;> injection h with h <;> injection h with h1 h2
          · omega
          · injection h2 with h2; cases h2
          · omega
          · omega
          · omega
        have fx6 : Fx S S6 := (h.xf xo4).tr (x5.fx.tr ((h4.ext x5).xf xo6))
        have cdx : CndAt b S7 nl c.length xr c := by rw [hS7]; exact (hc.fx fx6).up c6.1 nc _
        have cdy : CndAt b S7 nl c2.length y c2 := by rw [hS7]; exact hcd6.up c6.1 nc _
        have xo7 : Xo q S S7 := by rw [hS7]; exact ((xo4.tr x5.xo).tr xo6).gu xo4.1 _
        have hg : E.1 ≤ S4.2.1 := by omega
        have p9 : ∀ {β : Type} (K : GS → Option β), gpv E (put b A S7) (some S4.2.1) 109 (.int (Int32.ofNat 0)) K = K (put b A S7) := by
          intro β K
          rw [w23_109 c7 hg, gup_i c7.1]
        have cont : bX25_or_5L E N ρ0 ρ1 ρ2 ρ3 q (m + 1) (put b A S) (some xr) = bX25_or_5L E N ρ0 ρ1 ρ2 ρ3 q m (put b A S7) (some S4.2.1) := by
          rw [pre]
          simp only [bX25_or_27, bX25_or_31, bX31_init_0, fX31_init, bX26_init_0, fX26_init, pq_lit]
          simp (disch := omega) only [↓gbx_h e1, g_rfs, ↓w23_107 c6 hg, ↓w23_108 (c6.up _) hg, ↓w23_109 (c6.up _) hg, ↓p9, gup_gup, ← hS7, ↓gbd_s, gbd_s, ↓gbx_s, gbx_s, ↓gnn_s, ↓grf_s, eq_self, ↓reduceIte, Nat.reduceEqDiff, Nat.reduceLeDiff, Nat.reduceLT, Nat.reduceMul, Nat.reduceAdd, not_true_eq_false, not_false_eq_true, Bool.false_eq_true, pq_lit, pq_add, pq_le, pq_lt, pq_eq, pq_en, pq_ne, pq_nle, pq_nlt, pq_len, pq_ltn, pB_z, pB_o, mzt_0, mzt_1, mzt_B]
        have hR' : Ro (cs2, st2) (cs ++ (c ++ c2 ++ [(22, 0, 0)]), st) := by
          have e0 : jns false (nts cs2 st2).1 (nts cs2 st2).2 = (cs ++ c ++ c2, 22 :: st) := hR6
          show jns true (nts cs2 st2).1 (nts cs2 st2).2 = _
          rw [← jns_j, e0]
          show jns true (cs ++ c ++ c2) (22 :: st) = _
          rw [show jns true (cs ++ c ++ c2) (22 :: st) = jns true (cs ++ c ++ c2 ++ [(22, 0, 0)]) st from if_pos (Or.inr ⟨rfl, rfl⟩), jns_s (fun x s' e => ⟨(hst x s' e).2.1, fun _ => (hst x s' e).2.2⟩)]
          simp only [List.append_assoc]
        have k1 : S7.2.2.1 = S6.2.2.1 := by rw [hS7]; rfl
        have k2 : S7.2.2.2 = S6.2.2.2 := by rw [hS7]; rfl
        have cl : (c ++ c2 ++ [(22, 0, 0)] : List Cd).length = c.length + c2.length + 1 := by simp only [List.length_append, List.length_cons, List.length_nil]
        have cd7 : CndAt b S7 nl (c ++ c2 ++ [(22, 0, 0)] : List Cd).length S4.2.1 (c ++ c2 ++ [(22, 0, 0)]) := by
          rw [cl]
          exact Or.inr (Or.inr (Or.inl ⟨xr, y, c, c2, c7, cdx.mo _ _ (by omega), cdy.mo _ _ (by omega), rfl⟩))
        have rc := c_orL cx' hd hst ih (k - 1) m S7 M6 fr6 t6 on2 cs2 st2 S4.2.1 (c ++ c2 ++ [(22, 0, 0)]) (by omega) (by omega) (by rw [hS7]; exact x06.gup x4.1) sm6 h7 s6 hR' cd7 (by omega) hQ6
        have L2 : ∀ k, sL N (k + (j + 1)) M = sL N k M6 := fun k => by rw [← Nat.add_assoc, L1, e2]
        rw [cont]
        rcases rc with ss | sf
        · exact Or.inl (ss.tr L2 xo7 (by omega) (by omega) (by omega))
        · exact Or.inr (sf.tr L2 (by omega) (by omega) (by omega))
      · right
        rw [pre]
        exact SF.tr (S1 := S5) (sf.oc (fun fa S' e => by rw [gbx_x e])) L1 (by omega) (by omega) (by omega)
end SI
