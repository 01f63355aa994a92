/-! sentences: the model's codes and stack -/
def nts : List Cd → List Nat → List Cd × List Nat
  | cs, [] => (cs, [])
  | cs, x :: st => if x = 20 then nts (cs ++ [(20, 0, 0)]) st else (cs, x :: st)
def jns (o : Bool) : List Cd → List Nat → List Cd × List Nat
  | cs, [] => (cs, [])
  | cs, x :: st => if x = 21 ∨ (x = 22 ∧ o = true) then jns o (cs ++ [(x, 0, 0)]) st else (cs, x :: st)
def dpt : List Nat → Nat
  | [] => 0
  | x :: st => (if x = 20 ∨ x = 23 then 1 else 0) + dpt st
theorem nts_l : ∀ (st : List Nat) (cs : List Cd), (nts cs st).1.length + (nts cs st).2.length = cs.length + st.length ∧ (nts cs st).2.length ≤ st.length ∧ ∀ x, x ∈ (nts cs st).2 → x ∈ st
  | [], cs => ⟨rfl, Nat.le_refl _, fun _ h => h⟩
  | x :: st, cs => by
    unfold nts
    by_cases e : x = 20
    · rw [if_pos e]
      obtain ⟨h1, h2, h3⟩ := nts_l st (cs ++ [(20, 0, 0)])
      rw [List.length_append] at h1
      simp only [List.length_cons, List.length_nil] at h1 ⊢
      exact ⟨by omega, by omega, fun y hy => List.mem_cons_of_mem _ (h3 y hy)⟩
    · rw [if_neg e]; exact ⟨rfl, Nat.le_refl _, fun _ h => h⟩
theorem jns_l {o : Bool} : ∀ (st : List Nat) (cs : List Cd), (jns o cs st).1.length + (jns o cs st).2.length = cs.length + st.length ∧ (jns o cs st).2.length ≤ st.length ∧ dpt (jns o cs st).2 = dpt st
  | [], cs => ⟨rfl, Nat.le_refl _, rfl⟩
  | x :: st, cs => by
    unfold jns
    by_cases e : x = 21 ∨ (x = 22 ∧ o = true)
    · rw [if_pos e]
      obtain ⟨h1, h2, h3⟩ := jns_l (o := o) st (cs ++ [(x, 0, 0)])
      rw [List.length_append] at h1
      simp only [List.length_cons, List.length_nil] at h1 ⊢
      refine ⟨by omega, by omega, ?_⟩
      rw [h3]
      show _ = (if x = 20 ∨ x = 23 then 1 else 0) + dpt st
      rw [if_neg (by omega)]; omega
    · rw [if_neg e]; exact ⟨rfl, Nat.le_refl _, rfl⟩
theorem jns_j : ∀ (st : List Nat) (cs : List Cd), jns true (jns false cs st).1 (jns false cs st).2 = jns true cs st
  | [], cs => rfl
  | x :: st, cs => by
    by_cases e : x = 21
    · rw [show jns false cs (x :: st) = jns false (cs ++ [(x, 0, 0)]) st from if_pos (Or.inl e), show jns true cs (x :: st) = jns true (cs ++ [(x, 0, 0)]) st from if_pos (Or.inl e), jns_j st]
    · rw [show jns false cs (x :: st) = (cs, x :: st) from if_neg (fun h => h.elim e (fun q => by cases q.2))]
/-- top first -/
def SnM (M : MS) (cs : List Cd) (st : List Nat) (on : Nat) (wh : Bool) : Prop := M.1 51 = Int32.ofNat cs.length ∧ CdIn (M.2.2.1 8) 0 cs ∧ M.1 53 = Int32.ofNat st.length ∧ (∀ i x, st.reverse[i]? = some x → M.2.2.1 50 i = Int32.ofNat x) ∧ M.1 52 = Int32.ofNat on ∧ M.1 54 = Int32.ofNat (1 + dpt st) ∧ M.1 55 = bI wh ∧ cs.length + st.length + (if wh = true then 1 else 0) ≤ 2 * on ∧ on ≤ 20 ∧ ∀ x, x ∈ st → x ≤ 23
theorem SnM.mm {M M' : MS} {cs : List Cd} {st : List Nat} {on : Nat} {wh : Bool} (h : SnM M cs st on wh) (hi : ∀ k, k ∈ [51, 52, 53, 54, 55] → M'.1 k = M.1 k) (h8 : M'.2.2.1 8 = M.2.2.1 8) (h50 : M'.2.2.1 50 = M.2.2.1 50) : SnM M' cs st on wh := by
  unfold SnM; rw [hi 51 (by decide), hi 52 (by decide), hi 53 (by decide), hi 54 (by decide), hi 55 (by decide), h8, h50]; exact h
theorem SnM.sm {M M' : MS} {cs : List Cd} {st : List Nat} {on : Nat} {wh : Bool} {ks : List Nat} (h : SnM M cs st on wh) (s : mSm ks M M') (hk : ∀ k, k ∈ [8, 50, 51, 52, 53, 54, 55] → k ∉ ks) : SnM M' cs st on wh := h.mm (fun k q => (s.2 k (hk k (by
  simp only [List.mem_cons, List.not_mem_nil, or_false] at q ⊢; omega))).1) (s.2 8 (hk 8 (by decide))).2 (s.2 50 (hk 50 (by decide))).2
theorem cdin_a {f g : St} {cs : List Cd} {x : Cd} (h : CdIn f 0 cs) (e : g = upd (upd (upd f (3 * cs.length) (Int32.ofNat x.1)) (3 * cs.length + 1) (Int32.ofNat x.2.1)) (3 * cs.length + 2) (Int32.ofNat x.2.2)) : CdIn g 0 (cs ++ [x]) := by
  intro i y hi
  by_cases e1 : i < cs.length
  · rw [List.getElem?_append_left e1] at hi
    have := h i y hi
    rw [e, upd_o _ _ (by omega), upd_o _ _ (by omega), upd_o _ _ (by omega), upd_o _ _ (by omega), upd_o _ _ (by omega), upd_o _ _ (by omega), upd_o _ _ (by omega), upd_o _ _ (by omega), upd_o _ _ (by omega)]
    exact this
  · have hl : i < cs.length + 1 := by
      have := (List.getElem?_eq_some_iff.mp hi).1
      rw [List.length_append] at this
      exact this
    have ei : i = cs.length := by omega
    subst ei
    rw [List.getElem?_append_right (Nat.le_refl _), Nat.sub_self] at hi
    have ey : x = y := by injection hi
    subst ey
    rw [e, Nat.zero_add]
    refine ⟨?_, ?_, ?_⟩
    · rw [upd_o _ _ (by omega), upd_o _ _ (by omega), upd_s]
    · rw [upd_o _ _ (by omega), upd_s]
    · rw [upd_s]
section SA
variable {N : Nat} {M : MS} {cs : List Cd} {st : List Nat} {on : Nat} {wh : Bool}
/-- a code more, whatever the stack -/
theorem m_code (h51 : M.1 51 = Int32.ofNat cs.length) (h8 : CdIn (M.2.2.1 8) 0 cs) (hl : cs.length ≤ 50) (x : Cd) : ∃ M', mSm [8, 51] M M' ∧ M'.2.1 = M.2.1 ∧ M'.1 51 = Int32.ofNat (cs.length + 1) ∧ CdIn (M'.2.2.1 8) 0 (cs ++ [x]) ∧ fX5_code N M (Int32.ofNat x.1) (Int32.ofNat x.2.1) (Int32.ofNat x.2.2) = some (Int32.ofNat 0, M') := by
  obtain ⟨g, hg⟩ : ∃ g, g = upd (upd (upd (M.2.2.1 8) (3 * cs.length) (Int32.ofNat x.1)) (3 * cs.length + 1) (Int32.ofNat x.2.1)) (3 * cs.length + 2) (Int32.ofNat x.2.2) := ⟨_, rfl⟩
  refine ⟨mF (mR M 8 g) 51 (Int32.ofNat (cs.length + 1)), (mSm.rf.mR _ (by decide)).mF _ (by decide), rfl, mF_e _ _ _, ?_, ?_⟩
  · rw [mF_a, mA_e]; exact cdin_a h8 hg
  · simp only [bX5_code_0, fX5_code, pq_lit]
    simp (disch := omega) only [h51, pq_mul, pq_add, ↓mwr_n, mwr_n, ma_s, mA_i, mA_e, mR_mR, ↓mpt, ← hg, eq_self, ↓reduceIte, Nat.reduceEqDiff, Nat.reduceLeDiff, Nat.reduceLT, Nat.reduceMul, Nat.reduceAdd, not_true_eq_false, not_false_eq_true, Bool.false_eq_true]
theorem m_nots : ∀ (st : List Nat) (cs : List Cd) (k : Nat) (M : MS), SnM M cs st on wh → st.length < k → ∃ M', mSm [8, 51, 53, 54] M M' ∧ M'.2.1 = M.2.1 ∧ SnM M' (nts cs st).1 (nts cs st).2 on wh ∧ bX5_nots_0L N k M = some (Int32.ofNat 0, M')
  | st, cs, 0, M, h, hk => by omega
  | [], cs, k + 1, M, h, hk => by
    refine ⟨M, mSm.rf, rfl, h, ?_⟩
    have h53 : M.1 53 = Int32.ofNat 0 := h.2.2.1
    simp only [bX5_nots_0L, bX5_nots_0, bX5_nots_54, pq_lit]
    simp (disch := omega) only [h53, Nat.le_refl, eq_self, ↓reduceIte, Nat.reduceEqDiff, Nat.reduceLeDiff, Nat.reduceLT, Nat.reduceMul, Nat.reduceAdd, not_true_eq_false, not_false_eq_true, Bool.false_eq_true, pq_lit, pq_add, pq_le, pq_lt, pq_eq, pq_en, pq_ne, pq_nle, pq_nlt, pq_len, pq_ltn, pB_z, pB_o, mzt_0, mzt_1, mzt_B]
  | x :: st, cs, k + 1, M, h, hk => by
    obtain ⟨h51, h8, h53, h50, h52, h54, h55, hl, ho, hx⟩ := h
    have hl' : (x :: st).length = st.length + 1 := rfl
    rw [hl'] at h53 hl hk
    have hs20 : st.length + 1 ≤ 40 := by omega
    have v50 : M.2.2.1 50 st.length = Int32.ofNat x := h50 st.length x (by
      rw [List.reverse_cons, List.getElem?_append_right (by rw [List.length_reverse]; exact Nat.le_refl _), List.length_reverse, Nat.sub_self]; rfl)
    have xl := hx x List.mem_cons_self
    have z1 : ¬ st.length + 1 ≤ 0 := by omega
    have es : Int32.ofNat (st.length + 1) - Int32.ofNat 1 = Int32.ofNat st.length := by rw [pq_sub (by omega)]; rfl
    by_cases e : x = 20
    · have ed : 1 + dpt (x :: st) = (1 + dpt st) + 1 := by
        show 1 + ((if x = 20 ∨ x = 23 then 1 else 0) + dpt st) = _
        rw [if_pos (Or.inl e)]; omega
      rw [ed] at h54
      obtain ⟨M1, hM1⟩ : ∃ M1, M1 = mF (mF M 53 (Int32.ofNat st.length)) 54 (Int32.ofNat (1 + dpt st)) := ⟨_, rfl⟩
      have s1 : mSm [8, 51, 53, 54] M M1 := by rw [hM1]; exact (mSm.rf.mF _ (by decide)).mF _ (by decide)
      have w1 : M1.2.1 = M.2.1 := by rw [hM1]; rfl
      obtain ⟨M2, s2, w2, k51, k8, cd⟩ := m_code (N := N) (M := M1) (cs := cs) (by rw [hM1]; exact h51) (by rw [hM1]; exact h8) (by omega) (20, 0, 0)
      have sn : SnM M2 (cs ++ [(20, 0, 0)]) st on wh := by
        refine ⟨by rw [List.length_append]; exact k51, k8, ?_, ?_, ?_, ?_, ?_, ?_, ho, fun y hy => hx y (List.mem_cons_of_mem _ hy)⟩
        · rw [(s2.2 53 (by decide)).1, hM1]; rfl
        · intro i y hi
          rw [(s2.2 50 (by decide)).2, (s1.2 50 (by decide)).2]
          refine h50 i y ?_
          rw [List.reverse_cons, List.getElem?_append_left (List.getElem?_eq_some_iff.mp hi).1]; exact hi
        · rw [(s2.2 52 (by decide)).1, (s1.2 52 (by decide)).1]; exact h52
        · rw [(s2.2 54 (by decide)).1, hM1]; exact mF_e _ _ _
        · rw [(s2.2 55 (by decide)).1, (s1.2 55 (by decide)).1]; exact h55
        · rw [List.length_append]; simp only [List.length_cons, List.length_nil]; omega
      obtain ⟨M3, s3, w3, sn3, e3⟩ := m_nots st (cs ++ [(20, 0, 0)]) k M2 sn (by omega)
      have en : nts cs (x :: st) = nts (cs ++ [(20, 0, 0)]) st := if_pos e
      rw [en]
      refine ⟨M3, (s1.tr (s2.su (by decide))).tr s3, (w3.trans w2).trans w1, sn3, ?_⟩
      rw [← e3]
      have ed2 : Int32.ofNat (1 + dpt st + 1) - Int32.ofNat 1 = Int32.ofNat (1 + dpt st) := by rw [pq_sub (by omega)]; rfl
      rw [e] at v50
      simp only [bX5_nots_0L, bX5_nots_0, pq_lit]
      simp (disch := omega) only [h53, z1, es, ↓mrd_n, mrd_n, v50, ↓mpt, mF_ne, h54, ed2, ← hM1, ↓mbd_h (cd), cd, ↓mbd_s, mbd_s, eq_self, ↓reduceIte, Nat.reduceEqDiff, Nat.reduceLeDiff, Nat.reduceLT, Nat.reduceMul, Nat.reduceAdd, not_true_eq_false, not_false_eq_true, Bool.false_eq_true, pq_lit, pq_add, pq_le, pq_lt, pq_eq, pq_en, pq_ne, pq_nle, pq_nlt, pq_len, pq_ltn, pB_z, pB_o, mzt_0, mzt_1, mzt_B]
    · have en : nts cs (x :: st) = (cs, x :: st) := if_neg e
      rw [en]
      refine ⟨M, mSm.rf, rfl, ⟨h51, h8, h53, h50, h52, h54, h55, by show cs.length + (st.length + 1) + _ ≤ _; exact hl, ho, hx⟩, ?_⟩
      simp only [bX5_nots_0L, bX5_nots_0, bX5_nots_54, pq_lit]
      simp (disch := omega) only [h53, z1, es, ↓mrd_n, mrd_n, v50, e, ↓mbd_s, mbd_s, eq_self, ↓reduceIte, Nat.reduceEqDiff, Nat.reduceLeDiff, Nat.reduceLT, Nat.reduceMul, Nat.reduceAdd, not_true_eq_false, not_false_eq_true, Bool.false_eq_true, pq_lit, pq_add, pq_le, pq_lt, pq_eq, pq_en, pq_ne, pq_nle, pq_nlt, pq_len, pq_ltn, pB_z, pB_o, mzt_0, mzt_1, mzt_B]
theorem m_joins {o : Bool} {x1 : Int32} (hx1 : x1 = if o = true then Int32.ofNat 22 else Int32.ofNat 21) : ∀ (st : List Nat) (cs : List Cd) (k : Nat) (M : MS), SnM M cs st on wh → st.length < k → ∃ M', mSm [8, 51, 53, 54] M M' ∧ M'.2.1 = M.2.1 ∧ SnM M' (jns o cs st).1 (jns o cs st).2 on wh ∧ bX5_joins_0L N k M x1 = some (Int32.ofNat 0, M')
  | st, cs, 0, M, h, hk => by omega
  | [], cs, k + 1, M, h, hk => by
    refine ⟨M, mSm.rf, rfl, h, ?_⟩
    have h53 : M.1 53 = Int32.ofNat 0 := h.2.2.1
    simp only [bX5_joins_0L, bX5_joins_0, bX5_joins_73, pq_lit]
    simp (disch := omega) only [h53, Nat.le_refl, eq_self, ↓reduceIte, Nat.reduceEqDiff, Nat.reduceLeDiff, Nat.reduceLT, Nat.reduceMul, Nat.reduceAdd, not_true_eq_false, not_false_eq_true, Bool.false_eq_true, pq_lit, pq_add, pq_le, pq_lt, pq_eq, pq_en, pq_ne, pq_nle, pq_nlt, pq_len, pq_ltn, pB_z, pB_o, mzt_0, mzt_1, mzt_B]
  | x :: st, cs, k + 1, M, h, hk => by
    obtain ⟨h51, h8, h53, h50, h52, h54, h55, hl, ho, hx⟩ := h
    have hl' : (x :: st).length = st.length + 1 := rfl
    rw [hl'] at h53 hl hk
    have v50 : M.2.2.1 50 st.length = Int32.ofNat x := h50 st.length x (by
      rw [List.reverse_cons, List.getElem?_append_right (by rw [List.length_reverse]; exact Nat.le_refl _), List.length_reverse, Nat.sub_self]; rfl)
    have xl := hx x List.mem_cons_self
    have z1 : ¬ st.length + 1 ≤ 0 := by omega
    have es : Int32.ofNat (st.length + 1) - Int32.ofNat 1 = Int32.ofNat st.length := by rw [pq_sub (by omega)]; rfl
    by_cases e : x = 21 ∨ (x = 22 ∧ o = true)
    · have ed : 1 + dpt (x :: st) = 1 + dpt st := by
        show 1 + ((if x = 20 ∨ x = 23 then 1 else 0) + dpt st) = _
        rw [if_neg (by omega)]; omega
      rw [ed] at h54
      obtain ⟨M1, hM1⟩ : ∃ M1, M1 = mF M 53 (Int32.ofNat st.length) := ⟨_, rfl⟩
      have s1 : mSm [8, 51, 53, 54] M M1 := by rw [hM1]; exact mSm.rf.mF _ (by decide)
      have w1 : M1.2.1 = M.2.1 := by rw [hM1]; rfl
      obtain ⟨M2, s2, w2, k51, k8, cd⟩ := m_code (N := N) (M := M1) (cs := cs) (by rw [hM1]; exact h51) (by rw [hM1]; exact h8) (by omega) (x, 0, 0)
      have sn : SnM M2 (cs ++ [(x, 0, 0)]) st on wh := by
        refine ⟨by rw [List.length_append]; exact k51, k8, ?_, ?_, ?_, ?_, ?_, ?_, ho, fun y hy => hx y (List.mem_cons_of_mem _ hy)⟩
        · rw [(s2.2 53 (by decide)).1, hM1]; exact mF_e _ _ _
        · intro i y hi
          rw [(s2.2 50 (by decide)).2, (s1.2 50 (by decide)).2]
          refine h50 i y ?_
          rw [List.reverse_cons, List.getElem?_append_left (List.getElem?_eq_some_iff.mp hi).1]; exact hi
        · rw [(s2.2 52 (by decide)).1, (s1.2 52 (by decide)).1]; exact h52
        · rw [(s2.2 54 (by decide)).1, hM1, mF_ne _ _ (by omega)]; exact h54
        · rw [(s2.2 55 (by decide)).1, (s1.2 55 (by decide)).1]; exact h55
        · rw [List.length_append]; simp only [List.length_cons, List.length_nil]; omega
      obtain ⟨M3, s3, w3, sn3, e3⟩ := m_joins hx1 st (cs ++ [(x, 0, 0)]) k M2 sn (by omega)
      have en : jns o cs (x :: st) = jns o (cs ++ [(x, 0, 0)]) st := if_pos e
      rw [en]
      refine ⟨M3, (s1.tr (s2.su (by decide))).tr s3, (w3.trans w2).trans w1, sn3, ?_⟩
      rw [← e3]
      have v50' : M1.2.2.1 50 st.length = Int32.ofNat x := by rw [hM1]; exact v50
      have g53 : M1.1 53 = Int32.ofNat st.length := by rw [hM1]; exact mF_e _ _ _
      rcases e with e | ⟨e, eo⟩
      · rw [e] at v50 v50' cd
        simp only [bX5_joins_0L, bX5_joins_0, bX5_joins_45, pq_lit]
        simp (disch := omega) only [h53, z1, es, ↓mrd_n, mrd_n, v50, ↓mpt, ← hM1, g53, v50', ↓mbd_h (cd), cd, ↓mbd_s, mbd_s, eq_self, ↓reduceIte, Nat.reduceEqDiff, Nat.reduceLeDiff, Nat.reduceLT, Nat.reduceMul, Nat.reduceAdd, not_true_eq_false, not_false_eq_true, Bool.false_eq_true, pq_lit, pq_add, pq_le, pq_lt, pq_eq, pq_en, pq_ne, pq_nle, pq_nlt, pq_len, pq_ltn, pB_z, pB_o, mzt_0, mzt_1, mzt_B]
      · rw [e] at v50 v50' cd
        rw [if_pos eo] at hx1
        rw [hx1]
        simp only [bX5_joins_0L, bX5_joins_0, bX5_joins_45, pq_lit]
        simp (disch := omega) only [h53, z1, es, ↓mrd_n, mrd_n, v50, ↓mpt, ← hM1, g53, v50', ↓mbd_h (cd), cd, ↓mbd_s, mbd_s, eq_self, ↓reduceIte, Nat.reduceEqDiff, Nat.reduceLeDiff, Nat.reduceLT, Nat.reduceMul, Nat.reduceAdd, not_true_eq_false, not_false_eq_true, Bool.false_eq_true, pq_lit, pq_add, pq_le, pq_lt, pq_eq, pq_en, pq_ne, pq_nle, pq_nlt, pq_len, pq_ltn, pB_z, pB_o, mzt_0, mzt_1, mzt_B]
    · have en : jns o cs (x :: st) = (cs, x :: st) := if_neg e
      rw [en]
      refine ⟨M, mSm.rf, rfl, ⟨h51, h8, h53, h50, h52, h54, h55, by show cs.length + (st.length + 1) + _ ≤ _; exact hl, ho, hx⟩, ?_⟩
      have e1 : ¬ x = 21 := fun q => e (Or.inl q)
      by_cases e2 : x = 22
      · have eo : ¬ o = true := fun q => e (Or.inr ⟨e2, q⟩)
        rw [if_neg eo] at hx1
        rw [hx1]
        rw [e2] at v50
        simp only [bX5_joins_0L, bX5_joins_0, bX5_joins_73, pq_lit]
        simp (disch := omega) only [h53, z1, es, ↓mrd_n, mrd_n, v50, ↓mbd_s, mbd_s, eq_self, ↓reduceIte, Nat.reduceEqDiff, Nat.reduceLeDiff, Nat.reduceLT, Nat.reduceMul, Nat.reduceAdd, not_true_eq_false, not_false_eq_true, Bool.false_eq_true, pq_lit, pq_add, pq_le, pq_lt, pq_eq, pq_en, pq_ne, pq_nle, pq_nlt, pq_len, pq_ltn, pB_z, pB_o, mzt_0, mzt_1, mzt_B]
      · simp only [bX5_joins_0L, bX5_joins_0, bX5_joins_73, pq_lit]
        simp (disch := omega) only [h53, z1, es, ↓mrd_n, mrd_n, v50, e1, e2, ↓mbd_s, mbd_s, eq_self, ↓reduceIte, Nat.reduceEqDiff, Nat.reduceLeDiff, Nat.reduceLT, Nat.reduceMul, Nat.reduceAdd, not_true_eq_false, not_false_eq_true, Bool.false_eq_true, pq_lit, pq_add, pq_le, pq_lt, pq_eq, pq_en, pq_ne, pq_nle, pq_nlt, pq_len, pq_ltn, pB_z, pB_o, mzt_0, mzt_1, mzt_B]
/-- something is pushed -/
theorem SnM.psh {M2 : MS} {wh2 : Bool} {on2 : Nat} (h : SnM M cs st on wh) {x : Nat} (hx : x ≤ 23) (e51 : M2.1 51 = M.1 51) (e8 : M2.2.2.1 8 = M.2.2.1 8) (e53 : M2.1 53 = Int32.ofNat (st.length + 1)) (e50 : M2.2.2.1 50 = upd (M.2.2.1 50) st.length (Int32.ofNat x)) (e52 : M2.1 52 = Int32.ofNat on2) (e54 : M2.1 54 = Int32.ofNat (1 + dpt (x :: st))) (e55 : M2.1 55 = bI wh2) (hl : cs.length + st.length + 1 + (if wh2 = true then 1 else 0) ≤ 2 * on2) (ho : on2 ≤ 20) : SnM M2 cs (x :: st) on2 wh2 := by
  obtain ⟨h51, h8, h53, h50, h52, h54, h55, hl0, ho0, hx0⟩ := h
  refine ⟨e51.trans h51, by rw [e8]; exact h8, e53, ?_, e52, e54, e55, by show cs.length + (st.length + 1) + _ ≤ _; omega, ho, fun y hy => ?_⟩
  · intro i y hi
    rw [e50]
    rw [List.reverse_cons] at hi
    by_cases e : i < st.length
    · rw [List.getElem?_append_left (by rw [List.length_reverse]; exact e)] at hi
      rw [upd_o _ _ (by omega)]
      exact h50 i y hi
    · have hl : i < st.length + 1 := by
        have := (List.getElem?_eq_some_iff.mp hi).1
        rw [List.length_append, List.length_reverse] at this
        exact this
      have ei : i = st.length := by omega
      subst ei
      rw [List.getElem?_append_right (by rw [List.length_reverse]; exact Nat.le_refl _), List.length_reverse, Nat.sub_self] at hi
      have ey : x = y := by injection hi
      rw [upd_s, ey]
  · rcases List.mem_cons.mp hy with q | q
    · omega
    · exact hx0 y q
end SA
