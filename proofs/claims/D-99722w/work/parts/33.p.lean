/-! rows of crossings: what they are; the model goes through them one by one -/
theorem mR_l (S : MS) (k : Nat) (f : Nat → Int32) : (mR S k f).2.2.2 = S.2.2.2 := rfl
theorem mF_l (S : MS) (k : Nat) (v : Int32) : (mF S k v).2.2.2 = S.2.2.2 := rfl
/-- all but some fields are as they were -/
def mSm (ks : List Nat) (M M' : MS) : Prop := M'.2.2.2 = M.2.2.2 ∧ ∀ k, k ∉ ks → M'.1 k = M.1 k ∧ M'.2.2.1 k = M.2.2.1 k
theorem mSm.rf {ks : List Nat} {M : MS} : mSm ks M M := ⟨rfl, fun _ _ => ⟨rfl, rfl⟩⟩
theorem mSm.tr {ks : List Nat} {M M' M'' : MS} (h : mSm ks M M') (h' : mSm ks M' M'') : mSm ks M M'' := ⟨h'.1.trans h.1, fun k hk => ⟨(h'.2 k hk).1.trans (h.2 k hk).1, (h'.2 k hk).2.trans (h.2 k hk).2⟩⟩
theorem mSm.mR {ks : List Nat} {M M' : MS} (h : mSm ks M M') {k : Nat} (f : Nat → Int32) (hk : k ∈ ks) : mSm ks M (mR M' k f) := ⟨h.1, fun j hj => ⟨(h.2 j hj).1, by
  rw [mA_n M' f (show j ≠ k from fun e => hj (by rw [e]; exact hk))]
  exact (h.2 j hj).2⟩⟩
theorem mSm.mF {ks : List Nat} {M M' : MS} (h : mSm ks M M') {k : Nat} (v : Int32) (hk : k ∈ ks) : mSm ks M (mF M' k v) := ⟨h.1, fun j hj => ⟨by
  rw [mF_ne M' v (show j ≠ k from fun e => hj (by rw [e]; exact hk))]
  exact (h.2 j hj).1, (h.2 j hj).2⟩⟩
theorem mSm.su {ks ks' : List Nat} {M M' : MS} (h : mSm ks M M') (hs : ∀ k, k ∈ ks → k ∈ ks') : mSm ks' M M' := ⟨h.1, fun k hk => h.2 k (fun q => hk (hs k q))⟩
def wOk (s : St) (sp : Int32) (w t : Int32) (l : Nat) : Bool := decide (whyS s w l t (bt sp (Int32.ofNat l)) = Int32.ofNat 0)
def wGot (s : St) (h : Nat) (t x : Int32) (l : Nat) : Int32 := if l = h then givS s h t x else Int32.ofNat 0
def wTl (s : St) (h : Nat) (sp t x : Int32) (l : Nat) : Int32 := (t + wGot s h t x l) - (if bt sp (Int32.ofNat l) = true then Int32.ofNat 0 else s (3 + l))
def wSt (s : St) (h : Nat) (t x : Int32) (l : Nat) : Int32 := x - wGot s h t x l
abbrev Row : Type := List Nat × Int32 × Int32
def frm (s : St) (h : Nat) (sp : Int32) (R : Int32 → Int32 → Int32 → List Row) (w t x : Int32) : Nat → Nat → List Row
  | _, 0 => []
  | l, k + 1 => (if wOk s sp w t l = true then (R (Int32.ofNat l) (wTl s h sp t x l) (wSt s h t x l)).map (fun r => (l :: r.1, r.2)) else []) ++ frm s h sp R w t x (l + 1) k
def rows (s : St) (h : Nat) (sp : Int32) : Nat → (Int32 → Int32 → Int32 → List Row)
  | 0 => fun w t _ => [([], w, t)]
  | j + 1 => fun w t x => frm s h sp (rows s h sp j) w t x 0 (nL s)
def frn (s : St) (h : Nat) (sp : Int32) (j : Nat) (w t x : Int32) (l : Nat) : List Row := frm s h sp (rows s h sp j) w t x l (nL s - l)
theorem frn_e {s : St} {h : Nat} {sp : Int32} {j : Nat} {w t x : Int32} {l : Nat} (hl : nL s ≤ l) : frn s h sp j w t x l = [] := by
  unfold frn
  rw [show nL s - l = 0 by omega]
  rfl
theorem frn_s {s : St} {h : Nat} {sp : Int32} {j : Nat} {w t x : Int32} {l : Nat} (hl : l < nL s) : frn s h sp j w t x l = (if wOk s sp w t l = true then (rows s h sp j (Int32.ofNat l) (wTl s h sp t x l) (wSt s h t x l)).map (fun r => (l :: r.1, r.2)) else []) ++ frn s h sp j w t x (l + 1) := by
  unfold frn
  rw [show nL s - l = (nL s - (l + 1)) + 1 by omega]
  rfl
theorem rows_s (s : St) (h : Nat) (sp : Int32) (j : Nat) (w t x : Int32) : rows s h sp (j + 1) w t x = frn s h sp j w t x 0 := rfl
/-- what is still to come: at each place the lands from c on -/
def pre (c : Nat → Nat) : Nat → List Nat
  | 0 => []
  | n + 1 => pre c n ++ [c n - 1]
def rem (s : St) (h : Nat) (sp : Int32) (k : Nat) (w t x : Nat → Int32) (c : Nat → Nat) : Nat → List Row
  | 0 => frn s h sp (k - 1) (w 0) (t 0) (x 0) (c 0)
  | D + 1 => (frn s h sp (k - (D + 2)) (w (D + 1)) (t (D + 1)) (x (D + 1)) (c (D + 1))).map (fun r => (pre c (D + 1) ++ r.1, r.2)) ++ rem s h sp k w t x c D
theorem pre_c {c c' : Nat → Nat} : ∀ n, (∀ i, i < n → c' i = c i) → pre c' n = pre c n
  | 0, _ => rfl
  | n + 1, h => by
    unfold pre
    rw [pre_c n (fun i hi => h i (by omega)), h n (by omega)]
theorem pre_len (c : Nat → Nat) : ∀ n, (pre c n).length = n
  | 0 => rfl
  | n + 1 => by
    unfold pre
    rw [List.length_append, pre_len c n]
    rfl
theorem pre_at (c : Nat → Nat) : ∀ n i, i < n → (pre c n)[i]? = some (c i - 1)
  | 0, i, h => by omega
  | n + 1, i, h => by
    unfold pre
    by_cases e : i < n
    · rw [List.getElem?_append_left (by rw [pre_len]; exact e)]
      exact pre_at c n i e
    · have : i = n := by omega
      subst this
      rw [List.getElem?_append_right (by rw [pre_len]; omega), pre_len, Nat.sub_self]
      rfl
theorem rem_c {s : St} {h : Nat} {sp : Int32} {k : Nat} {w t x w' t' x' : Nat → Int32} {c c' : Nat → Nat} : ∀ D, (∀ i, i ≤ D → w' i = w i ∧ t' i = t i ∧ x' i = x i ∧ c' i = c i) → rem s h sp k w' t' x' c' D = rem s h sp k w t x c D
  | 0, e => by
    obtain ⟨e1, e2, e3, e4⟩ := e 0 (by omega)
    unfold rem
    rw [e1, e2, e3, e4]
  | D + 1, e => by
    obtain ⟨e1, e2, e3, e4⟩ := e (D + 1) (by omega)
    unfold rem
    rw [e1, e2, e3, e4, rem_c D (fun i hi => e i (by omega)), pre_c (D + 1) (fun i hi => (e i (by omega)).2.2.2)]
/-- the rows from place D on, with what lies below -/
theorem rem_D {s : St} {h : Nat} {sp : Int32} {k : Nat} {w t x : Nat → Int32} {c : Nat → Nat} (D : Nat) : rem s h sp k w t x c D = (frn s h sp (k - (D + 1)) (w D) (t D) (x D) (c D)).map (fun r => (pre c D ++ r.1, r.2)) ++ (match D with | 0 => [] | D' + 1 => rem s h sp k w t x c D') := by
  cases D with
  | zero =>
    simp only [rem, pre, List.nil_append, List.append_nil]
    exact (List.map_id' _).symm
  | succ D => rfl
def mSz (n k : Nat) (c : Nat → Nat) : Nat → Nat
  | 0 => (n - c 0) * 9 ^ k + 1
  | D + 1 => (n - c (D + 1)) * 9 ^ (k - (D + 1)) + 1 + mSz n k c D
theorem mSz_c {n k : Nat} {c c' : Nat → Nat} : ∀ D, (∀ i, i ≤ D → c' i = c i) → mSz n k c' D = mSz n k c D
  | 0, e => by unfold mSz; rw [e 0 (by omega)]
  | D + 1, e => by unfold mSz; rw [e (D + 1) (by omega), mSz_c D (fun i hi => e i (by omega))]
def mSzP (n k : Nat) (c : Nat → Nat) : Nat → Nat
  | 0 => 0
  | D + 1 => mSz n k c D
theorem mSz_D {n k : Nat} {c : Nat → Nat} (D : Nat) : mSz n k c D = (n - c D) * 9 ^ (k - D) + 1 + mSzP n k c D := by
  cases D with
  | zero => rfl
  | succ D => rfl
theorem mSzP_c {n k : Nat} {c c' : Nat → Nat} (D : Nat) (h : ∀ i, i < D → c' i = c i) : mSzP n k c' D = mSzP n k c D := by
  cases D with
  | zero => rfl
  | succ D => exact mSz_c D (fun i hi => h i (by omega))
theorem mSz_le {n k : Nat} {c : Nat → Nat} (hn : n ≤ 7) (hk : k ≤ 5) : ∀ D, mSz n k c D ≤ (D + 1) * 413344
  | 0 => by
    have h1 : 9 ^ k ≤ 9 ^ 5 := Nat.pow_le_pow_right (by omega) hk
    have h2 : (n - c 0) * 9 ^ k ≤ 7 * 9 ^ 5 := Nat.mul_le_mul (by omega) h1
    unfold mSz
    omega
  | D + 1 => by
    have h1 : 9 ^ (k - (D + 1)) ≤ 9 ^ 5 := Nat.pow_le_pow_right (by omega) (by omega)
    have h2 : (n - c (D + 1)) * 9 ^ (k - (D + 1)) ≤ 7 * 9 ^ 5 := Nat.mul_le_mul (by omega) h1
    have ih := mSz_le (c := c) hn hk D
    unfold mSz
    omega
def stpM (S : MS) (h D l : Nat) : MS := mR (mR (mR (mR S 24 (upd (S.2.2.1 24) (D + 1) (Int32.ofNat l))) 26 (upd (S.2.2.1 26) (D + 1) (wSt (S.2.2.1 6) h (S.2.2.1 25 D) (S.2.2.1 26 D) l))) 25 (upd (S.2.2.1 25) (D + 1) (wTl (S.2.2.1 6) h (S.1 29) (S.2.2.1 25 D) (S.2.2.1 26 D) l))) 27 (upd (S.2.2.1 27) (D + 1) (-Int32.ofNat 1))
section DF
variable {N : Nat} {S : MS}
theorem m_steps (hI : IvS (S.2.2.1 6)) (hN : 100 ≤ N) {D l h : Nat} (hD : D < 5) (hl : l < nL (S.2.2.1 6)) (hh : h < 7) (e27 : S.2.2.1 27 D = Int32.ofNat l) (e30 : S.1 30 = Int32.ofNat h) : fX5_steps N S (Int32.ofNat D) = if wOk (S.2.2.1 6) (S.1 29) (S.2.2.1 24 D) (S.2.2.1 25 D) l = true then some (Int32.ofNat 1, stpM S h D l) else some (Int32.ofNat 0, S) := by
  have h7 := hI.l7
  have hw := whyS_n (S.2.2.1 6) (S.2.2.1 24 D) l (S.2.2.1 25 D) (bt (S.1 29) (Int32.ofNat l))
  simp (disch := omega) only [fX5_steps, bX5_steps_0, pq_lit, pq_add, pq_le, pq_lt, pq_eq, pq_en, pq_ne, pq_nle, pq_nlt, pq_len, pq_ltn, pB_z, pB_o, mzt_0, mzt_1, mzt_B, mrd_n, mwr_n, mbd_s, mpt, mF_a, mF_w, mF_L, mF_e, mF_ne, mA_e, mA_n, mA_w, mA_i, mA_L, ma_s, e27, e30, m_why hI hN]
  unfold wOk
  generalize hz : (whyS (S.2.2.1 6) (S.2.2.1 24 D) l (S.2.2.1 25 D) (bt (S.1 29) (Int32.ofNat l))).toNatClampNeg = z at hw
  simp (disch := omega) only [hw.1, pq_le, pq_eq, decide_eq_true_eq]
  by_cases e : z = 0
  · rw [if_pos (by omega), if_pos e]
    unfold stpM wSt wTl wGot
    by_cases e2 : l = h
    · subst e2
      simp (disch := omega) only [if_true, m_giv, bX5_steps_126, bX5_steps_62, bX5_steps_0, fX5_steps, pq_lit, pq_add, pq_le, pq_lt, pq_eq, pq_en, pq_ne, pq_nle, pq_nlt, pq_len, pq_ltn, pB_z, pB_o, mzt_0, mzt_1, mzt_B, mrd_n, mwr_n, mbd_s, mpt, mF_a, mF_w, mF_L, mF_e, mF_ne, mA_e, mA_n, mA_w, mA_i, mA_L, ma_s, m_bt, upd_o]
      cases e3 : bt (S.1 29) (Int32.ofNat l) <;> simp
    · simp (disch := omega) only [if_neg e2, bX5_steps_126, bX5_steps_62, bX5_steps_0, fX5_steps, pq_lit, pq_add, pq_le, pq_lt, pq_eq, pq_en, pq_ne, pq_nle, pq_nlt, pq_len, pq_ltn, pB_z, pB_o, mzt_0, mzt_1, mzt_B, mrd_n, mwr_n, mbd_s, mpt, mF_a, mF_w, mF_L, mF_e, mF_ne, mA_e, mA_n, mA_w, mA_i, mA_L, ma_s, m_bt, upd_o]
      cases e3 : bt (S.1 29) (Int32.ofNat l) <;> simp
  · rw [if_neg (by omega), if_neg e]
/-- where the model stands among rows of k crossings -/
def DW (s : St) (h : Nat) (sp : Int32) (k : Nat) (M : MS) (c : Nat → Nat) (D : Nat) : Prop := M.2.2.1 6 = s ∧ M.1 29 = sp ∧ M.1 30 = Int32.ofNat h ∧ D < k ∧ k ≤ 5 ∧ ∀ i, i ≤ D → M.2.2.1 27 i = Int32.ofNat (c i) - Int32.ofNat 1 ∧ c i ≤ nL s ∧ (i < D → 1 ≤ c i)
def remM (s : St) (h : Nat) (sp : Int32) (k : Nat) (M : MS) (c : Nat → Nat) (D : Nat) : List Row := rem s h sp k (M.2.2.1 24) (M.2.2.1 25) (M.2.2.1 26) c D
abbrev dfs : List Nat := [24, 25, 26, 27, 28]
def Fst (M M' : MS) : Prop := M'.2.2.1 24 0 = M.2.2.1 24 0
theorem pq_dec (l : Nat) : Int32.ofNat l - Int32.ofNat 1 + Int32.ofNat 1 = Int32.ofNat l := Int32.sub_add_cancel _ _
theorem m_goTL {s : St} {h : Nat} {sp : Int32} {k : Nat} (hI : IvS s) (hN : 100 ≤ N) (hh : h < 7) : ∀ (n : Nat) (M : MS) (c : Nat → Nat) (D : Nat), DW s h sp k M c D → M.1 28 = Int32.ofNat D → mSz (nL s) k c D < n →
    (remM s h sp k M c D = [] → ∃ M', bX5_goesTo_18L N n M (Int32.ofNat k) = some (Int32.ofNat 0, M') ∧ mSm dfs M M' ∧ Fst M M') ∧
    (∀ row rest, remM s h sp k M c D = row :: rest → ∃ M' c', bX5_goesTo_18L N n M (Int32.ofNat k) = some (Int32.ofNat 1, M') ∧ mSm dfs M M' ∧ Fst M M' ∧ M'.1 28 = Int32.ofNat k ∧ DW s h sp k M' c' (k - 1) ∧ remM s h sp k M' c' (k - 1) = rest ∧ 1 ≤ c' (k - 1) ∧ M'.2.2.1 24 k = row.2.1 ∧ M'.2.2.1 25 k = row.2.2 ∧ row.1 = pre c' k)
  | 0, _, _, _, _, _, h => by omega
  | n + 1, M, c, D, hW, hd, hz => by
    have hW0 := hW
    obtain ⟨e6, e29, e30, hDk, hk5, hc⟩ := hW
    have h7 := hI.l7
    obtain ⟨c1, c2, -⟩ := hc D (Nat.le_refl _)
    have hu : upd (M.2.2.1 27) D (Int32.ofNat (c D)) D = Int32.ofNat (c D) := upd_s _ _ _
    have step : bX5_goesTo_18L N (n + 1) M (Int32.ofNat k) = (if c D < nL s then (mbd (fX5_steps N (mR M 27 (upd (M.2.2.1 27) D (Int32.ofNat (c D)))) (Int32.ofNat D)) (fun r_11 S_12 => if r_11 = Int32.ofNat 0 then bX5_goesTo_18L N n S_12 (Int32.ofNat k) else if S_12.1 28 + Int32.ofNat 1 = Int32.ofNat k then some (Int32.ofNat 1, mF S_12 28 (S_12.1 28 + Int32.ofNat 1)) else bX5_goesTo_18L N n (mF S_12 28 (S_12.1 28 + Int32.ofNat 1)) (Int32.ofNat k))) else bX5_goesTo_18L N n (mF (mR M 27 (upd (M.2.2.1 27) D (Int32.ofNat (c D)))) 28 (Int32.ofNat D - Int32.ofNat 1)) (Int32.ofNat k)) := by
      have l0 : ¬ Int32.ofNat D < Int32.ofNat 0 := by rw [pq_lt (by omega) (by omega)]; omega
      simp (disch := omega) only [bX5_goesTo_18L, bX5_goesTo_18, hd, pq_lit, pq_add, pq_le, pq_lt, pq_eq, pq_en, pq_ne, pq_nle, pq_nlt, pq_len, pq_ltn, pB_z, pB_o, mzt_0, mzt_1, mzt_B, mrd_n, mwr_n, mbd_s, mpt, mF_a, mF_w, mF_L, mF_e, mF_ne, mA_e, mA_n, mA_w, mA_i, mA_L, ma_s, c1, pq_dec, hu, e6, hI.c0]
      rw [if_neg (by omega)]
    rw [step]
    by_cases hl : c D < nL s
    · rw [if_pos hl]
      have hst := m_steps (N := N) (S := mR M 27 (upd (M.2.2.1 27) D (Int32.ofNat (c D)))) (D := D) (l := c D) (h := h) (by rw [mA_n _ _ (by omega), e6]; exact hI) hN (by omega) (by rw [mA_n _ _ (by omega), e6]; exact hl) hh (by rw [mA_e]; exact hu) e30
      rw [hst]
      rw [mA_n _ _ (show 6 ≠ 27 by omega), mA_n _ _ (show 24 ≠ 27 by omega), mA_n _ _ (show 25 ≠ 27 by omega), mA_i, e6, e29]
      have rD := rem_D (s := s) (h := h) (sp := sp) (k := k) (w := M.2.2.1 24) (t := M.2.2.1 25) (x := M.2.2.1 26) (c := c) D
      rw [frn_s hl] at rD
      have zD := mSz_D (n := nL s) (k := k) (c := c) D
      have p9 : 1 ≤ 9 ^ (k - D) := Nat.one_le_pow _ _ (by omega)
      by_cases ok : wOk s sp (M.2.2.1 24 D) (M.2.2.1 25 D) (c D) = true
      · rw [if_pos ok, mbd_s, if_neg (by decide)]
        rw [if_pos ok] at rD
        have d28 : (stpM (mR M 27 (upd (M.2.2.1 27) D (Int32.ofNat (c D)))) h D (c D)).1 28 = Int32.ofNat D := hd
        rw [d28, pq_add]
        have sm : mSm dfs M (mF (stpM (mR M 27 (upd (M.2.2.1 27) D (Int32.ofNat (c D)))) h D (c D)) 28 (Int32.ofNat (D + 1))) := by
          unfold stpM
          exact (((((mSm.rf.mR _ (by decide)).mR _ (by decide)).mR _ (by decide)).mR _ (by decide)).mR _ (by decide)).mF _ (by decide)
        have fs : Fst M (mF (stpM (mR M 27 (upd (M.2.2.1 27) D (Int32.ofNat (c D)))) h D (c D)) 28 (Int32.ofNat (D + 1))) := by
          unfold Fst stpM
          simp (disch := omega) only [mF_a, mA_n, mA_e, upd_o]
        have a24 : (mF (stpM (mR M 27 (upd (M.2.2.1 27) D (Int32.ofNat (c D)))) h D (c D)) 28 (Int32.ofNat (D + 1))).2.2.1 24 = upd (M.2.2.1 24) (D + 1) (Int32.ofNat (c D)) := by
          unfold stpM
          simp (disch := omega) only [mF_a, mA_n, mA_e]
        have a25 : (mF (stpM (mR M 27 (upd (M.2.2.1 27) D (Int32.ofNat (c D)))) h D (c D)) 28 (Int32.ofNat (D + 1))).2.2.1 25 = upd (M.2.2.1 25) (D + 1) (wTl s h sp (M.2.2.1 25 D) (M.2.2.1 26 D) (c D)) := by
          unfold stpM
          simp (disch := omega) only [mF_a, mA_n, mA_e, mA_i, e6, e29]
        have a26 : (mF (stpM (mR M 27 (upd (M.2.2.1 27) D (Int32.ofNat (c D)))) h D (c D)) 28 (Int32.ofNat (D + 1))).2.2.1 26 = upd (M.2.2.1 26) (D + 1) (wSt s h (M.2.2.1 25 D) (M.2.2.1 26 D) (c D)) := by
          unfold stpM
          simp (disch := omega) only [mF_a, mA_n, mA_e, e6]
        have a27 : (mF (stpM (mR M 27 (upd (M.2.2.1 27) D (Int32.ofNat (c D)))) h D (c D)) 28 (Int32.ofNat (D + 1))).2.2.1 27 = upd (upd (M.2.2.1 27) D (Int32.ofNat (c D))) (D + 1) (-Int32.ofNat 1) := by
          unfold stpM
          simp (disch := omega) only [mF_a, mA_n, mA_e]
        have a6 : (mF (stpM (mR M 27 (upd (M.2.2.1 27) D (Int32.ofNat (c D)))) h D (c D)) 28 (Int32.ofNat (D + 1))).2.2.1 6 = s := by
          unfold stpM
          simp (disch := omega) only [mF_a, mA_n, e6]
        generalize hM' : mF (stpM (mR M 27 (upd (M.2.2.1 27) D (Int32.ofNat (c D)))) h D (c D)) 28 (Int32.ofNat (D + 1)) = M' at sm fs a24 a25 a26 a27 a6
        have b29 : M'.1 29 = sp := by rw [← hM']; exact e29
        have b30 : M'.1 30 = Int32.ofNat h := by rw [← hM']; exact e30
        have b28 : M'.1 28 = Int32.ofNat (D + 1) := by rw [← hM']; exact mF_e _ _ _
        by_cases hk : D + 1 = k
        · -- a whole row
          rw [if_pos (by rw [hk])]
          have j0 : k - (D + 1) = 0 := by omega
          rw [j0] at rD
          obtain ⟨c', cD, co⟩ : ∃ c' : Nat → Nat, c' D = c D + 1 ∧ ∀ i, i ≠ D → c' i = c i := ⟨fun i => if i = D then c D + 1 else c i, if_pos rfl, fun i h => if_neg h⟩
          refine ⟨fun q => ?_, fun row rest q => ?_⟩
          · unfold remM at q
            rw [rD] at q
            simp [rows] at q
          · unfold remM at q
            rw [rD] at q
            simp only [rows, List.map_cons, List.map_nil, List.cons_append, List.nil_append] at q
            obtain ⟨q1, q2⟩ := List.cons.inj q
            refine ⟨M', c', rfl, sm, fs, by rw [b28, hk], ?_, ?_, ?_, ?_, ?_, ?_⟩
            · refine ⟨a6, b29, b30, by omega, hk5, fun i hi => ?_⟩
              rw [a27, upd_o _ _ (by omega)]
              by_cases e : i = D
              · subst e
                rw [cD, upd_s]
                refine ⟨?_, by omega, by omega⟩
                rw [pq_sub (by omega)]
                rfl
              · rw [co i e, upd_o _ _ e]
                obtain ⟨x1, x2, x3⟩ := hc i (by omega)
                exact ⟨x1, x2, fun _ => x3 (by omega)⟩
            · have kD : k - 1 = D := by omega
              rw [kD]
              unfold remM
              rw [rem_D, j0, cD, ← q2, pre_c (c := c) D (fun i hi => co i (by omega)), a24, a25, a26, upd_o _ _ (by omega), upd_o _ _ (by omega), upd_o _ _ (by omega)]
              congr 1
              cases D with
              | zero => rfl
              | succ D' =>
                exact rem_c D' (fun i hi => ⟨upd_o _ _ (by omega), upd_o _ _ (by omega), upd_o _ _ (by omega), co i (by omega)⟩)
            · rw [show k - 1 = D by omega, cD]
              omega
            · rw [a24, ← hk, upd_s, ← q1]
            · rw [a25, ← hk, upd_s, ← q1]
            · rw [← q1, ← hk]
              show pre c D ++ [c D] = pre c' D ++ [c' D - 1]
              rw [pre_c (c := c) D (fun i hi => co i (by omega)), cD]
              rfl
        · -- deeper
          rw [if_neg (by rw [pq_eq (by omega) (by omega)]; exact hk)]
          have jj : k - (D + 1) = (k - (D + 2)) + 1 := by omega
          obtain ⟨c', c0, cD, co⟩ : ∃ c' : Nat → Nat, c' (D + 1) = 0 ∧ c' D = c D + 1 ∧ ∀ i, i ≠ D → i ≠ D + 1 → c' i = c i := ⟨fun i => if i = D + 1 then 0 else if i = D then c D + 1 else c i, if_pos rfl, (if_neg (show ¬ D = D + 1 by omega)).trans (if_pos rfl), fun i h h2 => (if_neg h2).trans (if_neg h)⟩
          have W' : DW s h sp k M' c' (D + 1) := by
            refine ⟨a6, b29, b30, by omega, hk5, fun i hi => ?_⟩
            rw [a27]
            by_cases e1 : i = D + 1
            · subst e1
              rw [c0, upd_s]
              exact ⟨by decide, by omega, by omega⟩
            · rw [upd_o _ _ e1]
              by_cases e : i = D
              · subst e
                rw [cD, upd_s]
                refine ⟨?_, by omega, fun _ => by omega⟩
                rw [pq_sub (by omega)]
                rfl
              · rw [co i e e1, upd_o _ _ e]
                obtain ⟨x1, x2, x3⟩ := hc i (by omega)
                exact ⟨x1, x2, fun _ => x3 (by omega)⟩
          have R' : remM s h sp k M' c' (D + 1) = remM s h sp k M c D := by
            unfold remM
            rw [rD, jj, rows_s]
            show (frn s h sp (k - (D + 2)) (M'.2.2.1 24 (D + 1)) (M'.2.2.1 25 (D + 1)) (M'.2.2.1 26 (D + 1)) _).map _ ++ rem s h sp k _ _ _ _ D = _
            rw [a24, a25, a26, upd_s, upd_s, upd_s, c0, rem_D D, cD, List.map_append, List.append_assoc, List.map_map]
            rw [upd_o _ _ (by omega), upd_o _ _ (by omega), upd_o _ _ (by omega), jj]
            have p1 : pre c' D = pre c D := pre_c D (fun i hi => co i (by omega) (by omega))
            have p2 : pre c' (D + 1) = pre c D ++ [c D] := by
              show pre c' D ++ [c' D - 1] = _
              rw [p1, cD]
              rfl
            rw [p1, p2]
            congr 1
            · congr 1
              funext r
              simp
            · congr 1
              cases D with
              | zero => rfl
              | succ D' =>
                exact rem_c D' (fun i hi => ⟨upd_o _ _ (by omega), upd_o _ _ (by omega), upd_o _ _ (by omega), co i (by omega) (by omega)⟩)
          have Z' : mSz (nL s) k c' (D + 1) < n := by
            have z1 : mSz (nL s) k c' (D + 1) = (nL s - 0) * 9 ^ (k - (D + 1)) + 1 + mSz (nL s) k c' D := by
              show (nL s - c' (D + 1)) * 9 ^ (k - (D + 1)) + 1 + mSz (nL s) k c' D = _
              rw [c0]
            have z2 := mSz_D (n := nL s) (k := k) (c := c') D
            rw [cD] at z2
            have z3 := mSzP_c (n := nL s) (k := k) (c := c) (c' := c') D (fun i hi => co i (by omega) (by omega))
            rw [z3] at z2
            have pw : 9 ^ (k - D) = 9 * 9 ^ (k - (D + 1)) := by rw [show k - D = (k - (D + 1)) + 1 by omega, Nat.pow_succ]; omega
            have p9' : 1 ≤ 9 ^ (k - (D + 1)) := Nat.one_le_pow _ _ (by omega)
            have m1 : (nL s - c D) * 9 ^ (k - D) = (nL s - (c D + 1)) * 9 ^ (k - D) + 9 ^ (k - D) := by
              rw [show nL s - c D = (nL s - (c D + 1)) + 1 by omega, Nat.add_mul, Nat.one_mul]
            have m2 : (nL s - 0) * 9 ^ (k - (D + 1)) ≤ 7 * 9 ^ (k - (D + 1)) := Nat.mul_le_mul_right _ (by omega)
            omega
          have ih := m_goTL hI hN hh n M' _ (D + 1) W' b28 Z'
          rw [R'] at ih
          refine ⟨fun q => ?_, fun row rest q => ?_⟩
          · obtain ⟨M2, i1, i2, i3⟩ := ih.1 q
            exact ⟨M2, i1, sm.tr i2, i3.trans fs⟩
          · obtain ⟨M2, c2', i1, i2, i3, i4⟩ := ih.2 row rest q
            exact ⟨M2, c2', i1, sm.tr i2, i3.trans fs, i4⟩
      · rw [if_neg ok, mbd_s, if_pos rfl]
        rw [if_neg ok, List.nil_append] at rD
        obtain ⟨c', cD, co⟩ : ∃ c' : Nat → Nat, c' D = c D + 1 ∧ ∀ i, i ≠ D → c' i = c i := ⟨fun i => if i = D then c D + 1 else c i, if_pos rfl, fun i h => if_neg h⟩
        have W' : DW s h sp k (mR M 27 (upd (M.2.2.1 27) D (Int32.ofNat (c D)))) c' D := by
          refine ⟨by rw [mA_n _ _ (by omega)]; exact e6, e29, e30, hDk, hk5, fun i hi => ?_⟩
          rw [mA_e]
          by_cases e : i = D
          · subst e
            rw [cD, upd_s]
            refine ⟨?_, by omega, by omega⟩
            rw [pq_sub (by omega)]
            rfl
          · rw [co i e, upd_o _ _ e]
            obtain ⟨x1, x2, x3⟩ := hc i (by omega)
            exact ⟨x1, x2, fun _ => x3 (by omega)⟩
        have R' : remM s h sp k (mR M 27 (upd (M.2.2.1 27) D (Int32.ofNat (c D)))) c' D = remM s h sp k M c D := by
          unfold remM
          rw [rD, rem_D, cD, mA_n _ _ (show 24 ≠ 27 by omega), mA_n _ _ (show 25 ≠ 27 by omega), mA_n _ _ (show 26 ≠ 27 by omega), pre_c (c := c) D (fun i hi => co i (by omega))]
          congr 1
          cases D with
          | zero => rfl
          | succ D' => exact rem_c D' (fun i hi => ⟨rfl, rfl, rfl, co i (by omega)⟩)
        have Z' : mSz (nL s) k c' D < n := by
          have z2 := mSz_D (n := nL s) (k := k) (c := c') D
          rw [cD] at z2
          have z3 := mSzP_c (n := nL s) (k := k) (c := c) (c' := c') D (fun i hi => co i (by omega))
          rw [z3] at z2
          have m1 : (nL s - c D) * 9 ^ (k - D) = (nL s - (c D + 1)) * 9 ^ (k - D) + 9 ^ (k - D) := by
            rw [show nL s - c D = (nL s - (c D + 1)) + 1 by omega, Nat.add_mul, Nat.one_mul]
          omega
        have ih := m_goTL hI hN hh n _ _ D W' hd Z'
        rw [R'] at ih
        have sm : mSm dfs M (mR M 27 (upd (M.2.2.1 27) D (Int32.ofNat (c D)))) := mSm.rf.mR _ (by decide)
        have fs : Fst M (mR M 27 (upd (M.2.2.1 27) D (Int32.ofNat (c D)))) := by unfold Fst; rw [mA_n _ _ (by omega)]
        refine ⟨fun q => ?_, fun row rest q => ?_⟩
        · obtain ⟨M2, i1, i2, i3⟩ := ih.1 q
          exact ⟨M2, i1, sm.tr i2, i3.trans fs⟩
        · obtain ⟨M2, c2', i1, i2, i3, i4⟩ := ih.2 row rest q
          exact ⟨M2, c2', i1, sm.tr i2, i3.trans fs, i4⟩
    · rw [if_neg hl]
      have rD := rem_D (s := s) (h := h) (sp := sp) (k := k) (w := M.2.2.1 24) (t := M.2.2.1 25) (x := M.2.2.1 26) (c := c) D
      rw [frn_e (by omega), List.map_nil, List.nil_append] at rD
      have zD := mSz_D (n := nL s) (k := k) (c := c) D
      have sm : mSm dfs M (mF (mR M 27 (upd (M.2.2.1 27) D (Int32.ofNat (c D)))) 28 (Int32.ofNat D - Int32.ofNat 1)) := (mSm.rf.mR _ (by decide)).mF _ (by decide)
      have fs : Fst M (mF (mR M 27 (upd (M.2.2.1 27) D (Int32.ofNat (c D)))) 28 (Int32.ofNat D - Int32.ofNat 1)) := by unfold Fst; rw [mF_a, mA_n _ _ (by omega)]
      cases D with
      | zero =>
        have n1 : 1 ≤ n := by omega
        obtain ⟨n', rfl⟩ : ∃ n', n = n' + 1 := ⟨n - 1, by omega⟩
        refine ⟨fun _ => ?_, fun row rest q => ?_⟩
        · refine ⟨_, ?_, sm, fs⟩
          simp only [bX5_goesTo_18L, bX5_goesTo_18, pq_lit, mF_e, mzt_0]
          rw [if_pos (by decide)]
        · unfold remM at q
          rw [rD] at q
          cases q
      | succ D' =>
        have W' : DW s h sp k (mF (mR M 27 (upd (M.2.2.1 27) (D' + 1) (Int32.ofNat (c (D' + 1))))) 28 (Int32.ofNat (D' + 1) - Int32.ofNat 1)) c D' := by
          refine ⟨by rw [mF_a, mA_n _ _ (by omega)]; exact e6, by rw [mF_ne _ _ (by omega)]; exact e29, by rw [mF_ne _ _ (by omega)]; exact e30, by omega, hk5, fun i hi => ?_⟩
          rw [mF_a, mA_e, upd_o _ _ (by omega)]
          obtain ⟨x1, x2, x3⟩ := hc i (by omega)
          exact ⟨x1, x2, fun _ => x3 (by omega)⟩
        have R' : remM s h sp k (mF (mR M 27 (upd (M.2.2.1 27) (D' + 1) (Int32.ofNat (c (D' + 1))))) 28 (Int32.ofNat (D' + 1) - Int32.ofNat 1)) c D' = remM s h sp k M c (D' + 1) := by
          unfold remM
          rw [rD]
          rfl
        have ih := m_goTL hI hN hh n _ c D' W' (by rw [mF_e, pq_sub (by omega)]; rfl) (by have : mSzP (nL s) k c (D' + 1) = mSz (nL s) k c D' := rfl; omega)
        rw [R'] at ih
        refine ⟨fun q => ?_, fun row rest q => ?_⟩
        · obtain ⟨M2, i1, i2, i3⟩ := ih.1 q
          exact ⟨M2, i1, sm.tr i2, i3.trans fs⟩
        · obtain ⟨M2, c2', i1, i2, i3, i4⟩ := ih.2 row rest q
          exact ⟨M2, c2', i1, sm.tr i2, i3.trans fs, i4⟩
end DF
