/-! part -/
theorem p1_m : ∀ x, x < 13 → Int32.ofNat 1 <<< (Int32.ofNat x &&& Int32.ofNat 31) = Int32.ofNat (2 ^ x) := by decide
theorem can_r {n c : Nat} (hn : n < 13) : (Int32.ofNat (2 ^ n) - Int32.ofNat 1) &&& (Int32.ofNat c ^^^ -Int32.ofNat 1) = Int32.ofNat (canN n c) := by
  rw [pq_sub (Nat.two_pow_pos n), show -Int32.ofNat 1 = Int32.ofNat (2 ^ 32 - 1) by decide, xor_n, and_n]
  congr 1
  apply Nat.eq_of_testBit_eq
  intro i
  unfold canN
  rw [Nat.testBit_and, Nat.testBit_xor, Nat.testBit_xor, Nat.testBit_and, Nat.testBit_two_pow_sub_one, Nat.testBit_two_pow_sub_one]
  by_cases hi : i < n
  · have h2 : i < 32 := by omega
    simp [hi, h2]
  · simp [hi]
theorem canN_lt (n c : Nat) : canN n c < 2 ^ n := by
  have h : 2 ^ n - 1 < 2 ^ n := by have := Nat.two_pow_pos n; omega
  exact Nat.xor_lt_two_pow h (Nat.lt_of_le_of_lt Nat.and_le_left h)
theorem mny_le {v x : Nat} (hv : v < 4096) (hx : x < 4096) : (mny (Int32.ofNat x) ≤ mny (Int32.ofNat v)) = (pcn 12 x ≤ pcn 12 v) := by
  have a := pcn_max 12 v
  have b := pcn_max 12 x
  rw [(mny_p hv).2, (mny_p hx).2, pq_le (by omega) (by omega)]
theorem oI_n' (o : Option Nat) (h : ∀ x, o = some x → x < 4096) : (oI o = -Int32.ofNat 1) = (o = none) := by
  cases o with
  | none => simp [oI]
  | some x =>
    have := h x rfl
    simp only [oI, reduceCtorEq]
    exact pq_en (by omega)
section OQ
variable {E : gE} {N b : Nat} {A : FA} {S : GS} {M : MS}
theorem c_ptL (hE : E.1 ≤ b) (hN : 3000000 ≤ N) {a : Nat} {d : AD} {s : St} (h3 : aR A 3 = some a) (hA : AtD b S a s d) (hs : Ends s) (hT : tS A 0 = s) {x y c : Nat} (hx : x < 7) (hy : y < 7) (hc : c < 4096) (h93 : s 93 = Int32.ofNat c) : ∀ (k v q : Nat) (best : Option Nat), (∀ x, best = some x → x < 4096) → v + k = 2 ^ nR s → k < q → bX1_part_28L E N b q (put b A S) (Int32.ofNat x) (Int32.ofNat y) (oI best) (Int32.ofNat v) = some (mny (oI (ptCF s x y c k v best)), put b (sI A 20 (oI (ptCF s x y c k v best))) S)
  | k, v, 0, best, _, _, h => by omega
  | 0, v, q + 1, best, hb, hk, _ => by
    have h12 := hs.2.1
    have p12 : 2 ^ nR s ≤ 2 ^ 12 := Nat.pow_le_pow_right (by omega) h12
    have z : 2 ^ nR s ≤ v := by omega
    have pm := p1_m (nR s) (by omega)
    simp only [bX1_part_28L, bX1_part_28, pq_lit]
    simp (disch := omega) only [↓f_3, h3, ↓a_26 hA, ↓gbd_h (a_sR hA), a_sR hA, pm, z, ↓f_p20, ↓gbd_h (c_mny _), c_mny _, ptCF, pq_lit, pq_add, pq_le, pq_lt, pq_eq, pq_en, pq_ne, pq_nle, pq_nlt, pq_len, pq_ltn, pB_z, pB_o, mzt_0, mzt_1, mzt_B, ↓gbd_s, gbd_s, ↓gnn_s, ↓grf_s, eq_self, ↓reduceIte, Nat.reduceEqDiff, Nat.reduceLeDiff, Nat.reduceLT, Nat.reduceMul, Nat.reduceAdd, not_true_eq_false, not_false_eq_true, Bool.false_eq_true]
  | k + 1, v, q + 1, best, hb, hk, hq => by
    have h12 := hs.2.1
    have h7 := hs.1
    have p12 : 2 ^ nR s ≤ 2 ^ 12 := Nat.pow_le_pow_right (by omega) h12
    have z : ¬ 2 ^ nR s ≤ v := by omega
    have pm := p1_m (nR s) (by omega)
    have hv : v < 4096 := by omega
    have hvc : v &&& c < 2147483648 := Nat.lt_of_le_of_lt Nat.and_le_left (by omega)
    have cv : (Int32.ofNat v &&& Int32.ofNat c = Int32.ofNat 0) = (v &&& c = 0) := by rw [and_n, pq_eq hvc (by omega)]
    have on := oI_n' best hb
    have ih := fun bb hbb => c_ptL hE hN h3 hA hs hT hx hy hc h93 k (v + 1) q bb hbb (by omega) (by omega)
    have hv' : ∀ x, some v = some x → x < 4096 := fun x q => by cases q; exact hv
    have i1 := ih best hb
    have i2 := ih (some v) hv'
    have e31 : (aT A 0).2.2 93 = Int32.ofNat c := by rw [← h93, ← hT]
    have re := c_reach (E := E) (N := N) (by omega) h3 hA hs hx (v ||| c)
    have b1 : bt (Int32.ofNat (rpF s (v ||| c) 7 (2 ^ x))) (Int32.ofNat y) = (rpF s (v ||| c) 7 (2 ^ x)).testBit y := bt_nat (by omega)
    have st : bX1_part_75 E N b (bX1_part_28L E N b q) (put b A S) (Int32.ofNat x) (Int32.ofNat y) (oI best) (Int32.ofNat v) = bX1_part_28L E N b q (put b A S) (Int32.ofNat x) (Int32.ofNat y) (oI (if prt s x y (v ||| c) = true then some v else best)) (Int32.ofNat (v + 1)) := by
      simp only [bX1_part_75, bX1_part_100, pq_lit]
      unfold prt
      cases g : (rpF s (v ||| c) 7 (2 ^ x)).testBit y with
      | true => simp (disch := omega) only [↓f_4, ↓t_31, e31, or_n, ↓gbd_h (re), re, ↓gbd_h (c_bt _ _), c_bt _ _, b1, g, pB_T, Bool.not_true, Bool.false_eq_true, pq_lit, pq_add, pq_le, pq_lt, pq_eq, pq_en, pq_ne, pq_nle, pq_nlt, pq_len, pq_ltn, pB_z, pB_o, mzt_0, mzt_1, mzt_B, ↓gbd_s, gbd_s, ↓gnn_s, ↓grf_s, eq_self, ↓reduceIte, Nat.reduceEqDiff, Nat.reduceLeDiff, Nat.reduceLT, Nat.reduceMul, Nat.reduceAdd, not_true_eq_false, not_false_eq_true, Bool.false_eq_true]
      | false => simp (disch := omega) only [↓f_4, ↓t_31, e31, or_n, ↓gbd_h (re), re, ↓gbd_h (c_bt _ _), c_bt _ _, b1, g, pB_F, Bool.not_false, oI, pq_lit, pq_add, pq_le, pq_lt, pq_eq, pq_en, pq_ne, pq_nle, pq_nlt, pq_len, pq_ltn, pB_z, pB_o, mzt_0, mzt_1, mzt_B, ↓gbd_s, gbd_s, ↓gnn_s, ↓grf_s, eq_self, ↓reduceIte, Nat.reduceEqDiff, Nat.reduceLeDiff, Nat.reduceLT, Nat.reduceMul, Nat.reduceAdd, not_true_eq_false, not_false_eq_true, Bool.false_eq_true]
    simp only [bX1_part_28L, bX1_part_28, bX1_part_100, pq_lit]
    by_cases y1 : v &&& c = 0
    · cases best with
      | none =>
        have e : ptC s x y c none v = if prt s x y (v ||| c) = true then some v else none := by
          unfold ptC
          by_cases g : prt s x y (v ||| c) = true
          · rw [if_pos ⟨y1, by simp, g⟩, if_pos g]
          · rw [if_neg (fun w => g w.2.2), if_neg g]
        simp (disch := omega) only [↓f_3, h3, ↓a_26 hA, ↓gbd_h (a_sR hA), a_sR hA, pm, z, ↓f_4, ↓t_31, e31, cv, y1, on, st, ptCF, e, pq_lit, pq_add, pq_le, pq_lt, pq_eq, pq_en, pq_ne, pq_nle, pq_nlt, pq_len, pq_ltn, pB_z, pB_o, mzt_0, mzt_1, mzt_B, ↓gbd_s, gbd_s, ↓gnn_s, ↓grf_s, eq_self, ↓reduceIte, Nat.reduceEqDiff, Nat.reduceLeDiff, Nat.reduceLT, Nat.reduceMul, Nat.reduceAdd, not_true_eq_false, not_false_eq_true, Bool.false_eq_true]
        split
        · exact i2
        · exact i1
      | some w =>
        have hw := hb w rfl
        have oIs : oI (some w) = Int32.ofNat w := rfl
        have ml := mny_le hv hw
        by_cases y2 : pcn 12 w ≤ pcn 12 v
        · have e : ptC s x y c (some w) v = some w := by
            unfold ptC
            rw [if_neg (fun u => by have := u.2.1 w rfl; omega)]
          simp (disch := omega) only [↓f_3, h3, ↓a_26 hA, ↓gbd_h (a_sR hA), a_sR hA, pm, z, ↓f_4, ↓t_31, e31, cv, y1, on, ↓gbd_h (c_mny _), c_mny _, oI, ml, y2, ptCF, e, reduceCtorEq, pq_lit, pq_add, pq_le, pq_lt, pq_eq, pq_en, pq_ne, pq_nle, pq_nlt, pq_len, pq_ltn, pB_z, pB_o, mzt_0, mzt_1, mzt_B, ↓gbd_s, gbd_s, ↓gnn_s, ↓grf_s, eq_self, ↓reduceIte, Nat.reduceEqDiff, Nat.reduceLeDiff, Nat.reduceLT, Nat.reduceMul, Nat.reduceAdd, not_true_eq_false, not_false_eq_true, Bool.false_eq_true]
          exact i1
        · have e : ptC s x y c (some w) v = if prt s x y (v ||| c) = true then some v else some w := by
            unfold ptC
            by_cases g : prt s x y (v ||| c) = true
            · rw [if_pos ⟨y1, fun u hu => by cases hu; omega, g⟩, if_pos g]
            · rw [if_neg (fun w => g w.2.2), if_neg g]
          have st' : bX1_part_75 E N b (bX1_part_28L E N b q) (put b A S) (Int32.ofNat x) (Int32.ofNat y) (Int32.ofNat w) (Int32.ofNat v) = _ := st
          have ne : (Int32.ofNat w = -Int32.ofNat 1) = False := pq_en (by omega)
          simp (disch := omega) only [↓f_3, h3, ↓a_26 hA, ↓gbd_h (a_sR hA), a_sR hA, pm, z, ↓f_4, ↓t_31, e31, cv, y1, ne, ↓gbd_h (c_mny _), c_mny _, oIs, ml, y2, st', ptCF, e, pq_lit, pq_add, pq_le, pq_lt, pq_eq, pq_en, pq_ne, pq_nle, pq_nlt, pq_len, pq_ltn, pB_z, pB_o, mzt_0, mzt_1, mzt_B, ↓gbd_s, gbd_s, ↓gnn_s, ↓grf_s, eq_self, ↓reduceIte, Nat.reduceEqDiff, Nat.reduceLeDiff, Nat.reduceLT, Nat.reduceMul, Nat.reduceAdd, not_true_eq_false, not_false_eq_true, Bool.false_eq_true]
          split
          · exact i2
          · exact i1
    · have e : ptC s x y c best v = best := by
        unfold ptC
        rw [if_neg (fun w => y1 w.1)]
      simp (disch := omega) only [↓f_3, h3, ↓a_26 hA, ↓gbd_h (a_sR hA), a_sR hA, pm, z, ↓f_4, ↓t_31, e31, cv, y1, ptCF, e, pq_lit, pq_add, pq_le, pq_lt, pq_eq, pq_en, pq_ne, pq_nle, pq_nlt, pq_len, pq_ltn, pB_z, pB_o, mzt_0, mzt_1, mzt_B, ↓gbd_s, gbd_s, ↓gnn_s, ↓grf_s, eq_self, ↓reduceIte, Nat.reduceEqDiff, Nat.reduceLeDiff, Nat.reduceLT, Nat.reduceMul, Nat.reduceAdd, not_true_eq_false, not_false_eq_true, Bool.false_eq_true]
      exact i1
theorem m_ptL (hN : 3000000 ≤ N) {s : St} (hI : IvS s) (hs : Ends s) (h6 : M.2.2.1 6 = s) {x y c : Nat} (hx : x < nL s) (hy : y < nL s) (hc : c < 4096) (h93 : s 93 = Int32.ofNat c) : ∀ (k v q best : Nat), best < 4096 → v + k = 2 ^ nR s → k < q → bX5_part_52L N q M (Int32.ofNat x) (Int32.ofNat y) (Int32.ofNat best) (Int32.ofNat v) = some (mny (Int32.ofNat (ptMF s x y c k v best)), mF (mF M 43 (Int32.ofNat 1)) 42 (Int32.ofNat (ptMF s x y c k v best)))
  | k, v, 0, best, _, _, h => by omega
  | 0, v, q + 1, best, hb, hk, _ => by
    have h12 := hs.2.1
    have p12 : 2 ^ nR s ≤ 2 ^ 12 := Nat.pow_le_pow_right (by omega) h12
    have z : 2 ^ nR s ≤ v := by omega
    have pm := p1_m (nR s) (by omega)
    have mb := m_bits (N := N) (S := mF (mF M 43 (Int32.ofNat 1)) 42 (Int32.ofNat best)) (by omega) hb
    simp only [bX5_part_52L, bX5_part_52, pq_lit]
    simp (disch := omega) only [↓mrd_n, mrd_n, h6, hI.c1, pm, z, mzt_1, ↓mpt, ↓mbd_h (mb), mb, ptMF, eq_self, ↓reduceIte, Nat.reduceEqDiff, Nat.reduceLeDiff, Nat.reduceLT, Nat.reduceMul, Nat.reduceAdd, not_true_eq_false, not_false_eq_true, Bool.false_eq_true, pq_lit, pq_add, pq_le, pq_lt, pq_eq, pq_en, pq_ne, pq_nle, pq_nlt, pq_len, pq_ltn, pB_z, pB_o, mzt_0, mzt_1, mzt_B]
  | k + 1, v, q + 1, best, hb, hk, hq => by
    have h12 := hs.2.1
    have h7 := hs.1
    have p12 : 2 ^ nR s ≤ 2 ^ 12 := Nat.pow_le_pow_right (by omega) h12
    have z : ¬ 2 ^ nR s ≤ v := by omega
    have pm := p1_m (nR s) (by omega)
    have hv : v < 4096 := by omega
    have hvc : v &&& c < 2147483648 := Nat.lt_of_le_of_lt Nat.and_le_left (by omega)
    have cv : (Int32.ofNat v &&& Int32.ofNat c = Int32.ofNat 0) = (v &&& c = 0) := by rw [and_n, pq_eq hvc (by omega)]
    have ih := fun bb hbb => m_ptL hN hI hs h6 hx hy hc h93 k (v + 1) q bb hbb (by omega) (by omega)
    have i1 := ih best hb
    have i2 := ih v hv
    have mb1 := m_bits (N := N) (S := M) (by omega) hb
    have mb2 := m_bits (N := N) (S := M) (by omega) hv
    have ml := mny_le hv hb
    have re := m_are (N := N) (by omega) hI hs h6 hx hy (v ||| c)
    simp only [bX5_part_52L, bX5_part_52, bX5_part_112, pq_lit]
    by_cases y1 : v &&& c = 0
    · by_cases y2 : pcn 12 best ≤ pcn 12 v
      · have e : ptM s x y c best v = best := by
          unfold ptM
          rw [if_neg (fun u => by have := u.2.1; omega)]
        simp (disch := omega) only [↓mrd_n, mrd_n, h6, hI.c1, pm, z, h93, cv, y1, ↓mbd_h (mb1), mb1, ↓mbd_h (mb2), mb2, ml, y2, ptMF, e, i1, eq_self, ↓reduceIte, Nat.reduceEqDiff, Nat.reduceLeDiff, Nat.reduceLT, Nat.reduceMul, Nat.reduceAdd, not_true_eq_false, not_false_eq_true, Bool.false_eq_true, pq_lit, pq_add, pq_le, pq_lt, pq_eq, pq_en, pq_ne, pq_nle, pq_nlt, pq_len, pq_ltn, pB_z, pB_o, mzt_0, mzt_1, mzt_B]
      · by_cases g : prt s x y (v ||| c) = true
        · have e : ptM s x y c best v = v := by
            unfold ptM
            rw [if_pos ⟨y1, by omega, g⟩]
          rw [pB_t g] at re
          simp (disch := omega) only [↓mrd_n, mrd_n, h6, hI.c1, pm, z, h93, cv, y1, ↓mbd_h (mb1), mb1, ↓mbd_h (mb2), mb2, ml, y2, or_n, ↓mbd_h (re), re, mbd_s, ptMF, e, i2, eq_self, ↓reduceIte, Nat.reduceEqDiff, Nat.reduceLeDiff, Nat.reduceLT, Nat.reduceMul, Nat.reduceAdd, not_true_eq_false, not_false_eq_true, Bool.false_eq_true, pq_lit, pq_add, pq_le, pq_lt, pq_eq, pq_en, pq_ne, pq_nle, pq_nlt, pq_len, pq_ltn, pB_z, pB_o, mzt_0, mzt_1, mzt_B]
        · have e : ptM s x y c best v = best := by
            unfold ptM
            rw [if_neg (fun u => g u.2.2)]
          rw [pB_f g] at re
          simp (disch := omega) only [↓mrd_n, mrd_n, h6, hI.c1, pm, z, h93, cv, y1, ↓mbd_h (mb1), mb1, ↓mbd_h (mb2), mb2, ml, y2, or_n, ↓mbd_h (re), re, mbd_s, ptMF, e, i1, eq_self, ↓reduceIte, Nat.reduceEqDiff, Nat.reduceLeDiff, Nat.reduceLT, Nat.reduceMul, Nat.reduceAdd, not_true_eq_false, not_false_eq_true, Bool.false_eq_true, pq_lit, pq_add, pq_le, pq_lt, pq_eq, pq_en, pq_ne, pq_nle, pq_nlt, pq_len, pq_ltn, pB_z, pB_o, mzt_0, mzt_1, mzt_B]
    · have e : ptM s x y c best v = best := by
        unfold ptM
        rw [if_neg (fun w => y1 w.1)]
      simp (disch := omega) only [↓mrd_n, mrd_n, h6, hI.c1, pm, z, h93, cv, y1, ptMF, e, i1, eq_self, ↓reduceIte, Nat.reduceEqDiff, Nat.reduceLeDiff, Nat.reduceLT, Nat.reduceMul, Nat.reduceAdd, not_true_eq_false, not_false_eq_true, Bool.false_eq_true, pq_lit, pq_add, pq_le, pq_lt, pq_eq, pq_en, pq_ne, pq_nle, pq_nlt, pq_len, pq_ltn, pB_z, pB_o, mzt_0, mzt_1, mzt_B]
theorem ptMF_lt {s : St} {x y c : Nat} : ∀ (k v best : Nat), best < 4096 → v + k ≤ 4096 → ptMF s x y c k v best < 4096
  | 0, _, _, h, _ => h
  | k + 1, v, best, h, hk => ptMF_lt k (v + 1) _ (by unfold ptM; split <;> omega) (by omega)
theorem o_part (h : Rel E b A S M) (hN : 3000000 ≤ N) (x y : Int32) : Op E b S 0 0 (fX1_part E N (put b A S) b x y) (fX5_part N M x y) := by
  have hh := h
  obtain ⟨r1, r2, ⟨a, d, u, h3, h0, hs, hW, hU⟩, r4⟩ := h
  have hE := r1.1
  have hI := hW.2.2.2.1
  have hB := hW.2.2.2.2.2.2.2.1
  have hEn := IvA.ends hW.2.2.2
  have h7 := hEn.1
  have h12 := hEn.2.1
  have p12 : 2 ^ nR (M.2.2.1 6) ≤ 2 ^ 12 := Nat.pow_le_pow_right (by omega) h12
  have hI0 : IvS ((mF M 0 (Int32.ofNat 0)).2.2.1 6) := hI
  have mi := fun x => m_isLand (N := N) hI0 x
  have ci := fun x => k_isL (E := E) (N := N) h3 hW.1 x
  by_cases e : inN x (nL (M.2.2.1 6)) = true ∧ inN y (nL (M.2.2.1 6)) = true ∧ x ≠ y
  · obtain ⟨e1, e2, e3⟩ := e
    have e1' := e1
    have e2' := e2
    obtain ⟨x, hx, rfl⟩ := (inN_i (by omega)).mp e1
    obtain ⟨y, hy, rfl⟩ := (inN_i (by omega)).mp e2
    obtain ⟨c, hc, h93⟩ := hB.2
    have hxy : x ≠ y := fun q => e3 (by rw [q])
    have pm := p1_m (nR (M.2.2.1 6)) (by omega)
    have cr := can_r (n := nR (M.2.2.1 6)) (c := c) (by omega)
    have cl := canN_lt (nR (M.2.2.1 6)) c
    have cf := c_ptL (E := E) (N := N) hE hN h3 hW.1 hEn hs (x := x) (y := y) (c := c) (by omega) (by omega) (by omega) h93 (2 ^ nR (M.2.2.1 6)) 0 N none (by simp) (by omega) (by omega)
    have mf := m_ptL (N := N) (M := mF M 0 (Int32.ofNat 0)) hN hI hEn rfl hx hy (c := c) (by omega) h93 (2 ^ nR (M.2.2.1 6)) 0 N (canN (nR (M.2.2.1 6)) c) (by omega) (by omega) (by omega)
    rw [pt_same hxy h12 cl _ 0 none (canN (nR (M.2.2.1 6)) c) (by omega) (Or.inl ⟨rfl, rfl, by omega⟩)] at cf
    obtain ⟨F, hF⟩ : ∃ F, F = ptMF (M.2.2.1 6) x y c (2 ^ nR (M.2.2.1 6)) 0 (canN (nR (M.2.2.1 6)) c) := ⟨_, rfl⟩
    rw [← hF] at cf mf
    have cc := Eq.trans (a := fX1_part E N (put b A S) b (Int32.ofNat x) (Int32.ofNat y)) (by
      simp only [fX1_part, bX1_part_0, pq_lit]
      simp (disch := omega) only [↓gbd_h (ci _), ci _, e1', e2', pB_T, hxy, pq_lit, pq_add, pq_le, pq_lt, pq_eq, pq_en, pq_ne, pq_nle, pq_nlt, pq_len, pq_ltn, pB_z, pB_o, mzt_0, mzt_1, mzt_B, ↓gbd_s, gbd_s, ↓gnn_s, ↓grf_s, eq_self, ↓reduceIte, Nat.reduceEqDiff, Nat.reduceLeDiff, Nat.reduceLT, Nat.reduceMul, Nat.reduceAdd, not_true_eq_false, not_false_eq_true, Bool.false_eq_true]
      rfl) cf
    have mm := Eq.trans (a := fX5_part N M (Int32.ofNat x) (Int32.ofNat y)) (by
      simp only [fX5_part, bX5_part_0, pq_lit]
      simp (disch := omega) only [↓mpt, ↓mbd_h (mi _), mi _, mF_a, e1', e2', pB_T, hxy, ↓mrd_n, mrd_n, hI.c1, h93, pm, cr, eq_self, ↓reduceIte, Nat.reduceEqDiff, Nat.reduceLeDiff, Nat.reduceLT, Nat.reduceMul, Nat.reduceAdd, not_true_eq_false, not_false_eq_true, Bool.false_eq_true, pq_lit, pq_add, pq_le, pq_lt, pq_eq, pq_en, pq_ne, pq_nle, pq_nlt, pq_len, pq_ltn, pB_z, pB_o, mzt_0, mzt_1, mzt_B]) mf
    have sm : mSm [0, 43, 42] M (mF (mF (mF M 0 (Int32.ofNat 0)) 43 (Int32.ofNat 1)) 42 (Int32.ofNat F)) := (((mSm.rf (ks := [0, 43, 42])).mF _ (by decide)).mF _ (by decide)).mF _ (by decide)
    exact ⟨_, _, S, _, cc, mm, hh.ch Ext.rf sm (by decide) rfl rfl rfl ⟨rfl, rfl⟩ rfl (fun _ _ => rfl) (Or.inl ⟨by decide, rfl⟩) (r4.ch Ext.rf sm (Or.inl ⟨by decide, by decide, rfl, rfl⟩) (Or.inl ⟨by decide, by decide, by decide, rfl, rfl, rfl⟩) (Or.inl ⟨by decide, by decide, rfl⟩) (Or.inl ⟨by decide, by decide, rfl, rfl⟩) (Or.inr (Or.inr ⟨rfl, rfl⟩)) (Or.inl ⟨by decide, by decide, rfl⟩) (Or.inl ⟨by decide, by decide, rfl⟩) ⟨by decide, by decide, fun _ => rfl, rfl, rfl⟩), Nat.le_refl _, Nat.le_refl _⟩
  · refine ⟨-Int32.ofNat 1, A, S, mF M 0 (Int32.ofNat 0), ?_, ?_, hh.m0 _, Nat.le_refl _, Nat.le_refl _⟩
    · simp only [fX1_part, bX1_part_0, bX1_part_21, pq_lit]
      by_cases e1 : inN x (nL (M.2.2.1 6)) = true
      · by_cases e2 : inN y (nL (M.2.2.1 6)) = true
        · have e3 : x = y := Classical.byContradiction fun w => e ⟨e1, e2, w⟩
          subst e3
          simp (disch := omega) only [↓gbd_h (ci _), ci _, e1, pB_T, pq_lit, pq_add, pq_le, pq_lt, pq_eq, pq_en, pq_ne, pq_nle, pq_nlt, pq_len, pq_ltn, pB_z, pB_o, mzt_0, mzt_1, mzt_B, ↓gbd_s, gbd_s, ↓gnn_s, ↓grf_s, eq_self, ↓reduceIte, Nat.reduceEqDiff, Nat.reduceLeDiff, Nat.reduceLT, Nat.reduceMul, Nat.reduceAdd, not_true_eq_false, not_false_eq_true, Bool.false_eq_true]
        · simp (disch := omega) only [↓gbd_h (ci _), ci _, e1, e2, pB_T, pB_F, pq_lit, pq_add, pq_le, pq_lt, pq_eq, pq_en, pq_ne, pq_nle, pq_nlt, pq_len, pq_ltn, pB_z, pB_o, mzt_0, mzt_1, mzt_B, ↓gbd_s, gbd_s, ↓gnn_s, ↓grf_s, eq_self, ↓reduceIte, Nat.reduceEqDiff, Nat.reduceLeDiff, Nat.reduceLT, Nat.reduceMul, Nat.reduceAdd, not_true_eq_false, not_false_eq_true, Bool.false_eq_true]
      · simp (disch := omega) only [↓gbd_h (ci _), ci _, e1, pB_F, pq_lit, pq_add, pq_le, pq_lt, pq_eq, pq_en, pq_ne, pq_nle, pq_nlt, pq_len, pq_ltn, pB_z, pB_o, mzt_0, mzt_1, mzt_B, ↓gbd_s, gbd_s, ↓gnn_s, ↓grf_s, eq_self, ↓reduceIte, Nat.reduceEqDiff, Nat.reduceLeDiff, Nat.reduceLT, Nat.reduceMul, Nat.reduceAdd, not_true_eq_false, not_false_eq_true, Bool.false_eq_true]
    · simp only [fX5_part, bX5_part_0, bX5_part_26, pq_lit]
      by_cases e1 : inN x (nL (M.2.2.1 6)) = true
      · by_cases e2 : inN y (nL (M.2.2.1 6)) = true
        · have e3 : x = y := Classical.byContradiction fun w => e ⟨e1, e2, w⟩
          subst e3
          simp (disch := omega) only [↓mpt, ↓mbd_h (mi _), mi _, mF_a, e1, pB_T, eq_self, ↓reduceIte, Nat.reduceEqDiff, Nat.reduceLeDiff, Nat.reduceLT, Nat.reduceMul, Nat.reduceAdd, not_true_eq_false, not_false_eq_true, Bool.false_eq_true, pq_lit, pq_add, pq_le, pq_lt, pq_eq, pq_en, pq_ne, pq_nle, pq_nlt, pq_len, pq_ltn, pB_z, pB_o, mzt_0, mzt_1, mzt_B]
        · simp (disch := omega) only [↓mpt, ↓mbd_h (mi _), mi _, mF_a, e1, e2, pB_T, pB_F, eq_self, ↓reduceIte, Nat.reduceEqDiff, Nat.reduceLeDiff, Nat.reduceLT, Nat.reduceMul, Nat.reduceAdd, not_true_eq_false, not_false_eq_true, Bool.false_eq_true, pq_lit, pq_add, pq_le, pq_lt, pq_eq, pq_en, pq_ne, pq_nle, pq_nlt, pq_len, pq_ltn, pB_z, pB_o, mzt_0, mzt_1, mzt_B]
      · simp (disch := omega) only [↓mpt, ↓mbd_h (mi _), mi _, mF_a, e1, pB_F, eq_self, ↓reduceIte, Nat.reduceEqDiff, Nat.reduceLeDiff, Nat.reduceLT, Nat.reduceMul, Nat.reduceAdd, not_true_eq_false, not_false_eq_true, Bool.false_eq_true, pq_lit, pq_add, pq_le, pq_lt, pq_eq, pq_en, pq_ne, pq_nle, pq_nlt, pq_len, pq_ltn, pB_z, pB_o, mzt_0, mzt_1, mzt_B]
end OQ
