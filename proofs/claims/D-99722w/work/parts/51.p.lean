/-! spare -/
theorem and_n {v w : Nat} : Int32.ofNat v &&& Int32.ofNat w = Int32.ofNat (v &&& w) := by
  rw [← Int32.toBitVec_inj, Int32.toBitVec_and]
  apply BitVec.eq_of_toNat_eq
  simp [Nat.and_mod_two_pow]
theorem or_n {v w : Nat} : Int32.ofNat v ||| Int32.ofNat w = Int32.ofNat (v ||| w) := by
  rw [← Int32.toBitVec_inj, Int32.toBitVec_or]
  apply BitVec.eq_of_toNat_eq
  simp [Nat.or_mod_two_pow]
def canN (n w : Nat) : Nat := (2 ^ n - 1) ^^^ ((2 ^ n - 1) &&& w)
theorem can_e : ∀ n, n < 8 → ∀ w, w < 128 → (Int32.ofNat 1 <<< (Int32.ofNat n &&& Int32.ofNat 31) - Int32.ofNat 1) &&& (Int32.ofNat w ^^^ -Int32.ofNat 1) = Int32.ofNat (canN n w) ∧ canN n w < 128 ∧ canN n w < 2 ^ n := by decide +kernel
theorem bt_nat {v i : Nat} (hi : i < 32) : bt (Int32.ofNat v) (Int32.ofNat i) = v.testBit i := by
  rw [bt_bit hi]
  have e : (Int32.ofNat v).toBitVec = BitVec.ofNat 32 v := rfl
  rw [e, BitVec.getLsbD_ofNat]
  simp [hi]
theorem can_v : ∀ v, v < 128 → ∀ c, c < 128 → ((Int32.ofNat v &&& (Int32.ofNat c ^^^ -Int32.ofNat 1)) = Int32.ofNat 0) = (v &&& c = v) := by
  intro v hv c hc
  apply propext
  rw [show -Int32.ofNat 1 = ~~~(Int32.ofNat 0) from by decide]
  constructor
  · intro h
    apply Nat.eq_of_testBit_eq
    intro i
    rw [Nat.testBit_and]
    by_cases hi : i < 32
    · have e := congrArg (fun z => bt z (Int32.ofNat i)) h
      simp only [bt_and hi, bt_xor hi, bt_not hi, bt_0 hi] at e
      rw [bt_nat hi, bt_nat hi] at e
      cases a : v.testBit i <;> cases b : c.testBit i <;> simp_all
    · have : v.testBit i = false := Nat.testBit_lt_two_pow (Nat.lt_of_lt_of_le hv (Nat.le_trans (by decide : 128 ≤ 2 ^ 7) (Nat.pow_le_pow_right (by omega) (by omega))))
      simp [this]
  · intro h
    apply bt_ext
    intro i hi
    simp only [bt_and hi, bt_xor hi, bt_not hi, bt_0 hi]
    rw [bt_nat hi, bt_nat hi]
    have e := congrArg (fun z => z.testBit i) h
    simp only [Nat.testBit_and] at e
    cases a : v.testBit i <;> cases b : c.testBit i <;> simp_all
theorem can_w {n w v : Nat} (hv : v < 2 ^ n) : (v &&& canN n w = v) = (v &&& w = 0) := by
  apply propext
  have key : ∀ i, (v &&& canN n w).testBit i = (v.testBit i && !(w.testBit i)) := by
    intro i
    unfold canN
    rw [Nat.testBit_and, Nat.testBit_xor, Nat.testBit_and, Nat.testBit_two_pow_sub_one]
    by_cases hi : i < n
    · simp [hi]
    · have : v.testBit i = false := Nat.testBit_lt_two_pow (Nat.lt_of_lt_of_le hv (Nat.pow_le_pow_right (by omega) (by omega)))
      simp [this]
  constructor
  · intro h
    apply Nat.eq_of_testBit_eq
    intro i
    have e := key i
    rw [h] at e
    rw [Nat.testBit_and, Nat.zero_testBit]
    cases a : v.testBit i <;> cases b : w.testBit i <;> simp_all
  · intro h
    apply Nat.eq_of_testBit_eq
    intro i
    rw [key i]
    have e := congrArg (fun z => z.testBit i) h
    simp only [Nat.testBit_and, Nat.zero_testBit] at e
    cases a : v.testBit i <;> cases b : w.testBit i <;> simp_all
/-- the least set of treaties more -/
noncomputable def spSt (s : St) (p : Nat) (l n : Int32) (w : Nat) (best : Option Nat) (v : Nat) : Option Nat :=
  if v &&& w = 0 ∧ (∀ x, best = some x → mny (Int32.ofNat v) < mny (Int32.ofNat x)) ∧ (fewS s (hm s p) (spW s p ||| Int32.ofNat v) (s (108 + p)) (s (114 + p)) (s (94 + hm s p)) l n 0 6).isSome = true then some v else best
noncomputable def spF (s : St) (p : Nat) (l n : Int32) (w : Nat) : Nat → Nat → Option Nat → Option Nat
  | 0, _, best => best
  | k + 1, v, best => spF s p l n w k (v + 1) (spSt s p l n w best v)
section OL
variable {E : gE} {N b : Nat} {A : FA} {S : GS} {M : MS}
noncomputable def spR (b : Nat) (A : FA) (S : GS) (best : Option Nat) : Option (Int32 × GS) := match best with
  | none => some (-Int32.ofNat 1, put b A S)
  | some w => some (mny (Int32.ofNat w), put b (sI A 13 (Int32.ofNat w)) S)
theorem oI_n (o : Option Nat) (h : ∀ x, o = some x → x < 1000) : (oI o = -Int32.ofNat 1) = (o = none) := by
  cases o with
  | none => simp [oI]
  | some x =>
    have := h x rfl
    simp only [oI, reduceCtorEq]
    exact pq_en (by omega)
theorem c_spL (hE : E.1 ≤ b) (hN : 1000 ≤ N) {a : Nat} {d : AD} {s : St} {p w c : Nat} (hs : tS A 0 = s) (hp : p < nP s) (hc : c < 128) (hw : ∀ v, v ≤ c → (v &&& c = v) = (v &&& w = 0)) (l n : Int32) : ∀ (k v q : Nat) (S : GS) (best : Option Nat), TA b S A 0 a d → b + 111 ≤ S.2.1 → (∀ x, best = some x → x < 128) → v + k = c + 1 → k < q → ∃ S', Ext S S' ∧ S'.2.2.1 ≤ S.2.2.1 + 2 * k ∧ S'.2.2.2 ≤ S.2.2.2 + 11 * k ∧ bX1_spare_32L E N b q (put b A S) (Int32.ofNat p) l n (Int32.ofNat c) (oI best) (Int32.ofNat v) = spR b A S' (spF s p l n w k v best)
  | k, v, 0, S, best, _, _, _, _, h => by omega
  | 0, v, q + 1, S, best, hT, hb, hx, hk, _ => by
    refine ⟨S, Ext.rf, by omega, by omega, ?_⟩
    have z : c < v := by omega
    have on := oI_n best (fun x q => by have := hx x q; omega)
    simp only [bX1_spare_32L, bX1_spare_32, bX1_spare_121, pq_lit]
    cases best with
    | none => simp (disch := omega) only [z, on, spF, spR, pq_lit, pq_add, pq_le, pq_lt, pq_eq, pq_en, pq_ne, pq_nle, pq_nlt, pq_len, pq_ltn, pB_z, pB_o, mzt_0, mzt_1, mzt_B, ↓gbd_s, gbd_s, ↓gnn_s, ↓grf_s, eq_self, ↓reduceIte, Nat.reduceEqDiff, Nat.reduceLeDiff, Nat.reduceLT, Nat.reduceMul, Nat.reduceAdd, not_true_eq_false, not_false_eq_true, Bool.false_eq_true]
    | some x =>
      have on2 := hx x rfl
      simp (disch := omega) only [z, ↓f_p13, ↓gbd_h (c_mny _), c_mny _, spF, spR, oI, pq_lit, pq_add, pq_le, pq_lt, pq_eq, pq_en, pq_ne, pq_nle, pq_nlt, pq_len, pq_ltn, pB_z, pB_o, mzt_0, mzt_1, mzt_B, ↓gbd_s, gbd_s, ↓gnn_s, ↓grf_s, eq_self, ↓reduceIte, Nat.reduceEqDiff, Nat.reduceLeDiff, Nat.reduceLT, Nat.reduceMul, Nat.reduceAdd, not_true_eq_false, not_false_eq_true, Bool.false_eq_true]
  | k + 1, v, q + 1, S, best, hT, hb, hx, hk, hq => by
    have z : ¬ c < v := by omega
    have cv := can_v v (by omega) c hc
    rw [hw v (by omega)] at cv
    have on := oI_n best (fun x q => by have := hx x q; omega)
    have hh' := hT.2.2.2.hl (p := p) (by rw [hs]; exact hp)
    -- the call when it is made
    obtain ⟨S2, x2, s2, ⟨c0, c0', c1, c2⟩, gi⟩ := c_goal (E := E) (N := N) hE hb hN hT (by rw [hs]; exact hp) (Int32.ofNat v) l n
    have H := gWlk (E := E) (N := N) (h := hm (tS A 0) p) (sp := spW (tS A 0) p ||| Int32.ofNat v) (l := l) (n := n) hE (show b ≤ S.2.1 by omega) hT x2 (Nat.le_refl _) c1 c2
    obtain ⟨P', cf⟩ := c_fewL (show 100 ≤ N by omega) H hh' (by rw [hs]; exact hp) 6 0 N (fun _ => Int32.ofNat 0) (by omega) (by omega)
    rw [hs] at cf gi H
    have gi : fX20_init E N (put b A (gpush S (.inr (13, gdf 13)) (gdf 13).length)) S.2.1 (some (tad b 0)) (Int32.ofNat p) (Int32.ofNat v) l n = some (Int32.ofNat 0, put b A (wS S2 S.2.1 (gOb b S.2.1 (hm s p) (spW s p ||| Int32.ofNat v) l n) (fun _ => Int32.ofNat 0))) := gi
    obtain ⟨S3, hS3⟩ : ∃ S3, S3 = wS S2 S.2.1 (gOb b S.2.1 (hm s p) (spW s p ||| Int32.ofNat v) l n) P' := ⟨_, rfl⟩
    have x3 : Ext S S3 := by rw [hS3]; exact wS_ext x2 (Nat.le_refl _)
    have s3 : S3.2 = (S.2.1 + 2, S.2.2.1 + 2, S.2.2.2 + 11) := by rw [hS3]; exact s2
    have hT3 : TA b S3 A 0 a d := ⟨hT.1, hT.2.1, hT.2.2.1.ext x3, hT.2.2.2⟩
    obtain ⟨xs, hxs⟩ := H.2.2.2.1 (fun _ => Int32.ofNat 0) ()
    have ev : ∀ best', bX1_spare_68 E N b (bX1_spare_32L E N b q) (put b A S) (Int32.ofNat p) l n (Int32.ofNat c) best' (Int32.ofNat v) = bX1_spare_32L E N b q (put b A S3) (Int32.ofNat p) l n (Int32.ofNat c) (if (fewS s (hm s p) (spW s p ||| Int32.ofNat v) (s (108 + p)) (s (114 + p)) (s (94 + hm s p)) l n 0 6).isSome = true then Int32.ofNat v else best') (Int32.ofNat (v + 1)) := by
      intro best'
      rw [hS3]
      simp only [bX1_spare_68, bX1_spare_71, bX1_spare_84, bX1_spare_88, bX1_spare_96, vInchBorders_Goal_fewest__I_I, fX20_fewest, bX20_fewest_0, pq_lit]
      cases y : fewS s (hm s p) (spW s p ||| Int32.ofNat v) (s (108 + p)) (s (114 + p)) (s (94 + hm s p)) l n 0 6 with
      | some r =>
        rw [y] at cf
        have r5 := cf.2.2.1
        simp (disch := omega) only [↓gnw_n hb, ↓f_4, ↓gbd_h (gi), gi, ↓kc hxs, ↓gbd_h (cf.1), cf.1, Option.isSome_some, pq_lit, pq_add, pq_le, pq_lt, pq_eq, pq_en, pq_ne, pq_nle, pq_nlt, pq_len, pq_ltn, pB_z, pB_o, mzt_0, mzt_1, mzt_B, ↓gbd_s, gbd_s, ↓gnn_s, ↓grf_s, eq_self, ↓reduceIte, Nat.reduceEqDiff, Nat.reduceLeDiff, Nat.reduceLT, Nat.reduceMul, Nat.reduceAdd, not_true_eq_false, not_false_eq_true, Bool.false_eq_true]
      | none =>
        rw [y] at cf
        simp (disch := omega) only [↓gnw_n hb, ↓f_4, ↓gbd_h (gi), gi, ↓kc hxs, ↓gbd_h (cf), cf, Option.isSome_none, pq_lit, pq_add, pq_le, pq_lt, pq_eq, pq_en, pq_ne, pq_nle, pq_nlt, pq_len, pq_ltn, pB_z, pB_o, mzt_0, mzt_1, mzt_B, ↓gbd_s, gbd_s, ↓gnn_s, ↓grf_s, eq_self, ↓reduceIte, Nat.reduceEqDiff, Nat.reduceLeDiff, Nat.reduceLT, Nat.reduceMul, Nat.reduceAdd, not_true_eq_false, not_false_eq_true, Bool.false_eq_true]
    have st : bX1_spare_32L E N b (q + 1) (put b A S) (Int32.ofNat p) l n (Int32.ofNat c) (oI best) (Int32.ofNat v) = if v &&& w = 0 ∧ (∀ x, best = some x → mny (Int32.ofNat v) < mny (Int32.ofNat x)) then bX1_spare_68 E N b (bX1_spare_32L E N b q) (put b A S) (Int32.ofNat p) l n (Int32.ofNat c) (oI best) (Int32.ofNat v) else bX1_spare_32L E N b q (put b A S) (Int32.ofNat p) l n (Int32.ofNat c) (oI best) (Int32.ofNat (v + 1)) := by
      simp only [bX1_spare_32L, bX1_spare_32, bX1_spare_60, bX1_spare_65, bX1_spare_96, pq_lit]
      by_cases y1 : v &&& w = 0
      · cases best with
        | none =>
          rw [if_pos (show v &&& w = 0 ∧ (∀ x, none = some x → mny (Int32.ofNat v) < mny (Int32.ofNat x)) from ⟨y1, by simp⟩)]
          simp (disch := omega) only [z, cv, y1, on, pq_lit, pq_add, pq_le, pq_lt, pq_eq, pq_en, pq_ne, pq_nle, pq_nlt, pq_len, pq_ltn, pB_z, pB_o, mzt_0, mzt_1, mzt_B, ↓gbd_s, gbd_s, ↓gnn_s, ↓grf_s, eq_self, ↓reduceIte, Nat.reduceEqDiff, Nat.reduceLeDiff, Nat.reduceLT, Nat.reduceMul, Nat.reduceAdd, not_true_eq_false, not_false_eq_true, Bool.false_eq_true]
        | some x =>
          have hx1 := hx x rfl
          by_cases y2 : mny (Int32.ofNat v) < mny (Int32.ofNat x)
          · have y3 : ¬ mny (Int32.ofNat x) ≤ mny (Int32.ofNat v) := Int32.not_le.mpr y2
            rw [if_pos (show v &&& w = 0 ∧ (∀ x', some x = some x' → mny (Int32.ofNat v) < mny (Int32.ofNat x')) from ⟨y1, fun x' q => by cases q; exact y2⟩)]
            simp (disch := omega) only [z, cv, y1, ↓gbd_h (c_mny _), c_mny _, oI, y3, pq_lit, pq_add, pq_le, pq_lt, pq_eq, pq_en, pq_ne, pq_nle, pq_nlt, pq_len, pq_ltn, pB_z, pB_o, mzt_0, mzt_1, mzt_B, ↓gbd_s, gbd_s, ↓gnn_s, ↓grf_s, eq_self, ↓reduceIte, Nat.reduceEqDiff, Nat.reduceLeDiff, Nat.reduceLT, Nat.reduceMul, Nat.reduceAdd, not_true_eq_false, not_false_eq_true, Bool.false_eq_true]
          · have y3 : mny (Int32.ofNat x) ≤ mny (Int32.ofNat v) := Int32.not_lt.mp y2
            rw [if_neg (show ¬ (v &&& w = 0 ∧ (∀ x', some x = some x' → mny (Int32.ofNat v) < mny (Int32.ofNat x'))) from fun w => y2 (w.2 x rfl))]
            simp (disch := omega) only [z, cv, y1, ↓gbd_h (c_mny _), c_mny _, oI, y3, pq_lit, pq_add, pq_le, pq_lt, pq_eq, pq_en, pq_ne, pq_nle, pq_nlt, pq_len, pq_ltn, pB_z, pB_o, mzt_0, mzt_1, mzt_B, ↓gbd_s, gbd_s, ↓gnn_s, ↓grf_s, eq_self, ↓reduceIte, Nat.reduceEqDiff, Nat.reduceLeDiff, Nat.reduceLT, Nat.reduceMul, Nat.reduceAdd, not_true_eq_false, not_false_eq_true, Bool.false_eq_true]
      · rw [if_neg (show ¬ (v &&& w = 0 ∧ (∀ x, best = some x → mny (Int32.ofNat v) < mny (Int32.ofNat x))) from fun w => y1 w.1)]
        simp (disch := omega) only [z, cv, y1, pq_lit, pq_add, pq_le, pq_lt, pq_eq, pq_en, pq_ne, pq_nle, pq_nlt, pq_len, pq_ltn, pB_z, pB_o, mzt_0, mzt_1, mzt_B, ↓gbd_s, gbd_s, ↓gnn_s, ↓grf_s, eq_self, ↓reduceIte, Nat.reduceEqDiff, Nat.reduceLeDiff, Nat.reduceLT, Nat.reduceMul, Nat.reduceAdd, not_true_eq_false, not_false_eq_true, Bool.false_eq_true]
    rw [st]
    show ∃ S', Ext S S' ∧ _ ∧ _ ∧ _ = spR b A S' (spF s p l n w k (v + 1) (spSt s p l n w best v))
    by_cases y : v &&& w = 0 ∧ (∀ x, best = some x → mny (Int32.ofNat v) < mny (Int32.ofNat x))
    · rw [if_pos y, ev]
      have e9 : (if (fewS s (hm s p) (spW s p ||| Int32.ofNat v) (s (108 + p)) (s (114 + p)) (s (94 + hm s p)) l n 0 6).isSome = true then Int32.ofNat v else oI best) = oI (spSt s p l n w best v) := by
        unfold spSt
        by_cases y2 : (fewS s (hm s p) (spW s p ||| Int32.ofNat v) (s (108 + p)) (s (114 + p)) (s (94 + hm s p)) l n 0 6).isSome = true
        · rw [if_pos y2, if_pos ⟨y.1, y.2, y2⟩]
          rfl
        · rw [if_neg y2, if_neg (fun w => y2 w.2.2)]
      rw [e9]
      obtain ⟨S', j1, j2, j3, j4⟩ := c_spL hE hN hs hp hc hw l n k (v + 1) q S3 (spSt s p l n w best v) hT3 (by rw [s3]; show _ ≤ S.2.1 + 2; omega) (fun x q => by
        unfold spSt at q
        split at q
        · cases q; omega
        · exact hx x q) (by omega) (by omega)
      refine ⟨S', x3.tr j1, ?_, ?_, j4⟩
      · rw [s3] at j2
        simp only [] at j2
        omega
      · rw [s3] at j3
        simp only [] at j3
        omega
    · rw [if_neg y]
      have e9 : spSt s p l n w best v = best := if_neg (fun w => y ⟨w.1, w.2.1⟩)
      rw [e9]
      obtain ⟨S', j1, j2, j3, j4⟩ := c_spL hE hN hs hp hc hw l n k (v + 1) q S best hT hb hx (by omega) (by omega)
      exact ⟨S', j1, by omega, by omega, j4⟩
noncomputable def spM (M : MS) (best : Option Nat) : Option (Int32 × MS) := match best with
  | none => some (-Int32.ofNat 1, M)
  | some w => some (mny (Int32.ofNat w), mF (mF M 38 (Int32.ofNat 1)) 37 (Int32.ofNat w))
theorem m_spL (hN : 3000000 ≤ N) {s : St} {p w : Nat} (hI : IvS s) (hp : p < nP s) (hw : w < 128) (l n : Int32) : ∀ (k v q : Nat) (M : MS) (best : Option Nat), M.2.2.1 6 = s → (∀ x, best = some x → x < 128) → v + k = 2 ^ nL s → k < q → ∃ M', mSm dfw M M' ∧ bX5_spare_47L N q M (Int32.ofNat p) l n (Int32.ofNat w) (oI best) (Int32.ofNat v) = spM M' (spF s p l n w k v best)
  | k, v, 0, M, best, _, _, _, h => by omega
  | 0, v, q + 1, M, best, h6, hx, hk, _ => by
    have h7 := hI.l7
    have p7 : 2 ^ nL s ≤ 2 ^ 7 := Nat.pow_le_pow_right (by omega) h7
    have e1 : Int32.ofNat 1 <<< (Int32.ofNat (nL s) &&& Int32.ofNat 31) = Int32.ofNat (2 ^ nL s) := p1_n (nL s) (by omega)
    have z : 2 ^ nL s ≤ v := by omega
    refine ⟨M, mSm.rf, ?_⟩
    simp only [bX5_spare_47L, bX5_spare_47, pq_lit]
    cases best with
    | none => simp (disch := omega) only [↓mrd_n, mrd_n, h6, hI.c0, e1, z, oI, spF, spM, eq_self, ↓reduceIte, Nat.reduceEqDiff, Nat.reduceLeDiff, Nat.reduceLT, Nat.reduceMul, Nat.reduceAdd, not_true_eq_false, not_false_eq_true, Bool.false_eq_true, pq_lit, pq_add, pq_le, pq_lt, pq_eq, pq_en, pq_ne, pq_nle, pq_nlt, pq_len, pq_ltn, pB_z, pB_o, mzt_0, mzt_1, mzt_B, ↓mbd_s, mbd_s]
    | some x =>
      have := hx x rfl
      have mb := m_bits (N := N) (S := mF (mF M 38 (Int32.ofNat 1)) 37 (Int32.ofNat x)) (show 100 ≤ N by omega) (show x < 4096 by omega)
      simp (disch := omega) only [↓mrd_n, mrd_n, h6, hI.c0, e1, z, oI, Nat.zero_le, ↓mpt, ↓mbd_h (mb), mb, spF, spM, eq_self, ↓reduceIte, Nat.reduceEqDiff, Nat.reduceLeDiff, Nat.reduceLT, Nat.reduceMul, Nat.reduceAdd, not_true_eq_false, not_false_eq_true, Bool.false_eq_true, pq_lit, pq_add, pq_le, pq_lt, pq_eq, pq_en, pq_ne, pq_nle, pq_nlt, pq_len, pq_ltn, pB_z, pB_o, mzt_0, mzt_1, mzt_B, ↓mbd_s, mbd_s]
  | k + 1, v, q + 1, M, best, h6, hx, hk, hq => by
    have h7 := hI.l7
    have p7 : 2 ^ nL s ≤ 2 ^ 7 := Nat.pow_le_pow_right (by omega) h7
    have e1 : Int32.ofNat 1 <<< (Int32.ofNat (nL s) &&& Int32.ofNat 31) = Int32.ofNat (2 ^ nL s) := p1_n (nL s) (by omega)
    have z : ¬ 2 ^ nL s ≤ v := by omega
    have vwe : Int32.ofNat v &&& Int32.ofNat w = Int32.ofNat (v &&& w) := and_n
    have vw : v &&& w < 128 := Nat.lt_of_le_of_lt Nat.and_le_right hw
    obtain ⟨M1, m1, mf⟩ := m_few (N := N) hI hN hp l n (Int32.ofNat v) h6
    have ev : ∀ best', bX5_spare_89 N (bX5_spare_47L N q) M (Int32.ofNat p) l n (Int32.ofNat w) best' (Int32.ofNat v) = bX5_spare_47L N q M1 (Int32.ofNat p) l n (Int32.ofNat w) (if (fewS s (hm s p) (spW s p ||| Int32.ofNat v) (s (108 + p)) (s (114 + p)) (s (94 + hm s p)) l n 0 6).isSome = true then Int32.ofNat v else best') (Int32.ofNat (v + 1)) := by
      intro best'
      simp only [bX5_spare_89, bX5_spare_108, pq_lit]
      cases y : fewS s (hm s p) (spW s p ||| Int32.ofNat v) (s (108 + p)) (s (114 + p)) (s (94 + hm s p)) l n 0 6 with
      | some r =>
        rw [y] at mf
        have r5 : ¬ 1000000 ≤ r.1 := by have := mf.2.2.1; omega
        have r6 := mf.2.2.1
        simp (disch := omega) only [↓mbd_h (mf.1), mf.1, r5, Option.isSome_some, eq_self, ↓reduceIte, Nat.reduceEqDiff, Nat.reduceLeDiff, Nat.reduceLT, Nat.reduceMul, Nat.reduceAdd, not_true_eq_false, not_false_eq_true, Bool.false_eq_true, pq_lit, pq_add, pq_le, pq_lt, pq_eq, pq_en, pq_ne, pq_nle, pq_nlt, pq_len, pq_ltn, pB_z, pB_o, mzt_0, mzt_1, mzt_B, ↓mbd_s, mbd_s]
      | none =>
        rw [y] at mf
        simp (disch := omega) only [↓mbd_h (mf), mf, Nat.le_refl, Option.isSome_none, eq_self, ↓reduceIte, Nat.reduceEqDiff, Nat.reduceLeDiff, Nat.reduceLT, Nat.reduceMul, Nat.reduceAdd, not_true_eq_false, not_false_eq_true, Bool.false_eq_true, pq_lit, pq_add, pq_le, pq_lt, pq_eq, pq_en, pq_ne, pq_nle, pq_nlt, pq_len, pq_ltn, pB_z, pB_o, mzt_0, mzt_1, mzt_B, ↓mbd_s, mbd_s]
    have m2 := m_bits (N := N) (S := M) (show 100 ≤ N by omega) (show v < 4096 by omega)
    have st : bX5_spare_47L N (q + 1) M (Int32.ofNat p) l n (Int32.ofNat w) (oI best) (Int32.ofNat v) = if v &&& w = 0 ∧ (∀ x, best = some x → mny (Int32.ofNat v) < mny (Int32.ofNat x)) then bX5_spare_89 N (bX5_spare_47L N q) M (Int32.ofNat p) l n (Int32.ofNat w) (oI best) (Int32.ofNat v) else bX5_spare_47L N q M (Int32.ofNat p) l n (Int32.ofNat w) (oI best) (Int32.ofNat (v + 1)) := by
      simp only [bX5_spare_47L, bX5_spare_47, bX5_spare_108, pq_lit]
      by_cases y1 : v &&& w = 0
      · cases best with
        | none =>
          have oo : oI none < Int32.ofNat 0 := by decide
          rw [if_pos (show v &&& w = 0 ∧ (∀ x, none = some x → mny (Int32.ofNat v) < mny (Int32.ofNat x)) from ⟨y1, by simp⟩)]
          simp (disch := omega) only [↓mrd_n, mrd_n, h6, hI.c0, e1, z, vwe, y1, oo, eq_self, ↓reduceIte, Nat.reduceEqDiff, Nat.reduceLeDiff, Nat.reduceLT, Nat.reduceMul, Nat.reduceAdd, not_true_eq_false, not_false_eq_true, Bool.false_eq_true, pq_lit, pq_add, pq_le, pq_lt, pq_eq, pq_en, pq_ne, pq_nle, pq_nlt, pq_len, pq_ltn, pB_z, pB_o, mzt_0, mzt_1, mzt_B, ↓mbd_s, mbd_s]
        | some x =>
          have := hx x rfl
          have mb := m_bits (N := N) (S := M) (show 100 ≤ N by omega) (show x < 4096 by omega)
          by_cases y2 : mny (Int32.ofNat v) < mny (Int32.ofNat x)
          · rw [if_pos (show v &&& w = 0 ∧ (∀ x', some x = some x' → mny (Int32.ofNat v) < mny (Int32.ofNat x')) from ⟨y1, fun x' q => by cases q; exact y2⟩)]
            simp (disch := omega) only [↓mrd_n, mrd_n, h6, hI.c0, e1, z, vwe, y1, oI, Nat.not_lt_zero, ↓mbd_h (m2), m2, ↓mbd_h (mb), mb, y2, eq_self, ↓reduceIte, Nat.reduceEqDiff, Nat.reduceLeDiff, Nat.reduceLT, Nat.reduceMul, Nat.reduceAdd, not_true_eq_false, not_false_eq_true, Bool.false_eq_true, pq_lit, pq_add, pq_le, pq_lt, pq_eq, pq_en, pq_ne, pq_nle, pq_nlt, pq_len, pq_ltn, pB_z, pB_o, mzt_0, mzt_1, mzt_B, ↓mbd_s, mbd_s]
          · rw [if_neg (show ¬ (v &&& w = 0 ∧ (∀ x', some x = some x' → mny (Int32.ofNat v) < mny (Int32.ofNat x'))) from fun w => y2 (w.2 x rfl))]
            simp (disch := omega) only [↓mrd_n, mrd_n, h6, hI.c0, e1, z, vwe, y1, oI, Nat.not_lt_zero, ↓mbd_h (m2), m2, ↓mbd_h (mb), mb, y2, eq_self, ↓reduceIte, Nat.reduceEqDiff, Nat.reduceLeDiff, Nat.reduceLT, Nat.reduceMul, Nat.reduceAdd, not_true_eq_false, not_false_eq_true, Bool.false_eq_true, pq_lit, pq_add, pq_le, pq_lt, pq_eq, pq_en, pq_ne, pq_nle, pq_nlt, pq_len, pq_ltn, pB_z, pB_o, mzt_0, mzt_1, mzt_B, ↓mbd_s, mbd_s]
      · rw [if_neg (show ¬ (v &&& w = 0 ∧ (∀ x, best = some x → mny (Int32.ofNat v) < mny (Int32.ofNat x))) from fun w => y1 w.1)]
        simp (disch := omega) only [↓mrd_n, mrd_n, h6, hI.c0, e1, z, vwe, y1, eq_self, ↓reduceIte, Nat.reduceEqDiff, Nat.reduceLeDiff, Nat.reduceLT, Nat.reduceMul, Nat.reduceAdd, not_true_eq_false, not_false_eq_true, Bool.false_eq_true, pq_lit, pq_add, pq_le, pq_lt, pq_eq, pq_en, pq_ne, pq_nle, pq_nlt, pq_len, pq_ltn, pB_z, pB_o, mzt_0, mzt_1, mzt_B, ↓mbd_s, mbd_s]
    rw [st]
    show ∃ M', mSm dfw M M' ∧ _ = spM M' (spF s p l n w k (v + 1) (spSt s p l n w best v))
    by_cases y : v &&& w = 0 ∧ (∀ x, best = some x → mny (Int32.ofNat v) < mny (Int32.ofNat x))
    · rw [if_pos y, ev]
      have e9 : (if (fewS s (hm s p) (spW s p ||| Int32.ofNat v) (s (108 + p)) (s (114 + p)) (s (94 + hm s p)) l n 0 6).isSome = true then Int32.ofNat v else oI best) = oI (spSt s p l n w best v) := by
        unfold spSt
        by_cases y2 : (fewS s (hm s p) (spW s p ||| Int32.ofNat v) (s (108 + p)) (s (114 + p)) (s (94 + hm s p)) l n 0 6).isSome = true
        · rw [if_pos y2, if_pos ⟨y.1, y.2, y2⟩]
          rfl
        · rw [if_neg y2, if_neg (fun w => y2 w.2.2)]
      rw [e9]
      obtain ⟨M', j1, j2⟩ := m_spL hN hI hp hw l n k (v + 1) q M1 (spSt s p l n w best v) ((m1.2 6 (by decide)).2.trans h6) (fun x q => by
        unfold spSt at q
        split at q
        · cases q; omega
        · exact hx x q) (by omega) (by omega)
      exact ⟨M', m1.tr j1, j2⟩
    · rw [if_neg y]
      have e9 : spSt s p l n w best v = best := if_neg (fun w => y ⟨w.1, w.2.1⟩)
      rw [e9]
      obtain ⟨M', j1, j2⟩ := m_spL hN hI hp hw l n k (v + 1) q M best h6 hx (by omega) (by omega)
      exact ⟨M', j1, j2⟩
theorem spF_skip (s : St) (p : Nat) (l n : Int32) (w : Nat) : ∀ (k v : Nat) (best : Option Nat), (∀ x, v ≤ x → x < v + k → ¬ x &&& w = 0) → spF s p l n w k v best = best
  | 0, _, _, _ => rfl
  | k + 1, v, best, h => by
    show spF s p l n w k (v + 1) (spSt s p l n w best v) = best
    have e : spSt s p l n w best v = best := if_neg (fun q => h v (by omega) (by omega) q.1)
    rw [e]
    exact spF_skip s p l n w k (v + 1) best (fun x h1 h2 => h x (by omega) (by omega))
theorem spF_add (s : St) (p : Nat) (l n : Int32) (w : Nat) : ∀ (k m v : Nat) (best : Option Nat), spF s p l n w (k + m) v best = spF s p l n w m (v + k) (spF s p l n w k v best)
  | 0, m, v, best => by simp [spF]
  | k + 1, m, v, best => by
    rw [show k + 1 + m = (k + m) + 1 by omega]
    show spF s p l n w (k + m) (v + 1) (spSt s p l n w best v) = spF s p l n w m (v + (k + 1)) (spF s p l n w k (v + 1) (spSt s p l n w best v))
    rw [spF_add s p l n w k m (v + 1), show v + 1 + k = v + (k + 1) by omega]
theorem o_spare (h : Rel E b A S M) (hN : 3000000 ≤ N) (x y z : Int32) : Op E b S 256 1408 (fX1_spare E N (put b A S) b x y z) (fX5_spare N M x y z) := by
  have hh := h
  obtain ⟨r1, r2, ⟨a, d, u, h3, h0, hs, hW, hU⟩, r4⟩ := h
  have hE := r1.1
  have hb := r1.2.1
  have hI := hW.2.2.2.1
  have hB := hW.2.2.2.2.2.2.2.1
  have h6 := hI.p6
  have h7 := hI.l7
  have hI0 : IvS ((mF M 0 (Int32.ofNat 0)).2.2.1 6) := hI
  have hT : TA b S A 0 a d := ⟨by omega, h0, by rw [hs]; exact hW.1, by rw [hs]; exact hI⟩
  have mAsk := m_ask (N := N) (M := M) hI0 x y z
  by_cases e : inN x (nP (M.2.2.1 6)) = true ∧ inN y (nL (M.2.2.1 6)) = true ∧ (Int32.ofNat 0 ≤ z ∧ z ≤ Int32.ofNat 240)
  · have e' := e
    obtain ⟨e1, e2, e3⟩ := e
    obtain ⟨p, hp, rfl⟩ := (inN_i (by omega)).mp e1
    have hl := hI.hl hp
    obtain ⟨v0, v1, v2⟩ := hB.1 (hm (M.2.2.1 6) p) (by omega)
    have ew : spW (M.2.2.1 6) p = Int32.ofNat (v0 ||| 2 ^ hm (M.2.2.1 6) p) := by
      unfold spW
      rw [v2, p1_n _ (by omega), or_n]
    have hw : v0 ||| 2 ^ hm (M.2.2.1 6) p < 128 := Nat.or_lt_two_pow (n := 7) v1 (pw_le (by omega))
    obtain ⟨w, hwd⟩ : ∃ w, w = v0 ||| 2 ^ hm (M.2.2.1 6) p := ⟨_, rfl⟩
    rw [← hwd] at ew hw
    obtain ⟨c1, c2, c3⟩ := can_e (nL (M.2.2.1 6)) (by omega) w hw
    have p7 : 2 ^ nL (M.2.2.1 6) ≤ 2 ^ 7 := Nat.pow_le_pow_right (by omega) h7
    obtain ⟨S', x1, s1, s2, cf⟩ := c_spL (E := E) (N := N) (w := w) hE (by omega) hs hp c2 (fun v hv => can_w (by omega)) y z (canN (nL (M.2.2.1 6)) w + 1) 0 N S none hT hb (by simp) (by omega) (by omega)
    obtain ⟨M1, m1, mf⟩ := m_spL (N := N) hN hI hp hw y z (2 ^ nL (M.2.2.1 6)) 0 N (mF M 0 (Int32.ofNat 0)) none rfl (by simp) (by omega) (by omega)
    have es : spF (M.2.2.1 6) p y z w (2 ^ nL (M.2.2.1 6)) 0 none = spF (M.2.2.1 6) p y z w (canN (nL (M.2.2.1 6)) w + 1) 0 none := by
      rw [show 2 ^ nL (M.2.2.1 6) = (canN (nL (M.2.2.1 6)) w + 1) + (2 ^ nL (M.2.2.1 6) - (canN (nL (M.2.2.1 6)) w + 1)) by omega, spF_add, spF_skip]
      intro v h1 h2 h4
      have h5 := can_w (n := nL (M.2.2.1 6)) (w := w) (v := v) (by omega)
      have h8 : v &&& canN (nL (M.2.2.1 6)) w = v := by rw [h5]; exact h4
      have h9 : v &&& canN (nL (M.2.2.1 6)) w ≤ canN (nL (M.2.2.1 6)) w := Nat.and_le_right
      omega
    rw [es] at mf
    have ms := m_sp (N := N) (S := mF M 0 (Int32.ofNat 0)) hI0 hp
    have ew0 : spW ((mF M 0 (Int32.ofNat 0)).2.2.1 6) p = Int32.ofNat w := ew
    rw [ew0] at ms
    have ch := a_home (E := E) (N := N) (A := A) hW.1 hp
    have ewc : M.2.2.1 6 (101 + hm (M.2.2.1 6) p) ||| Int32.ofNat 1 <<< (Int32.ofNat (hm (M.2.2.1 6) p) &&& Int32.ofNat 31) = Int32.ofNat w := ew
    have cc := Eq.trans (a := fX1_spare E N (put b A S) b (Int32.ofNat p) y z) (by
      simp only [fX1_spare, bX1_spare_0, bX1_spare_7, bX1_spare_21, bX1_spare_24, vInchBorders_canTreat__I_I, bX1_canTreat_0, fX1_canTreat, pq_lit]
      simp (disch := omega) only [↓gbd_h (k_ask h3 hW.1 _ _ _), k_ask h3 hW.1 _ _ _, e', and_self, ↓f_3, h3, ↓gbd_h (ch), ch, hI.ho hp, ↓f_cls, ↓gbd_h (k_lands h3 hW.1), k_lands h3 hW.1, ↓f_4, ↓t_33, t_33, ↓t_g2, t_g2, hs, ewc, c1, pq_lit, pq_add, pq_le, pq_lt, pq_eq, pq_en, pq_ne, pq_nle, pq_nlt, pq_len, pq_ltn, pB_z, pB_o, mzt_0, mzt_1, mzt_B, ↓gbd_s, gbd_s, ↓gnn_s, ↓grf_s, eq_self, ↓reduceIte, Nat.reduceEqDiff, Nat.reduceLeDiff, Nat.reduceLT, Nat.reduceMul, Nat.reduceAdd, not_true_eq_false, not_false_eq_true, Bool.false_eq_true]
      rfl) cf
    have mm := Eq.trans (a := fX5_spare N M (Int32.ofNat p) y z) (by
      simp only [fX5_spare, bX5_spare_0, bX5_spare_32, pq_lit, mpt]
      rw [mAsk (fun _ S_11 => mbd (fX5_sparedIn N S_11 (Int32.ofNat p)) fun r_14 S_15 => bX5_spare_47L N N S_15 (Int32.ofNat p) y z r_14 (-Int32.ofNat 1) (Int32.ofNat 0)) (fun S_3 => some (-Int32.ofNat 1, S_3)), if_pos e', ms, mbd_s]
      rfl) mf
    have sm : mSm [0, 24, 25, 26, 27, 28, 29, 30] M M1 := ((mSm.rf (ks := [0, 24, 25, 26, 27, 28, 29, 30])).mF _ (by decide)).tr (m1.su (by decide))
    cases q : spF (M.2.2.1 6) p y z w (canN (nL (M.2.2.1 6)) w + 1) 0 none with
    | none =>
      rw [q] at cc mm
      exact ⟨_, A, S', M1, cc, mm, (hh.ext x1).mm sm (by decide), by omega, by omega⟩
    | some v =>
      rw [q] at cc mm
      have sm2 : mSm [0, 24, 25, 26, 27, 28, 29, 30, 37, 38] M (mF (mF M1 38 (Int32.ofNat 1)) 37 (Int32.ofNat v)) := ((sm.su (by decide)).mF _ (by decide)).mF _ (by decide)
      refine ⟨_, _, S', _, cc, mm, hh.ch x1 sm2 (by decide) rfl rfl rfl ⟨rfl, rfl⟩ rfl (fun _ _ => rfl) (Or.inl ⟨by decide, rfl⟩) (r4.ch x1 sm2 (Or.inl ⟨by decide, by decide, rfl, rfl⟩) (Or.inl ⟨by decide, by decide, by decide, rfl, rfl, rfl⟩) (Or.inr (Or.inr ⟨rfl, rfl⟩)) (Or.inl ⟨by decide, by decide, rfl, rfl⟩) (Or.inl ⟨by decide, by decide, rfl⟩) (Or.inl ⟨by decide, by decide, rfl⟩) (Or.inl ⟨by decide, by decide, rfl⟩) ⟨by decide, by decide, fun _ => rfl, rfl, rfl⟩), by omega, by omega⟩
  · refine ⟨-Int32.ofNat 1, A, S, mF M 0 (Int32.ofNat 0), ?_, ?_, hh.m0 _, Nat.le_add_right _ _, Nat.le_add_right _ _⟩
    · simp only [fX1_spare, bX1_spare_0, bX1_spare_7, pq_lit]
      simp (disch := omega) only [↓gbd_h (k_ask h3 hW.1 _ _ _), k_ask h3 hW.1 _ _ _, e, pq_lit, pq_add, pq_le, pq_lt, pq_eq, pq_en, pq_ne, pq_nle, pq_nlt, pq_len, pq_ltn, pB_z, pB_o, mzt_0, mzt_1, mzt_B, ↓gbd_s, gbd_s, ↓gnn_s, ↓grf_s, eq_self, ↓reduceIte, Nat.reduceEqDiff, Nat.reduceLeDiff, Nat.reduceLT, Nat.reduceMul, Nat.reduceAdd, not_true_eq_false, not_false_eq_true, Bool.false_eq_true]
    · simp only [fX5_spare, bX5_spare_0, bX5_spare_32, pq_lit, mpt]
      rw [mAsk (fun _ S_11 => _) (fun S_3 => some (-Int32.ofNat 1, S_3)), if_neg e]
end OL
