/-! the tie through calls: what may change freely, what is kept -/
abbrev relK : List Nat := [31, 32, 34, 35, 36, 37, 38, 40, 41, 42, 43, 44, 45, 48, 49, 57, 59, 1, 2, 15, 6, 21, 23]
theorem Rel.mm {E : gE} {b : Nat} {A : FA} {S : GS} {M M' : MS} {ks : List Nat} (h : Rel E b A S M) (hs : mSm ks M M') (hk : ∀ k, k ∈ relK → k ∉ ks) : Rel E b A S M' := by
  obtain ⟨h1, h2, h3, h4⟩ := h
  have i : ∀ k, k ∈ relK → M'.1 k = M.1 k := fun k q => (hs.2 k (hk k q)).1
  have r : ∀ k, k ∈ relK → M'.2.2.1 k = M.2.2.1 k := fun k q => (hs.2 k (hk k q)).2
  refine ⟨h1, ?_, ?_, h4.eq Ext.rf aRst.rf ⟨fun k q => ⟨i k (by revert k; decide), r k (by revert k; decide)⟩, by rw [hs.1], by rw [hs.1]⟩⟩
  · unfold TapR
    rw [r 1 (by decide), i 2 (by decide), i 15 (by decide)]
    exact h2
  · unfold NowR UndR
    rw [r 6 (by decide), hs.1, i 23 (by decide), r 21 (by decide)]
    exact h3
theorem Rel.ext {E : gE} {b : Nat} {A : FA} {S S' : GS} {M : MS} (h : Rel E b A S M) (x : Ext S S') : Rel E b A S' M := by
  obtain ⟨h1, h2, ⟨a, d, u, h3, h4, h5, h6, h7⟩, h8⟩ := h
  exact ⟨h1.ext x, h2, ⟨a, d, u, h3, h4, h5, h6.ext x, h7⟩, h8.eq x aRst.rf ⟨fun _ _ => ⟨rfl, rfl⟩, rfl, rfl⟩⟩
/-- the component's scratch -/
def aScr (A A' : FA) : Prop := aRst A A' ∧ aV A' 0 = aV A 0 ∧ (∀ k, k ∈ [1, 2, 8] → aI A' k = aI A k) ∧ (∀ k, aR A' k = aR A k) ∧ aC A' = aC A ∧ ∀ j, j ≠ 1 → aT A' j = aT A j
theorem Rel.aa {E : gE} {b : Nat} {A A' : FA} {S : GS} {M : MS} (h : Rel E b A S M) (e : aScr A A') : Rel E b A' S M := by
  obtain ⟨h1, h2, ⟨a, d, u, h3, h4, h5, h6, h7⟩, h8⟩ := h
  obtain ⟨e1, e2, e3, e4, e5, e6⟩ := e
  refine ⟨h1, ?_, ⟨a, d, u, ?_, ?_, ?_, ?_, ?_⟩, h8.eq Ext.rf e1 ⟨fun _ _ => ⟨rfl, rfl⟩, rfl, rfl⟩⟩
  · unfold TapR
    rw [e2, e3 1 (by decide), e3 2 (by decide)]
    exact h2
  · rw [e4]; exact h3
  · rw [e6 0 (by omega)]; exact h4
  · unfold tS; rw [e6 0 (by omega)]; exact h5
  · rw [e4]; exact h6
  · obtain ⟨g1, g2, g3, g4⟩ := h7
    refine ⟨g1, by rw [e3 8 (by decide)]; exact g2, g3, fun i hi => ?_⟩
    have b1 := bi_ge (aC A) i
    unfold tS
    rw [e5, e6 _ (by omega)]
    exact g4 i hi
theorem aScr.rf {A : FA} : aScr A A := ⟨aRst.rf, rfl, fun _ _ => rfl, fun _ => rfl, rfl, fun _ _ => rfl⟩
theorem aScr.tr {A A' A'' : FA} (h : aScr A A') (h' : aScr A' A'') : aScr A A'' := by
  obtain ⟨⟨r1, r2, r3, r4, r5, r6⟩, e2, e3, e4, e5, e6⟩ := h
  obtain ⟨⟨r1', r2', r3', r4', r5', r6'⟩, e2', e3', e4', e5', e6'⟩ := h'
  exact ⟨⟨fun k q => (r1' k q).trans (r1 k q), fun k q => (r2' k q).trans (r2 k q), r3'.trans r3, fun k => (r4' k).trans (r4 k), r5'.trans r5, r6'.trans r6⟩, e2'.trans e2, fun k q => (e3' k q).trans (e3 k q), fun k => (e4' k).trans (e4 k), e5'.trans e5, fun j q => (e6' j q).trans (e6 j q)⟩
theorem aScr.t1 {A : FA} (x : FT) : aScr A (sT A 1 x) := ⟨⟨fun _ _ => rfl, fun _ _ => rfl, rfl, fun _ => rfl, aT_sTo _ _ (by omega), aT_sTo _ _ (by omega)⟩, rfl, fun _ _ => rfl, fun _ => rfl, rfl, fun j hj => aT_sTo _ _ hj⟩
theorem aScr.i17 {A : FA} (x : Int32) : aScr A (sI A 17 x) := ⟨⟨fun k hk => if_neg (by rintro rfl; revert hk; decide), fun _ _ => rfl, rfl, fun _ => rfl, rfl, rfl⟩, rfl, fun k hk => if_neg (by rintro rfl; revert hk; decide), fun _ => rfl, rfl, fun _ _ => rfl⟩
theorem aScr.i19 {A : FA} (x : Int32) : aScr A (sI A 19 x) := ⟨⟨fun k hk => if_neg (by rintro rfl; revert hk; decide), fun _ _ => rfl, rfl, fun _ => rfl, rfl, rfl⟩, rfl, fun k hk => if_neg (by rintro rfl; revert hk; decide), fun _ => rfl, rfl, fun _ _ => rfl⟩
theorem aScr.v15 {A : FA} (x : Nat → Int32) : aScr A (sV A 15 x) := ⟨⟨fun _ _ => rfl, fun k hk => if_neg (by rintro rfl; revert hk; decide), rfl, fun _ => rfl, rfl, rfl⟩, rfl, fun _ _ => rfl, fun _ => rfl, rfl, fun _ _ => rfl⟩
theorem bi_ne {c i j : Nat} (hi : i < 8) (hj : j < 8) (h : i ≠ j) : bi c i ≠ bi c j := by unfold bi; omega
theorem bi_s (c i : Nat) : bi (c + 1) i = bi c (i + 1) := by unfold bi; omega
theorem UndR.kp {A A' : FA} {M M' : MS} {a u : Nat} (h : UndR A M a u) (h0 : (aT A 0).1 = some a) (hs : tS A 0 = M.2.2.1 6) (hI : IvA (M.2.2.1 6)) (e8 : aI A' 8 = aI (snA A u) 8) (ec : aC A' = aC (snA A u)) (eT : ∀ j, 2 ≤ j → aT A' j = aT (snA A u) j) (m23 : M'.1 23 = Int32.ofNat (kpN u)) (m21 : M'.2.2.1 21 = kpF (M.2.2.1 21) (M.2.2.1 6) u) (m6 : Sm (M.2.2.1 6) (M'.2.2.1 6)) : UndR A' M' a (kpN u) := by
  obtain ⟨hu, h8, h23, hr⟩ := h
  have hs' : ∀ k, (aT A 0).2.2 k = M.2.2.1 6 k := fun k => congrFun hs k
  by_cases e : u = 8
  · subst e
    have a1 : snA A 8 = sI (snT (sC A (aC A + 1)) (aC A + 1) 7) 8 (Int32.ofNat 8) := if_pos rfl
    have f1 : kpF (M.2.2.1 21) (M.2.2.1 6) 8 = cpF (shF (M.2.2.1 21) 0 329) (M.2.2.1 6) 329 91 47 := if_pos rfl
    have n1 : kpN 8 = 8 := rfl
    rw [n1]
    rw [a1] at e8 ec eT
    rw [f1] at m21
    have ec' : aC A' = aC A + 1 := ec
    refine ⟨by omega, e8.trans rfl, m23, fun i hi => ?_⟩
    rw [ec']
    have b2 := bi_ge (aC A + 1) i
    unfold tS
    rw [eT _ b2, m21]
    by_cases q : i = 7
    · subst q
      have t1 : aT (sI (snT (sC A (aC A + 1)) (aC A + 1) 7) 8 (Int32.ofNat 8)) (bi (aC A + 1) 7) = ((aT A 0).1, (aT A (bi (aC A + 1) 7)).2.1, (aT A 0).2.2) := by
        show aT (sT _ _ _) _ = _
        rw [aT_sT]
        rfl
      rw [t1]
      refine ⟨h0, fun k k1 k2 => ?_, ?_⟩
      · show (aT A 0).2.2 k = _
        rw [hs' k]
        unfold cpF
        rw [if_pos (by omega)]
        exact congrArg (M.2.2.1 6) (by omega)
      · rw [bk_sm m6]
        exact hI
    · have t1 : aT (sI (snT (sC A (aC A + 1)) (aC A + 1) 7) 8 (Int32.ofNat 8)) (bi (aC A + 1) i) = aT A (bi (aC A) (i + 1)) := by
        show aT (sT _ _ _) _ = _
        rw [aT_sTo _ _ (bi_ne (by omega) (by omega) q), bi_s]
        rfl
      rw [t1]
      obtain ⟨g1, g2, g3⟩ := hr (i + 1) (by omega)
      refine ⟨g1, fun k k1 k2 => ?_, ?_⟩
      · have := g2 k k1 k2
        unfold tS at this
        rw [this]
        unfold cpF shF
        rw [if_neg (by omega), if_pos (by omega)]
        exact congrArg (M.2.2.1 21) (by omega)
      · have e9 : bk (M'.2.2.1 6) (cpF (shF (M.2.2.1 21) 0 329) (M.2.2.1 6) 329 91 47) (47 * i) = bk (M.2.2.1 6) (M.2.2.1 21) (47 * (i + 1)) := by
          funext k
          unfold bk cpF shF
          by_cases k1 : 91 ≤ k ∧ k < 91 + 47
          · rw [if_pos k1, if_pos k1, if_neg (by omega), if_pos (by omega)]
            exact congrArg (M.2.2.1 21) (by omega)
          · rw [if_neg k1, if_neg k1]
            exact m6 k (by omega)
        rw [e9]
        exact g3
  · have a1 : snA A u = sI (snT A (aC A) u) 8 (Int32.ofNat (u + 1)) := if_neg e
    have f1 : kpF (M.2.2.1 21) (M.2.2.1 6) u = cpF (M.2.2.1 21) (M.2.2.1 6) (47 * u) 91 47 := if_neg e
    have n1 : kpN u = u + 1 := if_neg e
    rw [n1] at m23
    rw [n1]
    rw [a1] at e8 ec eT
    rw [f1] at m21
    have ec' : aC A' = aC A := ec
    refine ⟨by omega, e8.trans rfl, m23, fun i hi => ?_⟩
    rw [ec']
    have b2 := bi_ge (aC A) i
    unfold tS
    rw [eT _ b2, m21]
    by_cases q : i = u
    · subst q
      have t1 : aT (sI (snT A (aC A) i) 8 (Int32.ofNat (i + 1))) (bi (aC A) i) = ((aT A 0).1, (aT A (bi (aC A) i)).2.1, (aT A 0).2.2) := by
        show aT (sT _ _ _) _ = _
        rw [aT_sT]
      rw [t1]
      refine ⟨h0, fun k k1 k2 => ?_, ?_⟩
      · show (aT A 0).2.2 k = _
        rw [hs' k]
        unfold cpF
        rw [if_pos (by omega)]
        exact congrArg (M.2.2.1 6) (by omega)
      · rw [bk_sm m6]
        exact hI
    · have t1 : aT (sI (snT A (aC A) u) 8 (Int32.ofNat (u + 1))) (bi (aC A) i) = aT A (bi (aC A) i) := by
        show aT (sT _ _ _) _ = _
        rw [aT_sTo _ _ (bi_ne (by omega) (by omega) q)]
      rw [t1]
      obtain ⟨g1, g2, g3⟩ := hr i (by omega)
      refine ⟨g1, fun k k1 k2 => ?_, ?_⟩
      · have := g2 k k1 k2
        unfold tS at this
        rw [this]
        unfold cpF
        rw [if_neg (by omega)]
      · have e9 : bk (M'.2.2.1 6) (cpF (M.2.2.1 21) (M.2.2.1 6) (47 * u) 91 47) (47 * i) = bk (M.2.2.1 6) (M.2.2.1 21) (47 * i) := by
          funext k
          unfold bk cpF
          by_cases k1 : 91 ≤ k ∧ k < 91 + 47
          · rw [if_pos k1, if_pos k1, if_neg (by omega)]
          · rw [if_neg k1, if_neg k1]
            exact m6 k (by omega)
        rw [e9]
        exact g3
/-- kept, and then something else is so -/
theorem Rel.kp {E : gE} {b : Nat} {A A' : FA} {S : GS} {M M' : MS} {ks : List Nat} {a u : Nat} {d : AD} (h : Rel E b A S M) (h3 : aR A 3 = some a) (h0 : (aT A 0).1 = some a) (hs : tS A 0 = M.2.2.1 6) (hW : World b S a (aR A 6) (M.2.2.1 6) (M.2.2.2 9) d) (hU : UndR A M a u) (eA : aRst A A') (eV : aV A' 0 = aV A 0) (eI : aI A' 1 = aI A 1 ∧ aI A' 2 = aI A 2) (eR : ∀ k, aR A' k = aR A k) (e8 : aI A' 8 = aI (snA A u) 8) (ec : aC A' = aC (snA A u)) (eT : ∀ j, 2 ≤ j → aT A' j = aT (snA A u) j) (e0 : (aT A' 0).1 = some a) (es : tS A' 0 = M'.2.2.1 6) (m23 : M'.1 23 = Int32.ofNat (kpN u)) (m21 : M'.2.2.1 21 = kpF (M.2.2.1 21) (M.2.2.1 6) u) (m6 : Sm (M.2.2.1 6) (M'.2.2.1 6)) (i6 : IvA (M'.2.2.1 6)) (hm : mSm ks M M') (hk : ∀ k, k ∈ [31, 32, 34, 35, 36, 37, 38, 40, 41, 42, 43, 44, 45, 48, 49, 57, 59, 1, 2, 15] → k ∉ ks) : Rel E b A' S M' := by
  obtain ⟨h1, h2, -, h4⟩ := h
  have i : ∀ k, k ∈ [31, 32, 34, 35, 36, 37, 38, 40, 41, 42, 43, 44, 45, 48, 49, 57, 59, 1, 2, 15] → M'.1 k = M.1 k := fun k q => (hm.2 k (hk k q)).1
  have r : ∀ k, k ∈ [31, 32, 34, 35, 36, 37, 38, 40, 41, 42, 43, 44, 45, 48, 49, 57, 59, 1, 2, 15] → M'.2.2.1 k = M.2.2.1 k := fun k q => (hm.2 k (hk k q)).2
  refine ⟨h1, ?_, ⟨a, d, kpN u, by rw [eR]; exact h3, e0, es, ?_, hU.kp h0 hs hW.2.2.2 e8 ec eT m23 m21 m6⟩, h4.eq Ext.rf eA ⟨fun k q => ⟨i k (by revert k; decide), r k (by revert k; decide)⟩, by rw [hm.1], by rw [hm.1]⟩⟩
  · unfold TapR
    rw [eV, eI.1, eI.2, r 1 (by decide), i 2 (by decide), i 15 (by decide)]
    exact h2
  · rw [eR, hm.1]
    exact hW.sm m6 i6
def Op (E : gE) (b : Nat) (S : GS) (c t : Nat) (o : Option (Int32 × GS)) (o' : Option (Int32 × MS)) : Prop := ∃ r A' S' M', o = some (r, put b A' S') ∧ o' = some (r, M') ∧ Rel E b A' S' M' ∧ S'.2.2.1 ≤ S.2.2.1 + c ∧ S'.2.2.2 ≤ S.2.2.2 + t
theorem sn_Rst {A : FA} {u : Nat} : aRst A (snA A u) := by
  unfold snA snT
  have b1 := bi_lt (aC A + 1) 7
  have b2 := bi_lt (aC A) u
  split
  · exact ⟨fun k hk => (if_neg (by rintro rfl; revert hk; decide)).trans rfl, fun _ _ => rfl, rfl, fun _ => rfl, (aT_sTo _ _ (by omega)).trans rfl, (aT_sTo _ _ (by omega)).trans rfl⟩
  · exact ⟨fun k hk => (if_neg (by rintro rfl; revert hk; decide)).trans rfl, fun _ _ => rfl, rfl, fun _ => rfl, aT_sTo _ _ (by omega), aT_sTo _ _ (by omega)⟩
theorem sn_I {A : FA} {u k : Nat} (hk : k ≠ 8) : aI (snA A u) k = aI A k := by
  unfold snA
  split
  · exact (if_neg hk).trans rfl
  · exact (if_neg hk).trans rfl
theorem sn_V {A : FA} {u k : Nat} : aV (snA A u) k = aV A k := by
  unfold snA
  split <;> rfl
theorem sn_R {A : FA} {u k : Nat} : aR (snA A u) k = aR A k := by
  unfold snA
  split <;> rfl
theorem sn_T {A : FA} {u j : Nat} (hj : j < 2) : aT (snA A u) j = aT A j := by
  unfold snA snT
  have b1 := bi_ge (aC A + 1) 7
  have b2 := bi_ge (aC A) u
  split
  · exact (aT_sTo _ _ (by omega)).trans rfl
  · exact aT_sTo _ _ (by omega)
