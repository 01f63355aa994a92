/-! part: which lands are reached -/
noncomputable def ea (s : St) (r : Nat) : Nat := (s (24 + r)).toNatClampNeg
noncomputable def eb (s : St) (r : Nat) : Nat := (s (36 + r)).toNatClampNeg
noncomputable def rdS (s : St) (w z r : Nat) : Nat := if w.testBit r = false ∧ (z.testBit (ea s r) = true ∨ z.testBit (eb s r) = true) then z ||| (2 ^ ea s r ||| 2 ^ eb s r) else z
noncomputable def rdF (s : St) (w : Nat) : Nat → Nat → Nat → Nat
  | 0, _, z => z
  | k + 1, r, z => rdF s w k (r + 1) (rdS s w z r)
noncomputable def rpF (s : St) (w : Nat) : Nat → Nat → Nat
  | 0, z => z
  | k + 1, z => rpF s w k (rdF s w (nR s) 0 z)
def Ends (s : St) : Prop := nL s ≤ 7 ∧ nR s ≤ 12 ∧ ∀ r, r < nR s → s (24 + r) = Int32.ofNat (ea s r) ∧ ea s r < nL s ∧ s (36 + r) = Int32.ofNat (eb s r) ∧ eb s r < nL s
theorem IvA.ends {s : St} (h : IvA s) : Ends s := by
  obtain ⟨hI, hD, hZ, hC, hB, hM⟩ := h
  have h7 := hI.l7
  have h12 := hI.r12
  refine ⟨h7, h12, fun r hr => ?_⟩
  obtain ⟨x, y, h1, h2, h3, h4⟩ := hM.2 r hr (by omega)
  have e1 : ea s r = x := by unfold ea; rw [h3, pq_tn (by omega)]
  have e2 : eb s r = y := by unfold eb; rw [h4, pq_tn (by omega)]
  rw [e1, e2]
  exact ⟨h3, h1, h4, h2⟩
theorem rdS_lt {s : St} {w z r n : Nat} (ha : ea s r < n) (hb : eb s r < n) (hz : z < 2 ^ n) : rdS s w z r < 2 ^ n := by
  unfold rdS
  split
  · exact Nat.or_lt_two_pow hz (Nat.or_lt_two_pow (Nat.pow_lt_pow_right (by omega) ha) (Nat.pow_lt_pow_right (by omega) hb))
  · exact hz
theorem rdF_lt {s : St} (h : Ends s) {w : Nat} : ∀ (k r z : Nat), r + k = nR s → z < 2 ^ nL s → rdF s w k r z < 2 ^ nL s
  | 0, _, _, _, hz => hz
  | k + 1, r, z, hk, hz => rdF_lt h k (r + 1) _ (by omega) (rdS_lt (h.2.2 r (by omega)).2.1 (h.2.2 r (by omega)).2.2.2 hz)
theorem rdS_in {s : St} {w z r i : Nat} (h : z.testBit i = true) : (rdS s w z r).testBit i = true := by
  unfold rdS
  split
  · rw [Nat.testBit_or, h, Bool.true_or]
  · exact h
theorem rdF_in {s : St} {w i : Nat} : ∀ (k r z : Nat), z.testBit i = true → (rdF s w k r z).testBit i = true
  | 0, _, _, h => h
  | k + 1, r, z, h => rdF_in k (r + 1) _ (rdS_in h)
theorem pcn_le : ∀ (n a b : Nat), (∀ i, i < n → a.testBit i = true → b.testBit i = true) → pcn n a ≤ pcn n b
  | 0, _, _, _ => Nat.le_refl _
  | n + 1, a, b, h => by
    have ih := pcn_le n a b (fun i hi => h i (by omega))
    have h1 := h n (by omega)
    unfold pcn
    cases q : a.testBit n
    · simp; omega
    · simp [h1 q]; omega
theorem pcn_eq : ∀ (n a b : Nat), (∀ i, i < n → a.testBit i = true → b.testBit i = true) → pcn n b ≤ pcn n a → ∀ i, i < n → a.testBit i = b.testBit i
  | 0, _, _, _, _, i, hi => by omega
  | n + 1, a, b, h, hp, i, hi => by
    have ih := pcn_le n a b (fun i hi => h i (by omega))
    have h1 := h n (by omega)
    unfold pcn at hp
    have key : pcn n b ≤ pcn n a ∧ a.testBit n = b.testBit n := by
      cases q : a.testBit n <;> cases q2 : b.testBit n <;> simp_all <;> omega
    by_cases e : i = n
    · rw [e]; exact key.2
    · exact pcn_eq n a b (fun i hi => h i (by omega)) key.1 i (by omega)
theorem pcn_max : ∀ (n a : Nat), pcn n a ≤ n
  | 0, _ => Nat.le_refl _
  | n + 1, a => by
    have ih := pcn_max n a
    unfold pcn
    split <;> omega
theorem pcn_pos : ∀ (n a i : Nat), i < n → a.testBit i = true → 1 ≤ pcn n a
  | 0, _, _, h, _ => by omega
  | n + 1, a, i, hi, h => by
    unfold pcn
    by_cases e : i = n
    · rw [← e, h]; simp
    · have := pcn_pos n a i (by omega) h
      omega
theorem bits_eq {n a b : Nat} (ha : a < 2 ^ n) (hb : b < 2 ^ n) (h : ∀ i, i < n → a.testBit i = b.testBit i) : a = b := by
  apply Nat.eq_of_testBit_eq
  intro i
  by_cases hi : i < n
  · exact h i hi
  · rw [Nat.testBit_lt_two_pow (Nat.lt_of_lt_of_le ha (Nat.pow_le_pow_right (by omega) (by omega))), Nat.testBit_lt_two_pow (Nat.lt_of_lt_of_le hb (Nat.pow_le_pow_right (by omega) (by omega)))]
theorem rpF_add {s : St} {w : Nat} : ∀ (j k z : Nat), rpF s w (j + k) z = rpF s w k (rpF s w j z)
  | 0, k, z => by rw [Nat.zero_add]; rfl
  | j + 1, k, z => by
    rw [show j + 1 + k = (j + k) + 1 by omega]
    exact rpF_add j k _
theorem rpF_fix {s : St} {w z : Nat} (h : rdF s w (nR s) 0 z = z) : ∀ k, rpF s w k z = z
  | 0 => rfl
  | k + 1 => by
    show rpF s w k (rdF s w (nR s) 0 z) = z
    rw [h, rpF_fix h k]
theorem rpF_lt {s : St} (h : Ends s) {w : Nat} : ∀ (k z : Nat), z < 2 ^ nL s → rpF s w k z < 2 ^ nL s
  | 0, _, hz => hz
  | k + 1, z, hz => rpF_lt h k _ (rdF_lt h _ 0 z (by omega) hz)
theorem rp_grow {s : St} (h : Ends s) {w z : Nat} (hz : z < 2 ^ nL s) (h1 : 1 ≤ pcn (nL s) z) : ∀ k, rdF s w (nR s) 0 (rpF s w k z) = rpF s w k z ∨ k + 1 ≤ pcn (nL s) (rpF s w k z)
  | 0 => Or.inr h1
  | k + 1 => by
    have e : rpF s w (k + 1) z = rdF s w (nR s) 0 (rpF s w k z) := rpF_add k 1 z
    rcases rp_grow h hz h1 k with q | q
    · rw [e, q]; exact Or.inl q
    · by_cases f : rdF s w (nR s) 0 (rpF s w k z) = rpF s w k z
      · rw [e, f]; exact Or.inl f
      · right
        rw [e]
        have hl := rpF_lt h (w := w) k z hz
        by_cases g : pcn (nL s) (rdF s w (nR s) 0 (rpF s w k z)) ≤ pcn (nL s) (rpF s w k z)
        · exact absurd (bits_eq hl (rdF_lt h _ 0 _ (by omega) hl) (pcn_eq _ _ _ (fun i _ hi => rdF_in _ _ _ hi) g)).symm f
        · omega
theorem rp_7 {s : St} (h : Ends s) {w x : Nat} (hx : x < nL s) : rpF s w 7 (2 ^ x) = rpF s w (nL s) (2 ^ x) := by
  have h7 := h.1
  have hz : 2 ^ x < 2 ^ nL s := Nat.pow_lt_pow_right (by omega) hx
  have h1 : 1 ≤ pcn (nL s) (2 ^ x) := pcn_pos _ _ x hx (by rw [Nat.testBit_two_pow]; simp)
  have m := pcn_max (nL s) (rpF s w (nL s) (2 ^ x))
  rcases rp_grow h (w := w) hz h1 (nL s) with q | q
  · rw [show 7 = nL s + (7 - nL s) by omega, rpF_add, rpF_fix q]
  · omega
/-! the least set of roads -/
noncomputable def prt (s : St) (x y w : Nat) : Bool := !(rpF s w 7 (2 ^ x)).testBit y
noncomputable def ptC (s : St) (x y c : Nat) (best : Option Nat) (v : Nat) : Option Nat := if v &&& c = 0 ∧ (∀ b, best = some b → pcn 12 v < pcn 12 b) ∧ prt s x y (v ||| c) = true then some v else best
noncomputable def ptM (s : St) (x y c : Nat) (best : Nat) (v : Nat) : Nat := if v &&& c = 0 ∧ pcn 12 v < pcn 12 best ∧ prt s x y (v ||| c) = true then v else best
noncomputable def ptCF (s : St) (x y c : Nat) : Nat → Nat → Option Nat → Option Nat
  | 0, _, b => b
  | k + 1, v, b => ptCF s x y c k (v + 1) (ptC s x y c b v)
noncomputable def ptMF (s : St) (x y c : Nat) : Nat → Nat → Nat → Nat
  | 0, _, b => b
  | k + 1, v, b => ptMF s x y c k (v + 1) (ptM s x y c b v)
theorem rdF_all {s : St} {w : Nat} (hw : ∀ r, r < nR s → w.testBit r = true) : ∀ (k r z : Nat), r + k = nR s → rdF s w k r z = z
  | 0, _, _, _ => rfl
  | k + 1, r, z, hk => by
    have e : rdS s w z r = z := by
      unfold rdS
      rw [if_neg (by rw [hw r (by omega)]; simp)]
    unfold rdF
    rw [e]
    exact rdF_all hw k (r + 1) z (by omega)
theorem canN_bit {n c i : Nat} (hi : i < n) : (canN n c).testBit i = !c.testBit i := by
  unfold canN
  rw [Nat.testBit_xor, Nat.testBit_and, Nat.testBit_two_pow_sub_one]
  simp [hi]
theorem prt_F {s : St} {x y c : Nat} (hxy : x ≠ y) : prt s x y (canN (nR s) c ||| c) = true := by
  unfold prt
  rw [rpF_fix (rdF_all (fun r hr => by rw [Nat.testBit_or, canN_bit hr]; cases c.testBit r <;> rfl) _ 0 _ (by omega)), Nat.testBit_two_pow]
  simp [hxy]
theorem pt_same {s : St} {x y c : Nat} (hxy : x ≠ y) (h12 : nR s ≤ 12) (hF : canN (nR s) c < 2 ^ nR s) : ∀ (k v : Nat) (cb : Option Nat) (mb : Nat), v + k = 2 ^ nR s → (cb = none ∧ mb = canN (nR s) c ∧ v ≤ canN (nR s) c) ∨ cb = some mb → ptCF s x y c k v cb = some (ptMF s x y c k v mb)
  | 0, v, cb, mb, hk, h => by
    rcases h with ⟨_, _, h3⟩ | h
    · omega
    · rw [h]; rfl
  | k + 1, v, cb, mb, hk, h => by
    refine pt_same hxy h12 hF k (v + 1) _ _ (by omega) ?_
    rcases h with ⟨h1, h2, h3⟩ | h
    · subst h1 h2
      by_cases e : v = canN (nR s) c
      · right
        have e1 : v &&& c = 0 := by
          rw [← can_w (n := nR s) (by omega), ← e, Nat.and_self]
        unfold ptC ptM
        rw [if_pos ⟨e1, by simp, by rw [e]; exact prt_F hxy⟩, if_neg (by rw [e]; omega), e]
      · by_cases e1 : v &&& c = 0
        · have sb := (can_w (n := nR s) (v := v) (w := c) (by omega)).symm ▸ e1
          have sub : ∀ i, i < 12 → v.testBit i = true → (canN (nR s) c).testBit i = true := by
            intro i _ hi
            rw [← sb, Nat.testBit_and] at hi
            simp at hi
            exact hi.2
          have lt : pcn 12 v < pcn 12 (canN (nR s) c) := by
            apply Nat.lt_of_not_le
            intro g
            have p12 : 2 ^ nR s ≤ 2 ^ 12 := Nat.pow_le_pow_right (by omega) h12
            exact e (bits_eq (n := 12) (by omega) (by omega) (pcn_eq 12 _ _ sub g))
          unfold ptC ptM
          by_cases g : prt s x y (v ||| c) = true
          · rw [if_pos ⟨e1, by simp, g⟩, if_pos ⟨e1, lt, g⟩]
            exact Or.inr rfl
          · rw [if_neg (fun w => g w.2.2), if_neg (fun w => g w.2.2)]
            exact Or.inl ⟨rfl, rfl, by omega⟩
        · unfold ptC ptM
          rw [if_neg (fun w => e1 w.1), if_neg (fun w => e1 w.1)]
          exact Or.inl ⟨rfl, rfl, by omega⟩
    · right
      subst h
      unfold ptC ptM
      by_cases g : v &&& c = 0 ∧ pcn 12 v < pcn 12 mb ∧ prt s x y (v ||| c) = true
      · rw [if_pos g, if_pos ⟨g.1, fun b hb => by cases hb; exact g.2.1, g.2.2⟩]
      · rw [if_neg g, if_neg (fun w => g ⟨w.1, w.2.1 mb rfl, w.2.2⟩)]
