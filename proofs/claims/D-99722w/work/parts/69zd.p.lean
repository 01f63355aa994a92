/-! a list that grows -/
abbrev rfA (g : Nat → Option Nat) : (Nat → Int32) ⊕ (Nat → Int64) ⊕ (Nat → UInt32) ⊕ (Nat → UInt64) ⊕ (Nat → Option Nat) := .inr (.inr (.inr (.inr g)))
def LsB (E : gE) (b : Nat) (S0 S : GS) (l n : Nat) (f : Nat → Nat) (e : Nat) : Prop := S0.2.1 ≤ l ∧ ∃ mc cap g, Cel b S l (.inr (24, [.int mc, .ref e, .int (Int32.ofNat n)])) ∧ Cel b S e (.inl (2, cap, rfA g)) ∧ n ≤ cap ∧ cap ≤ 100 ∧ (∀ i, i < n → g i = some (f i)) ∧ ((cap = 0 ∧ E.2.2 0 = some e) ∨ (10 ≤ cap ∧ S0.2.1 ≤ e))
theorem LsB.at {E : gE} {b : Nat} {S0 S : GS} {l n : Nat} {f : Nat → Nat} {e : Nat} (h : LsB E b S0 S l n f e) : LsAt b S l n f := by
  obtain ⟨h0, mc, cap, g, h1, h2, h3, h4, h5, h6⟩ := h
  exact ⟨e, mc, cap, g, h1, h2, h3, by omega, h5⟩
theorem LsB.kp {E : gE} {b : Nat} {S0 S S' : GS} {l n : Nat} {f : Nat → Nat} {e : Nat} (h : LsB E b S0 S l n f e) (hl : ∀ c, Cel b S l c → Cel b S' l c) (he : ∀ c, Cel b S e c → Cel b S' e c) : LsB E b S0 S' l n f e := by
  obtain ⟨h0, mc, cap, g, h1, h2, h3⟩ := h
  exact ⟨h0, mc, cap, g, hl _ h1, he _ h2, h3⟩
theorem gcp_r {β : Type} {E : gE} {S : GS} {a0 a n0 n1 n : Nat} {f g : Nat → Option Nat} (h0 : S.1 a0 = some (.inl (2, n0, rfA f))) (h1 : S.1 a = some (.inl (2, n1, rfA g))) (ho : ∀ i, i < n → ∀ q, f i = some q → ∃ o, S.1 q = some (.inr o)) (hE : E.1 ≤ a) (hn0 : n ≤ n0) (hn1 : n ≤ n1) (l0 : n0 ≤ 65536) (l1 : n1 ≤ 65536) (K : GS → Option β) : gcp E S (some a0) (Int32.ofNat 0) (some a) (Int32.ofNat 0) (Int32.ofNat n) K = K (gup S a (.inl (2, n1, rfA (va_cpy f g 0 0 n)))) := by
  have ep : (Int32.ofNat 0).toNatClampNeg = 0 := pq_tn (by omega)
  have en : (Int32.ofNat n).toNatClampNeg = n := pq_tn (by omega)
  have z : ∀ k, k ≤ 65536 → ¬ Int32.ofNat k < 0 := by
    intro k hk
    show ¬ Int32.ofNat k < Int32.ofNat 0
    rw [pq_lt (by omega) (by omega)]; omega
  refine gcp_eq ⟨a0, a, 2, n0, n1, rfA f, rfA g, rfA (va_cpy f g 0 0 n), rfl, rfl, h0, h1, hE, z 0 (by omega), z 0 (by omega), z n (by omega), ?_, ?_, ?_, rfl⟩ K
  · rw [ep, en]; omega
  · rw [ep, en]; omega
  · rw [ep, en]; exact ⟨rfl, fun i hi q hq => ho i hi q (by rw [Nat.zero_add] at hq; exact hq), rfl⟩
theorem ggc_at {β : Type} {E : gE} {S : GS} {a : Nat} {x : vp_A} (h : S.1 a = some (.inl (2, x))) (K : Option Nat → Option β) : ggc E S (some a) K = K (E.2.2 6) := by
  simp only [ggc, garr, h, if_true]
theorem sr_1 : ∀ n, n < 101 → Int32.ofNat n >>> (Int32.ofNat 1 &&& Int32.ofNat 31) = Int32.ofNat (n / 2) := by decide +kernel
section LA
variable {E : gE} {N b : Nat} {A : FA} {S0 S : GS} {l n e : Nat} {f : Nat → Nat}
theorem l_add (hE : E.1 ≤ b) (hb0 : b + 111 ≤ S0.2.1) (h : LsB E b S0 S l n f e) (x0 : S0.2.1 ≤ S.2.1) (hn : n ≤ 45) {v ci : Nat} {fs : List Value} (hv : Cel b S v (.inr (ci, fs))) (hvl : v ≠ l) (hob : ∀ i, i < n → ∃ ci fs, Cel b S (f i) (.inr (ci, fs)) ∧ f i ≠ l) : ∃ S' e', vjava_util_ArrayList_add__Ljava_lang_Object__Z E N (put b A S) (some l) (some v) = some (Int32.ofNat 1, put b A S') ∧ LsB E b S0 S' l (n + 1) (fun i => if i = n then v else f i) e' ∧ ((e' = e ∧ S0.2.1 ≤ e) ∨ e' = S.2.1) ∧ S.2.1 ≤ S'.2.1 ∧ (∀ a, a < S.2.1 → a ≠ l → a ≠ e' → S'.1 a = S.1 a) ∧ S'.2.2.1 ≤ S.2.2.1 + 1 ∧ S'.2.2.2 ≤ S.2.2.2 + 70 := by
  obtain ⟨h0, mc, cap, g, h1, h2, h3, h4, h5, h6⟩ := h
  have hbS : b + 111 ≤ S.2.1 := by omega
  have hg : E.1 ≤ l := by omega
  have hle : l ≠ e := by
    intro q
    subst q
    have := h1.1.symm.trans h2.1
    cases this
  have hl1 : l < S.2.1 := h1.2.2
  have he1 : e < S.2.1 := h2.2.2
  have hv1 : v < S.2.1 := hv.2.2
  obtain ⟨S1, hS1⟩ : ∃ S1, S1 = gup S l (.inr (24, [.int (mc + Int32.ofNat 1), .ref e, .int (Int32.ofNat n)])) := ⟨_, rfl⟩
  have k1 : Cel b S1 l (.inr (24, [.int (mc + Int32.ofNat 1), .ref e, .int (Int32.ofNat n)])) := by rw [hS1]; exact h1.up _
  have k2 : Cel b S1 e (.inl (2, cap, rfA g)) := by rw [hS1]; exact h2.uo (Ne.symm hle) _
  have kv : Cel b S1 v (.inr (ci, fs)) := by rw [hS1]; exact hv.uo hvl _
  have z1 : S1.2 = S.2 := by rw [hS1]; rfl
  have p0 := fun {β : Type} (K : Int32 → Option β) => r24_110 h1 A K
  have p1 := fun {β : Type} (K : GS → Option β) => w24_110 (E := E) h1 hg A (.int (mc + Int32.ofNat 1)) K
  have p2 := fun {β : Type} (K : Option Nat → Option β) => r24_111 k1 A K
  have p3 := fun {β : Type} (K : Int32 → Option β) => r24_112 k1 A K
  have p4 : ∀ {β : Type} (K : Int32 → Option β), gal (put b A S1) (some e) K = K (Int32.ofNat cap) := fun K => gal_at (k2.at A) (by omega) K
  have o1 : ∀ a, a ≠ l → S1.1 a = S.1 a := fun a ha => by rw [hS1]; show va_up S.1 l _ a = _; unfold va_up; rw [if_neg ha]
  -- the write itself
  have tl : ∀ (S2 : GS) (e' cap' : Nat) (g' : Nat → Option Nat) (mc' : Int32), Cel b S2 l (.inr (24, [.int mc', .ref e', .int (Int32.ofNat n)])) → Cel b S2 e' (.inl (2, cap', rfA g')) → Cel b S2 v (.inr (ci, fs)) → n < cap' → cap' ≤ 100 → 10 ≤ cap' → S0.2.1 ≤ e' → (∀ i, i < n → g' i = some (f i)) → ∃ S', bJ2_add_2_11 E N l (put b A S2) (some v) (some e') (Int32.ofNat n) = some (Int32.ofNat 0, put b A S') ∧ LsB E b S0 S' l (n + 1) (fun i => if i = n then v else f i) e' ∧ S'.2 = S2.2 ∧ ∀ a, a ≠ l → a ≠ e' → S'.1 a = S2.1 a := by
    intro S2 e' cap' g' mc' c1 c2 c3 hc hc1 hc10 he' hg'
    have hle' : l ≠ e' := by
      intro q
      subst q
      have := c1.1.symm.trans c2.1
      cases this
    obtain ⟨S3, hS3⟩ : ∃ S3, S3 = gup S2 e' (.inl (2, cap', rfA (va_up g' n (some v)))) := ⟨_, rfl⟩
    have d1 : Cel b S3 l (.inr (24, [.int mc', .ref e', .int (Int32.ofNat n)])) := by rw [hS3]; exact c1.uo hle' _
    have d2 : Cel b S3 e' (.inl (2, cap', rfA (va_up g' n (some v)))) := by rw [hS3]; exact c2.up _
    have gq : ∀ {β : Type} (K : GS → Option β), gaq E (put b A S2) (some e') (Int32.ofNat n) (some v) K = K (put b A S3) := by
      intro β K
      rw [gaq_at (c2.at A) (c3.at A) rfl hc (by omega) (by omega), gup_o c2.2.1, ← hS3]
    refine ⟨gup S3 l (.inr (24, [.int mc', .ref e', .int (Int32.ofNat (n + 1))])), ?_, ⟨h0, mc', cap', va_up g' n (some v), d1.up _, d2.uo (Ne.symm hle') _, by omega, hc1, fun i hi => ?_, Or.inr ⟨hc10, he'⟩⟩, by rw [hS3]; rfl, fun a h1 h2 => ?_⟩
    · simp only [bJ2_add_2_11, pq_lit]
      simp (disch := omega) only [↓gq, ↓w24_112 d1 hg, ↓gbd_s, gbd_s, ↓gbx_s, gbx_s, ↓gnn_s, ↓grf_s, eq_self, ↓reduceIte, Nat.reduceEqDiff, Nat.reduceLeDiff, Nat.reduceLT, Nat.reduceMul, Nat.reduceAdd, not_true_eq_false, not_false_eq_true, Bool.false_eq_true, pq_lit, pq_add, pq_le, pq_lt, pq_eq, pq_en, pq_ne, pq_nle, pq_nlt, pq_len, pq_ltn, pB_z, pB_o, mzt_0, mzt_1, mzt_B]
    · show va_up g' n (some v) i = some (if i = n then v else f i)
      unfold va_up
      by_cases q : i = n
      · rw [if_pos q, if_pos q]
      · rw [if_neg q, if_neg q]; exact hg' i (by omega)
    · show va_up S3.1 l _ a = _
      unfold va_up
      rw [if_neg h1, hS3]
      show va_up S2.1 e' _ a = _
      unfold va_up
      rw [if_neg h2]
  have fin : ∀ S', fJ2_add_2 E N (put b A S1) l (some v) (some e) (Int32.ofNat n) = some (Int32.ofNat 0, put b A S') → vjava_util_ArrayList_add__Ljava_lang_Object__Z E N (put b A S) (some l) (some v) = some (Int32.ofNat 1, put b A S') := by
    intro S' q
    simp only [vjava_util_ArrayList_add__Ljava_lang_Object__Z]
    rw [kc h1]
    have q' : vjava_util_ArrayList_add__Ljava_lang_Object__Ljava_lang_Object_I_V E N (put b A S1) (some l) (some v) (some e) (Int32.ofNat n) = some (Int32.ofNat 0, put b A S') := by
      simp only [vjava_util_ArrayList_add__Ljava_lang_Object__Ljava_lang_Object_I_V]
      rw [kc k1]
      exact q
    simp only [fJ2_add, bJ2_add_0, bJ2_add_23, pq_lit]
    simp (disch := omega) only [↓p0, ↓p1, ← hS1, ↓p2, ↓p3, ↓gbd_h (q'), q', ↓gbd_s, gbd_s, ↓gbx_s, gbx_s, ↓gnn_s, ↓grf_s, eq_self, ↓reduceIte, Nat.reduceEqDiff, Nat.reduceLeDiff, Nat.reduceLT, Nat.reduceMul, Nat.reduceAdd, not_true_eq_false, not_false_eq_true, Bool.false_eq_true, pq_lit, pq_add, pq_le, pq_lt, pq_eq, pq_en, pq_ne, pq_nle, pq_nlt, pq_len, pq_ltn, pB_z, pB_o, mzt_0, mzt_1, mzt_B]
  by_cases hc : n = cap
  · -- it grows
    obtain ⟨C, hC⟩ : ∃ C, C = if cap = 0 then 10 else cap + (if 1 < cap / 2 then cap / 2 else 1) := ⟨_, rfl⟩
    have hCn : n < C ∧ C ≤ 70 ∧ 10 ≤ C := by
      rw [hC]
      by_cases q : cap = 0
      · rw [if_pos q]; omega
      · rw [if_neg q]; split <;> omega
    obtain ⟨S2, hS2⟩ : ∃ S2, S2 = gpush S1 (.inl (2, C, gdfa 2)) C := ⟨_, rfl⟩
    have hb1 : b + 111 ≤ S1.2.1 := by rw [z1]; exact hbS
    have e21 : S1.2.1 = S.2.1 := by rw [z1]
    have x2 : Ext S1 S2 := by rw [hS2]; exact Ext.push _ _ _
    have c2 : Cel b S2 S.2.1 (.inl (2, C, rfA (fun _ => none))) := by rw [hS2, ← e21]; exact Cel.push hb1 _ _
    have z2 : S2.2 = (S.2.1 + 1, S.2.2.1 + 1, S.2.2.2 + C) := by rw [hS2]; show (S1.2.1 + 1, S1.2.2.1 + 1, S1.2.2.2 + C) = _; rw [z1]
    have j1 := k1.ext x2
    have j2 := k2.ext x2
    have jv := kv.ext x2
    obtain ⟨g', hg'⟩ : ∃ g', g' = va_cpy g (fun _ => none) 0 0 cap := ⟨_, rfl⟩
    obtain ⟨S3, hS3⟩ : ∃ S3, S3 = gup S2 S.2.1 (.inl (2, C, rfA g')) := ⟨_, rfl⟩
    have g'i : ∀ i, i < n → g' i = some (f i) := fun i hi => by
      rw [hg']; unfold va_cpy; rw [if_pos (by omega), Nat.zero_add, Nat.sub_zero]; exact h5 i hi
    have c3 : Cel b S3 S.2.1 (.inl (2, C, rfA g')) := by rw [hS3]; exact c2.up _
    have i1 : Cel b S3 l (.inr (24, [.int (mc + Int32.ofNat 1), .ref e, .int (Int32.ofNat n)])) := by rw [hS3]; exact j1.uo (by omega) _
    have iv : Cel b S3 v (.inr (ci, fs)) := by rw [hS3]; exact jv.uo (by omega) _
    obtain ⟨S4, hS4⟩ : ∃ S4, S4 = gup S3 l (.inr (24, [.int (mc + Int32.ofNat 1), .ref S.2.1, .int (Int32.ofNat n)])) := ⟨_, rfl⟩
    have m1 : Cel b S4 l (.inr (24, [.int (mc + Int32.ofNat 1), .ref S.2.1, .int (Int32.ofNat n)])) := by rw [hS4]; exact i1.up _
    have m2 : Cel b S4 S.2.1 (.inl (2, C, rfA g')) := by rw [hS4]; exact c3.uo (by omega) _
    have mv : Cel b S4 v (.inr (ci, fs)) := by rw [hS4]; exact iv.uo hvl _
    have z4 : S4.2 = (S.2.1 + 1, S.2.2.1 + 1, S.2.2.2 + C) := by rw [hS4, hS3]; exact z2
    obtain ⟨S5, w1, w2, w3, w4⟩ := tl S4 S.2.1 C g' _ m1 m2 mv hCn.1 (by omega) hCn.2.2 x0 g'i
    -- growing
    have gr : vjava_util_ArrayList_grow____Ljava_lang_Object_ E N (put b A S1) (some l) = some (some S.2.1, put b A S4) := by
      have g2 : vjava_util_ArrayList_grow__I__Ljava_lang_Object_ E N (put b A S1) (some l) (Int32.ofNat (n + 1)) = some (some S.2.1, put b A S4) := by
        simp only [vjava_util_ArrayList_grow__I__Ljava_lang_Object_]
        rw [kc k1]
        by_cases q : cap = 0
        · rcases h6 with ⟨_, h6⟩ | ⟨h6, _⟩
          · have n0 : n = 0 := by omega
            have C10 : C = 10 := by rw [hC, if_pos q]
            have eg : g' = fun _ => none := by rw [hg', q]; funext i; unfold va_cpy; rw [if_neg (by omega)]
            have e23 : S3 = S2 := by rw [hS3, eg]; exact gup_i c2.1
            have i1' : Cel b S2 l (.inr (24, [.int (mc + Int32.ofNat 1), .ref e, .int (Int32.ofNat n)])) := j1
            have wl := fun {β : Type} (K : GS → Option β) => w24_111 (E := E) i1' hg A (.ref S.2.1) K
            rw [e23] at hS4
            rw [C10] at hS2
            have na := fun {β : Type} (K : Nat → GS → Option β) => gna_n (A := A) hb1 (κ := 2) (n := 10) (by omega) K
            have p4' : ∀ {β : Type} (K : Int32 → Option β), gal (put b A S1) (some e) K = K (Int32.ofNat 0) := fun K => by rw [p4, q]
            have en1 : Int32.ofNat (n + 1) = Int32.ofNat 1 := by rw [n0]
            rw [en1]
            simp only [fJ2_grow_2, bJ2_grow_2_0, bJ2_grow_2_52, bJ2_grow_2_55, pq_lit]
            simp (disch := omega) only [↓p2, ↓p4', Nat.lt_irrefl, h6, ↓na, ← hS2, e21, g_rfs, ↓wl, ← hS4, ↓gbd_s, gbd_s, ↓gbx_s, gbx_s, ↓gnn_s, ↓grf_s, eq_self, ↓reduceIte, Nat.reduceEqDiff, Nat.reduceLeDiff, Nat.reduceLT, Nat.reduceMul, Nat.reduceAdd, not_true_eq_false, not_false_eq_true, Bool.false_eq_true, pq_lit, pq_add, pq_le, pq_lt, pq_eq, pq_en, pq_ne, pq_nle, pq_nlt, pq_len, pq_ltn, pB_z, pB_o, mzt_0, mzt_1, mzt_B]
          · omega
        · have cp : ∀ {β : Type} (K : GS → Option β), gcp E (put b A S2) (some e) (Int32.ofNat 0) (some S.2.1) (Int32.ofNat 0) (Int32.ofNat cap) K = K (put b A S3) := by
            intro β K
            rw [gcp_r (j2.at A) (c2.at A) (fun i hi q' hq' => ?_) (by omega) (by omega) (by omega) (by omega) (by omega), gup_o c2.2.1, ← hg', ← hS3]
            rw [h5 i (by omega)] at hq'
            injection hq' with hq'
            subst hq'
            obtain ⟨ci', fs', hc', hne⟩ := hob i (by omega)
            have : Cel b S1 (f i) (.inr (ci', fs')) := by rw [hS1]; exact hc'.uo hne _
            exact ⟨_, (this.ext x2).at A⟩
          have C' : C = cap + (if 1 < cap / 2 then cap / 2 else 1) := by rw [hC, if_neg q]
          have s1 := sr_1 cap (by omega)
          have es : Int32.ofNat (n + 1) - Int32.ofNat cap = Int32.ofNat 1 := by rw [pq_sub (by omega)]; congr 1; omega
          have ek : (if 1 < cap / 2 then Int32.ofNat (cap / 2) else Int32.ofNat 1) = Int32.ofNat (if 1 < cap / 2 then cap / 2 else 1) := by split <;> rfl
          have nl : fJ10_newLength E N (put b A S1) (Int32.ofNat cap) (Int32.ofNat 1) (Int32.ofNat (cap / 2)) = some (Int32.ofNat C, put b A S1) := by
            have z1 : ¬ C ≤ 0 := by omega
            have z2 : ¬ 2147483639 < C := by omega
            simp only [fJ10_newLength, bJ10_newLength_0, pq_lit]
            simp (disch := omega) only [ek, pq_add, ← C', z1, z2, ↓gbd_s, gbd_s, ↓gbx_s, gbx_s, ↓gnn_s, ↓grf_s, eq_self, ↓reduceIte, Nat.reduceEqDiff, Nat.reduceLeDiff, Nat.reduceLT, Nat.reduceMul, Nat.reduceAdd, not_true_eq_false, not_false_eq_true, Bool.false_eq_true, pq_lit, pq_add, pq_le, pq_lt, pq_eq, pq_en, pq_ne, pq_nle, pq_nlt, pq_len, pq_ltn, pB_z, pB_o, mzt_0, mzt_1, mzt_B]
          have na := fun {β : Type} (K : Nat → GS → Option β) => gna_n (A := A) hb1 (κ := 2) (n := C) (by omega) K
          have gl2 : ∀ {β : Type} (K : Int32 → Option β), gal (put b A S2) (some e) K = K (Int32.ofNat cap) := fun K => gal_at (j2.at A) (by omega) K
          have gc := fun {β : Type} (K : Option Nat → Option β) => ggc_at (E := E) (k2.at A) K
          have z3 : ¬ C < cap := by omega
          have z5 : 0 < cap := by omega
          have co : fJ3_copyOf_2 E N (put b A S1) (some e) (Int32.ofNat C) = some (some S.2.1, put b A S3) := by
            simp only [fJ3_copyOf_2, bJ3_copyOf_2_0, bJ3_copyOf_2_6, bJ3_copyOf_2_9, fJ3_copyOf_3, bJ3_copyOf_3_0, bJ3_copyOf_3_10, bJ3_copyOf_3_35, bJ3_copyOf_3_38, pq_lit]
            simp (disch := omega) only [↓gc, ↓na, ← hS2, e21, ↓gl2, z3, ↓cp, ↓gbd_s, gbd_s, ↓gbx_s, gbx_s, ↓gnn_s, ↓grf_s, eq_self, ↓reduceIte, Nat.reduceEqDiff, Nat.reduceLeDiff, Nat.reduceLT, Nat.reduceMul, Nat.reduceAdd, not_true_eq_false, not_false_eq_true, Bool.false_eq_true, pq_lit, pq_add, pq_le, pq_lt, pq_eq, pq_en, pq_ne, pq_nle, pq_nlt, pq_len, pq_ltn, pB_z, pB_o, mzt_0, mzt_1, mzt_B]
          have wl := fun {β : Type} (K : GS → Option β) => w24_111 (E := E) i1 hg A (.ref S.2.1) K
          simp only [fJ2_grow_2, bJ2_grow_2_0, bJ2_grow_2_20, bJ2_grow_2_30, bJ2_grow_2_40, pq_lit]
          simp (disch := omega) only [↓p2, ↓p4, z5, es, s1, ↓gbd_h (nl), nl, ↓gbd_h (co), co, g_rfs, ↓wl, ← hS4, ↓gbd_s, gbd_s, ↓gbx_s, gbx_s, ↓gnn_s, ↓grf_s, eq_self, ↓reduceIte, Nat.reduceEqDiff, Nat.reduceLeDiff, Nat.reduceLT, Nat.reduceMul, Nat.reduceAdd, not_true_eq_false, not_false_eq_true, Bool.false_eq_true, pq_lit, pq_add, pq_le, pq_lt, pq_eq, pq_en, pq_ne, pq_nle, pq_nlt, pq_len, pq_ltn, pB_z, pB_o, mzt_0, mzt_1, mzt_B]
      simp only [vjava_util_ArrayList_grow____Ljava_lang_Object_]
      rw [kc k1]
      simp only [fJ2_grow, bJ2_grow_0, bJ2_grow_10, pq_lit]
      simp (disch := omega) only [↓p3, ↓gbd_h (g2), g2, ↓gbd_s, gbd_s, ↓gbx_s, gbx_s, ↓gnn_s, ↓grf_s, eq_self, ↓reduceIte, Nat.reduceEqDiff, Nat.reduceLeDiff, Nat.reduceLT, Nat.reduceMul, Nat.reduceAdd, not_true_eq_false, not_false_eq_true, Bool.false_eq_true, pq_lit, pq_add, pq_le, pq_lt, pq_eq, pq_en, pq_ne, pq_nle, pq_nlt, pq_len, pq_ltn, pB_z, pB_o, mzt_0, mzt_1, mzt_B]
    refine ⟨S5, S.2.1, fin S5 ?_, w2, Or.inr rfl, ?_, fun a h1 h2 h3 => ?_, ?_, ?_⟩
    · rw [← w1]
      simp only [fJ2_add_2, bJ2_add_2_0, bJ2_add_2_10, pq_lit]
      simp (disch := omega) only [↓p4, hc, ↓gbd_h (gr), gr, ↓gbd_s, gbd_s, ↓gbx_s, gbx_s, ↓gnn_s, ↓grf_s, eq_self, ↓reduceIte, Nat.reduceEqDiff, Nat.reduceLeDiff, Nat.reduceLT, Nat.reduceMul, Nat.reduceAdd, not_true_eq_false, not_false_eq_true, Bool.false_eq_true, pq_lit, pq_add, pq_le, pq_lt, pq_eq, pq_en, pq_ne, pq_nle, pq_nlt, pq_len, pq_ltn, pB_z, pB_o, mzt_0, mzt_1, mzt_B]
    · rw [w3, z4]; show S.2.1 ≤ S.2.1 + 1; omega
    · rw [w4 a h2 h3, hS4]
      show va_up S3.1 l _ a = _
      unfold va_up
      rw [if_neg h2, hS3]
      show va_up S2.1 S.2.1 _ a = _
      unfold va_up
      rw [if_neg h3, x2.2 a (by rw [e21]; exact h1), o1 a h2]
    · rw [w3, z4]; exact Nat.le_refl _
    · rw [w3, z4]; show S.2.2.2 + C ≤ _; omega
  · have hcap : n < cap := by omega
    have hee : 10 ≤ cap ∧ S0.2.1 ≤ e := by
      rcases h6 with h6 | h6
      · omega
      · exact h6
    obtain ⟨S5, w1, w2, w3, w4⟩ := tl S1 e cap g _ k1 k2 kv hcap h4 hee.1 hee.2 h5
    refine ⟨S5, e, fin S5 ?_, w2, Or.inl ⟨rfl, hee.2⟩, by rw [w3, z1]; exact Nat.le_refl _, fun a h1 h2 h3 => by rw [w4 a h2 h3, o1 a h2], by rw [w3, z1]; omega, by rw [w3, z1]; omega⟩
    rw [← w1]
    simp only [fJ2_add_2, bJ2_add_2_0, pq_lit]
    simp (disch := omega) only [↓p4, hc, ↓gbd_s, gbd_s, ↓gbx_s, gbx_s, ↓gnn_s, ↓grf_s, eq_self, ↓reduceIte, Nat.reduceEqDiff, Nat.reduceLeDiff, Nat.reduceLT, Nat.reduceMul, Nat.reduceAdd, not_true_eq_false, not_false_eq_true, Bool.false_eq_true, pq_lit, pq_add, pq_le, pq_lt, pq_eq, pq_en, pq_ne, pq_nle, pq_nlt, pq_len, pq_ltn, pB_z, pB_o, mzt_0, mzt_1, mzt_B]
end LA
