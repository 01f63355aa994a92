/-! a number's digits -/
def dwr (f : Nat → Int32) (k : Nat) (L : List Nat) : Nat → Int32 := fun i => if k ≤ i ∧ i < k + L.length then Int32.ofNat (L.getD (i - k) 0) else f i
theorem dwr_1 (f : Nat → Int32) (k x : Nat) : dwr f k [x] = upd f k (Int32.ofNat x) := by
  funext i
  unfold dwr upd
  simp only [List.length_cons, List.length_nil]
  by_cases e : i = k
  · subst e; rw [if_pos (by omega), if_pos rfl, Nat.sub_self]; rfl
  · rw [if_neg (by omega), if_neg e]
theorem dwr_2 (f : Nat → Int32) (k x y : Nat) : dwr f k [x, y] = upd (upd f (k + 1) (Int32.ofNat y)) k (Int32.ofNat x) := by
  funext i
  unfold dwr upd
  simp only [List.length_cons, List.length_nil]
  by_cases e : i = k
  · subst e; rw [if_pos (by omega), if_pos rfl, Nat.sub_self]; rfl
  · rw [if_neg e]
    by_cases e2 : i = k + 1
    · subst e2; rw [if_pos (by omega), if_pos rfl, Nat.add_sub_cancel_left]; rfl
    · rw [if_neg (by omega), if_neg e2]
theorem dwr_3 (f : Nat → Int32) (k x y z : Nat) : dwr f k [x, y, z] = upd (upd (upd f (k + 2) (Int32.ofNat z)) (k + 1) (Int32.ofNat y)) k (Int32.ofNat x) := by
  funext i
  unfold dwr upd
  simp only [List.length_cons, List.length_nil]
  by_cases e : i = k
  · subst e; rw [if_pos (by omega), if_pos rfl, Nat.sub_self]; rfl
  · rw [if_neg e]
    by_cases e2 : i = k + 1
    · subst e2; rw [if_pos (by omega), if_pos rfl, Nat.add_sub_cancel_left]; rfl
    · rw [if_neg e2]
      by_cases e3 : i = k + 2
      · subst e3; rw [if_pos (by omega), if_pos rfl, Nat.add_sub_cancel_left]; rfl
      · rw [if_neg (by omega), if_neg e3]
section PD
variable {E : gE} {N b : Nat} {A : FA} {S S0 : GS} {M : MS} {q cap v : Nat} {w u : List Nat}
theorem c_gch (hN : 1000 ≤ N) {n k : Nat} {f : Nat → Int32} (hn : n < 1000) (kok : KOk E b S0) (x0 : Ext S0 S) (hv : S0.2.1 ≤ v) (cv : Cel b S v (.inl (0, cap, .inl f))) (hc : cap ≤ 1000) (hk : k + (dec n).length ≤ cap) : fJ17_getChars E N (put b A S) (Int32.ofNat n) (Int32.ofNat (k + (dec n).length)) (some v) = some (Int32.ofNat k, put b A (gup S v (.inl (0, cap, .inl (dwr f k (dec n)))))) := by
  obtain ⟨hE, hb, -, -, ⟨z4, f4, e4, c4, d4⟩, ⟨z5, f5, e5, c5, d5⟩⟩ := kok
  have hEv : E.1 ≤ v := by omega
  have h4 : z4 < S0.2.1 := c4.2.2
  have h5 : z5 < S0.2.1 := c5.2.2
  have i4 : ∀ (g : Nat → Int32) {i : Nat} (hi : i < 100) {β : Type} (K : Int32 → Option β), gai 0 (put b A (gup S v (.inl (0, cap, .inl g)))) (some z4) (Int32.ofNat i) K = K (Int32.ofNat (48 + i % 10)) := fun g i hi β K => by
    rw [gai_at (((c4.ext x0).uo (by omega) _).at A) hi (by omega), d4 i hi]
  have i5 : ∀ (g : Nat → Int32) {i : Nat} (hi : i < 100) {β : Type} (K : Int32 → Option β), gai 0 (put b A (gup S v (.inl (0, cap, .inl g)))) (some z5) (Int32.ofNat i) K = K (Int32.ofNat (48 + i / 10)) := fun g i hi β K => by
    rw [gai_at (((c5.ext x0).uo (by omega) _).at A) hi (by omega), d5 i hi]
  have wv : ∀ (g : Nat → Int32) {i : Nat} (hi : i < cap) (y : Int32) {β : Type} (K : GS → Option β), gaw 0 E (put b A (gup S v (.inl (0, cap, .inl g)))) (some v) (Int32.ofNat i) y K = K (put b A (gup S v (.inl (0, cap, .inl (upd g i y))))) := fun g i hi y β K => by
    rw [gaw_at ((cv.up _).at A) hi (by omega) hEv, gup_o cv.2.1, gup_gup]
  have es : put b A S = put b A (gup S v (.inl (0, cap, .inl f))) := by rw [gup_i cv.1]
  have n100 : (-100 : Int32) = -Int32.ofNat 100 := by decide
  have n9 : (-9 : Int32) = -Int32.ofNat 9 := by decide
  -- the last of it, for less than a hundred
  have last : ∀ (g : Nat → Int32) (n k m : Nat), n < 100 → k + (dec n).length ≤ cap → bJ17_getChars_22L E N (m + 1) (put b A (gup S v (.inl (0, cap, .inl g)))) (-Int32.ofNat n) (some v) (Int32.ofNat (k + (dec n).length)) (Int32.ofNat 0) = some (Int32.ofNat k, put b A (gup S v (.inl (0, cap, .inl (dwr g k (dec n)))))) := by
    intro g n k m hn hk
    obtain ⟨-, -, -, a4, a5, -, -, a8⟩ := ng_a n (by omega)
    unfold dec at hk ⊢
    simp only [bJ17_getChars_22L, bJ17_getChars_22, bJ17_getChars_104, bJ17_getChars_118, n100, n9, pq_lit]
    by_cases y : n < 10
    · rw [if_pos y] at hk ⊢
      simp only [List.length_cons, List.length_nil] at hk ⊢
      have y9 : n ≤ 9 := by omega
      have d1 := dn_s (k + (0 + 1)) (by omega)
      rw [show k + (0 + 1) - 1 = k by omega] at d1
      have b1 := by_c (48 + n % 10) (by omega)
      have m1 : n % 10 = n := by omega
      rw [m1] at b1
      rw [dwr_1]
      simp (disch := omega) only [a4, hn, a8, e4, ↓i4, d1, m1, b1, ↓wv, a5, y9, pq_lit, pq_add, pq_le, pq_lt, pq_eq, pq_en, pq_ne, pq_nle, pq_nlt, pq_len, pq_ltn, pB_z, pB_o, mzt_0, mzt_1, mzt_B, ↓gbd_s, gbd_s, ↓gnn_s, ↓grf_s, eq_self, ↓reduceIte, Nat.reduceEqDiff, Nat.reduceLeDiff, Nat.reduceLT, Nat.reduceMul, Nat.reduceAdd, not_true_eq_false, not_false_eq_true, Bool.false_eq_true]
    · rw [if_neg y, if_pos hn] at hk ⊢
      simp only [List.length_cons, List.length_nil] at hk ⊢
      have y9 : ¬ n ≤ 9 := by omega
      have d1 := dn_s (k + (0 + 1 + 1)) (by omega)
      rw [show k + (0 + 1 + 1) - 1 = k + 1 by omega] at d1
      have d2 := dn_s (k + 1) (by omega)
      rw [show k + 1 - 1 = k by omega] at d2
      have b1 := by_c (48 + n % 10) (by omega)
      have b2 := by_c (48 + n / 10) (by omega)
      rw [dwr_2]
      simp (disch := omega) only [a4, hn, a8, e4, e5, ↓i4, ↓i5, d1, d2, b1, b2, ↓wv, a5, y9, pq_lit, pq_add, pq_le, pq_lt, pq_eq, pq_en, pq_ne, pq_nle, pq_nlt, pq_len, pq_ltn, pB_z, pB_o, mzt_0, mzt_1, mzt_B, ↓gbd_s, gbd_s, ↓gnn_s, ↓grf_s, eq_self, ↓reduceIte, Nat.reduceEqDiff, Nat.reduceLeDiff, Nat.reduceLT, Nat.reduceMul, Nat.reduceAdd, not_true_eq_false, not_false_eq_true, Bool.false_eq_true]
  have z : 0 ≤ n := by omega
  have st : fJ17_getChars E N (put b A S) (Int32.ofNat n) (Int32.ofNat (k + (dec n).length)) (some v) = bJ17_getChars_22L E N N (put b A S) (-Int32.ofNat n) (some v) (Int32.ofNat (k + (dec n).length)) (Int32.ofNat 0) := by
    simp only [fJ17_getChars, bJ17_getChars_0, bJ17_getChars_12, pq_lit]
    simp (disch := omega) only [z, pq_lit, pq_add, pq_le, pq_lt, pq_eq, pq_en, pq_ne, pq_nle, pq_nlt, pq_len, pq_ltn, pB_z, pB_o, mzt_0, mzt_1, mzt_B, ↓gbd_s, gbd_s, ↓gnn_s, ↓grf_s, eq_self, ↓reduceIte, Nat.reduceEqDiff, Nat.reduceLeDiff, Nat.reduceLT, Nat.reduceMul, Nat.reduceAdd, not_true_eq_false, not_false_eq_true, Bool.false_eq_true]
  rw [st, es]
  suffices key : ∀ Q, 2 ≤ Q → bJ17_getChars_22L E N Q (put b A (gup S v (.inl (0, cap, .inl f)))) (-Int32.ofNat n) (some v) (Int32.ofNat (k + (dec n).length)) (Int32.ofNat 0) = some (Int32.ofNat k, put b A (gup S v (.inl (0, cap, .inl (dwr f k (dec n)))))) from key N (by omega)
  intro Q hQ
  obtain ⟨m, rfl⟩ : ∃ m, Q = m + 2 := ⟨Q - 2, by omega⟩
  by_cases y : n < 100
  · exact last f n k (m + 1) y hk
  · obtain ⟨-, -, -, a4, a5, a6, a7, a8⟩ := ng_a n hn
    have ed : dec n = [48 + n / 100, 48 + n % 100 / 10, 48 + n % 10] := by unfold dec; rw [if_neg (by omega), if_neg y]
    have a7' : -Int32.ofNat (n / 100) * Int32.ofNat 100 - -Int32.ofNat n = Int32.ofNat (n % 100) := by rw [← a6]; exact a7
    rw [ed] at hk ⊢
    simp only [List.length_cons, List.length_nil] at hk ⊢
    have e1 : dec (n / 100) = [48 + n / 100] := by unfold dec; rw [if_pos (by omega)]
    have la := last (upd (upd f (k + 2) (Int32.ofNat (48 + n % 10))) (k + 1) (Int32.ofNat (48 + n % 100 / 10))) (n / 100) k m (by omega) (by rw [e1]; simp only [List.length_cons, List.length_nil]; omega)
    rw [e1, dwr_1] at la
    simp only [List.length_cons, List.length_nil] at la
    have d1 := dn_s (k + (0 + 1 + 1 + 1)) (by omega)
    rw [show k + (0 + 1 + 1 + 1) - 1 = k + 2 by omega] at d1
    have d2 := dn_s (k + 2) (by omega)
    rw [show k + 2 - 1 = k + (0 + 1) by omega] at d2
    have b1 := by_c (48 + n % 100 % 10) (by omega)
    have m1 : n % 100 % 10 = n % 10 := by omega
    rw [m1] at b1
    have b2 := by_c (48 + n % 100 / 10) (by omega)
    rw [dwr_3]
    conv => lhs; unfold bJ17_getChars_22L
    simp only [bJ17_getChars_22, n100, n9, pq_lit]
    simp (disch := omega) only [a4, y, a7', a6, e4, e5, ↓i4, ↓i5, d1, d2, m1, b1, b2, ↓wv, la, pq_lit, pq_add, pq_le, pq_lt, pq_eq, pq_en, pq_ne, pq_nle, pq_nlt, pq_len, pq_ltn, pB_z, pB_o, mzt_0, mzt_1, mzt_B, ↓gbd_s, gbd_s, ↓gnn_s, ↓grf_s, eq_self, ↓reduceIte, Nat.reduceEqDiff, Nat.reduceLeDiff, Nat.reduceLT, Nat.reduceMul, Nat.reduceAdd, not_true_eq_false, not_false_eq_true, Bool.false_eq_true]
end PD
