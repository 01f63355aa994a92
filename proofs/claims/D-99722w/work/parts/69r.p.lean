/-! is it a name: a word that isn't one of the language's own -/
def mtc (L u : List Nat) (i : Nat) : Bool := decide (u = (L.drop i).take u.length)
def ixf (L u : List Nat) : Nat → Nat → Option Nat
  | 0, _ => none
  | k + 1, i => if mtc L u i = true then some i else ixf L u k (i + 1)
theorem ixf_n {L u : List Nat} : ∀ (k i : Nat), ixf L u k i = none ↔ ∀ j, i ≤ j → j < i + k → mtc L u j = false
  | 0, i => ⟨fun _ j h1 h2 => by omega, fun _ => rfl⟩
  | k + 1, i => by
    unfold ixf
    by_cases e : mtc L u i = true
    · rw [if_pos e]
      constructor
      · intro h; cases h
      · intro h
        have := h i (Nat.le_refl _) (by omega)
        rw [e] at this; cases this
    · rw [if_neg e, ixf_n k (i + 1)]
      have e' : mtc L u i = false := by cases h : mtc L u i <;> simp_all
      constructor
      · intro h j h1 h2
        by_cases ej : j = i
        · rw [ej]; exact e'
        · exact h j (by omega) (by omega)
      · intro h j h1 h2
        exact h j (by omega) (by omega)
section RH
variable {E : gE} {N b : Nat} {A : FA} {S : GS} {M : MS} {v vu : Nat} {L u : List Nat} {f g : Nat → Int32}
theorem mtc_s {i j : Nat} (hj : j < u.length) (hi : i + u.length ≤ L.length) (hm : u.take j = (L.drop i).take j) : (L[i + j]'(by omega) = u[j]) ↔ u.take (j + 1) = (L.drop i).take (j + 1) := by
  have h1 : j < (L.drop i).length := by rw [List.length_drop]; omega
  rw [List.take_succ_eq_append_getElem hj, List.take_succ_eq_append_getElem h1, hm, List.append_cancel_left_eq, List.cons.injEq]
  rw [List.getElem_drop]
  exact ⟨fun h => ⟨h.symm, rfl⟩, fun h => h.1.symm⟩
theorem i_76 (hv : Cel b S v (.inl (0, L.length, .inl f))) (hu : Cel b S vu (.inl (0, u.length, .inl g))) (lL : L.length ≤ 1000) (hL : ∀ c, c ∈ L → c < 128) (h8 : ∀ c, c ∈ u → c < 128) (hf : ∀ i c, L[i]? = some c → f i = Int32.ofNat c) (hg : ∀ i c, u[i]? = some c → g i = Int32.ofNat c) {K14 : GS → (Option Nat) → (Option Nat) → Int32 → Int32 → Int32 → Int32 → Option (Int32 × GS)} {x5 x6 : Int32} {i : Nat} (hi : i + u.length ≤ L.length) : ∀ (k j m : Nat), j + k = u.length → u.take j = (L.drop i).take j → k < m → bJ12_indexOf_2_76L E N K14 m (put b A S) (some v) (some vu) (Int32.ofNat u.length) x5 x6 (Int32.ofNat i) (Int32.ofNat (i + j)) (Int32.ofNat (i + u.length)) (Int32.ofNat j) = if mtc L u i = true then some (Int32.ofNat i, put b A S) else K14 (put b A S) (some v) (some vu) (Int32.ofNat u.length) x5 x6 (Int32.ofNat (i + 1))
  | k, j, 0, h1, hm, h2 => by omega
  | 0, j, m + 1, h1, hm, h2 => by
    have ej : j = u.length := by omega
    have e : mtc L u i = true := decide_eq_true (by rw [ej, List.take_length] at hm; exact hm)
    have e1 : i + u.length ≤ i + j := by omega
    rw [if_pos e, ej]
    simp only [bJ12_indexOf_2_76L, bJ12_indexOf_2_76, bJ12_indexOf_2_103, pq_lit]
    simp (disch := omega) only [Nat.le_refl, pq_lit, pq_add, pq_le, pq_lt, pq_eq, pq_en, pq_ne, pq_nle, pq_nlt, pq_len, pq_ltn, pB_z, pB_o, mzt_0, mzt_1, mzt_B, ↓gbd_s, gbd_s, ↓gnn_s, ↓grf_s, eq_self, ↓reduceIte, Nat.reduceEqDiff, Nat.reduceLeDiff, Nat.reduceLT, Nat.reduceMul, Nat.reduceAdd, not_true_eq_false, not_false_eq_true, Bool.false_eq_true]
  | k + 1, j, m + 1, h1, hm, h2 => by
    have hju : j < u.length := by omega
    have hiL : i + j < L.length := by omega
    have rg : ∀ {β : Type} (K : Int32 → Option β), gai 0 (put b A S) (some v) (Int32.ofNat (i + j)) K = K (f (i + j)) := fun K => gai_at (hv.at A) hiL (by omega) K
    have rg' : ∀ {β : Type} (K : Int32 → Option β), gai 0 (put b A S) (some vu) (Int32.ofNat j) K = K (g j) := fun K => gai_at (hu.at A) hju (by omega) K
    have k1 := hf (i + j) _ (List.getElem?_eq_getElem hiL)
    have k2 := hg j _ (List.getElem?_eq_getElem hju)
    have l1 := hL _ (List.getElem_mem hiL)
    have l2 := h8 _ (List.getElem_mem hju)
    have ms := mtc_s hju hi hm
    have e1 : ¬ i + u.length ≤ i + j := by omega
    by_cases e : L[i + j] = u[j]
    · have ih := i_76 hv hu lL hL h8 hf hg (K14 := K14) (x5 := x5) (x6 := x6) hi k (j + 1) m (by omega) (ms.mp e) (by omega)
      rw [← ih]
      rw [e] at k1
      simp only [bJ12_indexOf_2_76L, bJ12_indexOf_2_76, pq_lit]
      simp (disch := omega) only [e1, ↓rg, ↓rg', k1, k2, Nat.add_assoc, pq_lit, pq_add, pq_le, pq_lt, pq_eq, pq_en, pq_ne, pq_nle, pq_nlt, pq_len, pq_ltn, pB_z, pB_o, mzt_0, mzt_1, mzt_B, ↓gbd_s, gbd_s, ↓gnn_s, ↓grf_s, eq_self, ↓reduceIte, Nat.reduceEqDiff, Nat.reduceLeDiff, Nat.reduceLT, Nat.reduceMul, Nat.reduceAdd, not_true_eq_false, not_false_eq_true, Bool.false_eq_true]
    · have em : ¬ mtc L u i = true := by
        intro h
        have hx := of_decide_eq_true h
        refine e (ms.mpr ?_)
        have := congrArg (List.take (j + 1)) hx
        rw [List.take_take, show min (j + 1) u.length = j + 1 by omega] at this
        exact this
      have e2 : ¬ i + j = i + u.length := by omega
      rw [if_neg em]
      simp only [bJ12_indexOf_2_76L, bJ12_indexOf_2_76, bJ12_indexOf_2_103, bJ12_indexOf_2_113, pq_lit]
      simp (disch := omega) only [e1, ↓rg, ↓rg', k1, k2, e, e2, pq_lit, pq_add, pq_le, pq_lt, pq_eq, pq_en, pq_ne, pq_nle, pq_nlt, pq_len, pq_ltn, pB_z, pB_o, mzt_0, mzt_1, mzt_B, ↓gbd_s, gbd_s, ↓gnn_s, ↓grf_s, eq_self, ↓reduceIte, Nat.reduceEqDiff, Nat.reduceLeDiff, Nat.reduceLT, Nat.reduceMul, Nat.reduceAdd, not_true_eq_false, not_false_eq_true, Bool.false_eq_true]
theorem i_52 (hN : 2000 ≤ N) (hv : Cel b S v (.inl (0, L.length, .inl f))) (hu : Cel b S vu (.inl (0, u.length, .inl g))) (lL : L.length ≤ 1000) (hL : ∀ c, c ∈ L → c < 128) (h8 : ∀ c, c ∈ u → c < 128) (hf : ∀ i c, L[i]? = some c → f i = Int32.ofNat c) (hg : ∀ i c, u[i]? = some c → g i = Int32.ofNat c) {K14 : GS → (Option Nat) → (Option Nat) → Int32 → Int32 → Int32 → Int32 → Option (Int32 × GS)} {x5 : Int32} {i : Nat} (hi : i + u.length ≤ L.length) (h1 : 1 ≤ u.length) (h0 : L[i]? = u[0]?) : bJ12_indexOf_2_52 E N K14 (put b A S) (some v) (some vu) (Int32.ofNat u.length) x5 (Int32.ofNat (L.length - u.length)) (Int32.ofNat i) = if mtc L u i = true then some (Int32.ofNat i, put b A S) else K14 (put b A S) (some v) (some vu) (Int32.ofNat u.length) x5 (Int32.ofNat (L.length - u.length)) (Int32.ofNat (i + 1)) := by
  have hm : u.take 1 = (L.drop i).take 1 := by
    have hiL : i < L.length := by omega
    have hd : 0 < (L.drop i).length := by rw [List.length_drop]; omega
    rw [List.getElem?_eq_getElem hiL, List.getElem?_eq_getElem (show 0 < u.length by omega)] at h0
    injection h0 with h0
    exact (mtc_s (j := 0) (by omega) hi rfl).mp h0
  rw [← i_76 (E := E) (N := N) hv hu lL hL h8 hf hg hi (u.length - 1) 1 N (by omega) hm (by omega)]
  have e1 : ¬ L.length - u.length < i := by omega
  have es : Int32.ofNat (i + 1 + u.length) - Int32.ofNat 1 = Int32.ofNat (i + u.length) := by rw [pq_sub (by omega)]; congr 1; omega
  simp only [bJ12_indexOf_2_52, pq_lit]
  simp (disch := omega) only [e1, es, pq_lit, pq_add, pq_le, pq_lt, pq_eq, pq_en, pq_ne, pq_nle, pq_nlt, pq_len, pq_ltn, pB_z, pB_o, mzt_0, mzt_1, mzt_B, ↓gbd_s, gbd_s, ↓gnn_s, ↓grf_s, eq_self, ↓reduceIte, Nat.reduceEqDiff, Nat.reduceLeDiff, Nat.reduceLT, Nat.reduceMul, Nat.reduceAdd, not_true_eq_false, not_false_eq_true, Bool.false_eq_true]
theorem mtc_h {i : Nat} (hi : i + u.length ≤ L.length) (h1 : 1 ≤ u.length) (h0 : ¬ L[i]? = u[0]?) : mtc L u i = false := by
  cases e : mtc L u i with
  | false => rfl
  | true =>
    exfalso
    apply h0
    have hx := of_decide_eq_true e
    have : u[0]? = ((L.drop i).take u.length)[0]? := by rw [← hx]
    rw [this, List.getElem?_take, if_pos (by omega), List.getElem?_drop, Nat.add_zero]
theorem i_30 (hN : 2000 ≤ N) (hv : Cel b S v (.inl (0, L.length, .inl f))) (hu : Cel b S vu (.inl (0, u.length, .inl g))) (lL : L.length ≤ 1000) (hL : ∀ c, c ∈ L → c < 128) (h8 : ∀ c, c ∈ u → c < 128) (hf : ∀ i c, L[i]? = some c → f i = Int32.ofNat c) (hg : ∀ i c, u[i]? = some c → g i = Int32.ofNat c) (h1 : 1 ≤ u.length) (hl : u.length ≤ L.length) {K14 : GS → (Option Nat) → (Option Nat) → Int32 → Int32 → Int32 → Int32 → Option (Int32 × GS)} : ∀ (k i m : Nat), i + k = L.length - u.length → (∀ j, i < j → j ≤ L.length + 5 → K14 (put b A S) (some v) (some vu) (Int32.ofNat u.length) (g 0) (Int32.ofNat (L.length - u.length)) (Int32.ofNat j) = some (oI (ixf L u (L.length - u.length + 1 - j) j), put b A S)) → k < m → bJ12_indexOf_2_30L E N K14 m (put b A S) (some v) (some vu) (Int32.ofNat u.length) (g 0) (Int32.ofNat (L.length - u.length)) (Int32.ofNat i) = some (oI (ixf L u k (i + 1)), put b A S)
  | k, i, 0, q1, hK, q2 => by omega
  | 0, i, m + 1, q1, hK, q2 => by
    have e1 : L.length - u.length < i + 1 := by omega
    have kk := hK (i + 1 + 1) (by omega) (by omega)
    rw [show L.length - u.length + 1 - (i + 1 + 1) = 0 by omega] at kk
    rw [show ixf L u 0 (i + 1) = ixf L u 0 (i + 1 + 1) from rfl, ← kk]
    simp only [bJ12_indexOf_2_30L, bJ12_indexOf_2_30, bJ12_indexOf_2_52, bJ12_indexOf_2_113, pq_lit]
    simp (disch := omega) only [e1, pq_lit, pq_add, pq_le, pq_lt, pq_eq, pq_en, pq_ne, pq_nle, pq_nlt, pq_len, pq_ltn, pB_z, pB_o, mzt_0, mzt_1, mzt_B, ↓gbd_s, gbd_s, ↓gnn_s, ↓grf_s, eq_self, ↓reduceIte, Nat.reduceEqDiff, Nat.reduceLeDiff, Nat.reduceLT, Nat.reduceMul, Nat.reduceAdd, not_true_eq_false, not_false_eq_true, Bool.false_eq_true]
  | k + 1, i, m + 1, q1, hK, q2 => by
    have e1 : ¬ L.length - u.length < i + 1 := by omega
    have hiL : i + 1 < L.length := by omega
    have rg : ∀ {β : Type} (K : Int32 → Option β), gai 0 (put b A S) (some v) (Int32.ofNat (i + 1)) K = K (f (i + 1)) := fun K => gai_at (hv.at A) hiL (by omega) K
    have k1 := hf (i + 1) _ (List.getElem?_eq_getElem hiL)
    have k2 := hg 0 _ (List.getElem?_eq_getElem (show 0 < u.length by omega))
    have l1 := hL _ (List.getElem_mem hiL)
    have l2 := h8 _ (List.getElem_mem (show 0 < u.length by omega))
    by_cases e : L[i + 1] = u[0]
    · have h0 : L[i + 1]? = u[0]? := by rw [List.getElem?_eq_getElem hiL, List.getElem?_eq_getElem (show 0 < u.length by omega), e]
      have e52 := i_52 (E := E) (N := N) (A := A) (K14 := K14) (x5 := g 0) hN hv hu lL hL h8 hf hg (i := i + 1) (by omega) h1 h0
      have ef : f (i + 1) = g 0 := by rw [k1, k2, e]
      have kk := hK (i + 1 + 1) (by omega) (by omega)
      rw [show L.length - u.length + 1 - (i + 1 + 1) = k by omega] at kk
      have st : bJ12_indexOf_2_30L E N K14 (m + 1) (put b A S) (some v) (some vu) (Int32.ofNat u.length) (g 0) (Int32.ofNat (L.length - u.length)) (Int32.ofNat i) = bJ12_indexOf_2_52 E N K14 (put b A S) (some v) (some vu) (Int32.ofNat u.length) (g 0) (Int32.ofNat (L.length - u.length)) (Int32.ofNat (i + 1)) := by
        simp only [bJ12_indexOf_2_30L, bJ12_indexOf_2_30, pq_lit]
        simp (disch := omega) only [e1, ↓rg, ef, pq_lit, pq_add, pq_le, pq_lt, pq_eq, pq_en, pq_ne, pq_nle, pq_nlt, pq_len, pq_ltn, pB_z, pB_o, mzt_0, mzt_1, mzt_B, ↓gbd_s, gbd_s, ↓gnn_s, ↓grf_s, eq_self, ↓reduceIte, Nat.reduceEqDiff, Nat.reduceLeDiff, Nat.reduceLT, Nat.reduceMul, Nat.reduceAdd, not_true_eq_false, not_false_eq_true, Bool.false_eq_true]
      rw [st, e52, kk]
      show _ = some (oI (if mtc L u (i + 1) = true then some (i + 1) else ixf L u k (i + 1 + 1)), put b A S)
      by_cases em : mtc L u (i + 1) = true
      · rw [if_pos em, if_pos em]; rfl
      · rw [if_neg em, if_neg em]
    · have h0 : ¬ L[i + 1]? = u[0]? := by
        rw [List.getElem?_eq_getElem hiL, List.getElem?_eq_getElem (show 0 < u.length by omega)]
        exact fun q => e (by injection q)
      have em := mtc_h (i := i + 1) (by omega) h1 h0
      have ef : ¬ f (i + 1) = g 0 := by rw [k1, k2, pq_eq (by omega) (by omega)]; exact e
      have ih := i_30 hN hv hu lL hL h8 hf hg h1 hl (K14 := K14) k (i + 1) m (by omega) (fun j hj => hK j (by omega)) (by omega)
      show _ = some (oI (if mtc L u (i + 1) = true then some (i + 1) else ixf L u k (i + 1 + 1)), put b A S)
      rw [em, if_neg (by decide), ← ih]
      simp only [bJ12_indexOf_2_30L, bJ12_indexOf_2_30, pq_lit]
      simp (disch := omega) only [e1, ↓rg, ef, pq_lit, pq_add, pq_le, pq_lt, pq_eq, pq_en, pq_ne, pq_nle, pq_nlt, pq_len, pq_ltn, pB_z, pB_o, mzt_0, mzt_1, mzt_B, ↓gbd_s, gbd_s, ↓gnn_s, ↓grf_s, eq_self, ↓reduceIte, Nat.reduceEqDiff, Nat.reduceLeDiff, Nat.reduceLT, Nat.reduceMul, Nat.reduceAdd, not_true_eq_false, not_false_eq_true, Bool.false_eq_true]
theorem i_14 (hN : 2000 ≤ N) (hv : Cel b S v (.inl (0, L.length, .inl f))) (hu : Cel b S vu (.inl (0, u.length, .inl g))) (lL : L.length ≤ 1000) (hL : ∀ c, c ∈ L → c < 128) (h8 : ∀ c, c ∈ u → c < 128) (hf : ∀ i c, L[i]? = some c → f i = Int32.ofNat c) (hg : ∀ i c, u[i]? = some c → g i = Int32.ofNat c) (h1 : 1 ≤ u.length) (hl : u.length ≤ L.length) : ∀ (m i : Nat), i ≤ L.length + 10 → L.length + 10 < i + m → bJ12_indexOf_2_14L E N m (put b A S) (some v) (some vu) (Int32.ofNat u.length) (g 0) (Int32.ofNat (L.length - u.length)) (Int32.ofNat i) = some (oI (ixf L u (L.length - u.length + 1 - i) i), put b A S)
  | 0, i, q1, q2 => by omega
  | m + 1, i, q1, q2 => by
    by_cases e1 : L.length - u.length < i
    · rw [show L.length - u.length + 1 - i = 0 by omega]
      simp only [bJ12_indexOf_2_14L, bJ12_indexOf_2_14, pq_lit]
      simp (disch := omega) only [e1, ixf, oI, pq_lit, pq_add, pq_le, pq_lt, pq_eq, pq_en, pq_ne, pq_nle, pq_nlt, pq_len, pq_ltn, pB_z, pB_o, mzt_0, mzt_1, mzt_B, ↓gbd_s, gbd_s, ↓gnn_s, ↓grf_s, eq_self, ↓reduceIte, Nat.reduceEqDiff, Nat.reduceLeDiff, Nat.reduceLT, Nat.reduceMul, Nat.reduceAdd, not_true_eq_false, not_false_eq_true, Bool.false_eq_true]
    · have hiL : i < L.length := by omega
      have rg : ∀ {β : Type} (K : Int32 → Option β), gai 0 (put b A S) (some v) (Int32.ofNat i) K = K (f i) := fun K => gai_at (hv.at A) hiL (by omega) K
      have k1 := hf i _ (List.getElem?_eq_getElem hiL)
      have k2 := hg 0 _ (List.getElem?_eq_getElem (show 0 < u.length by omega))
      have l1 := hL _ (List.getElem_mem hiL)
      have l2 := h8 _ (List.getElem_mem (show 0 < u.length by omega))
      have ih : ∀ j, i < j → j ≤ L.length + 5 → bJ12_indexOf_2_14L E N m (put b A S) (some v) (some vu) (Int32.ofNat u.length) (g 0) (Int32.ofNat (L.length - u.length)) (Int32.ofNat j) = some (oI (ixf L u (L.length - u.length + 1 - j) j), put b A S) := fun j h1' h2' => i_14 hN hv hu lL hL h8 hf hg h1 hl m j (by omega) (by omega)
      rw [show L.length - u.length + 1 - i = (L.length - u.length - i) + 1 by omega]
      show _ = some (oI (if mtc L u i = true then some i else ixf L u (L.length - u.length - i) (i + 1)), put b A S)
      by_cases e : L[i] = u[0]
      · have h0 : L[i]? = u[0]? := by rw [List.getElem?_eq_getElem hiL, List.getElem?_eq_getElem (show 0 < u.length by omega), e]
        have e52 := i_52 (E := E) (N := N) (A := A) (K14 := bJ12_indexOf_2_14L E N m) (x5 := g 0) hN hv hu lL hL h8 hf hg (i := i) (by omega) h1 h0
        have ef : f i = g 0 := by rw [k1, k2, e]
        have kk := ih (i + 1) (by omega) (by omega)
        rw [show L.length - u.length + 1 - (i + 1) = L.length - u.length - i by omega] at kk
        have st : bJ12_indexOf_2_14L E N (m + 1) (put b A S) (some v) (some vu) (Int32.ofNat u.length) (g 0) (Int32.ofNat (L.length - u.length)) (Int32.ofNat i) = bJ12_indexOf_2_52 E N (bJ12_indexOf_2_14L E N m) (put b A S) (some v) (some vu) (Int32.ofNat u.length) (g 0) (Int32.ofNat (L.length - u.length)) (Int32.ofNat i) := by
          simp only [bJ12_indexOf_2_14L, bJ12_indexOf_2_14, pq_lit]
          simp (disch := omega) only [e1, ↓rg, ef, pq_lit, pq_add, pq_le, pq_lt, pq_eq, pq_en, pq_ne, pq_nle, pq_nlt, pq_len, pq_ltn, pB_z, pB_o, mzt_0, mzt_1, mzt_B, ↓gbd_s, gbd_s, ↓gnn_s, ↓grf_s, eq_self, ↓reduceIte, Nat.reduceEqDiff, Nat.reduceLeDiff, Nat.reduceLT, Nat.reduceMul, Nat.reduceAdd, not_true_eq_false, not_false_eq_true, Bool.false_eq_true]
        rw [st, e52, kk]
        by_cases em : mtc L u i = true
        · rw [if_pos em, if_pos em]; rfl
        · rw [if_neg em, if_neg em]
      · have h0 : ¬ L[i]? = u[0]? := by
          rw [List.getElem?_eq_getElem hiL, List.getElem?_eq_getElem (show 0 < u.length by omega)]
          exact fun q => e (by injection q)
        have em := mtc_h (i := i) (by omega) h1 h0
        have ef : ¬ f i = g 0 := by rw [k1, k2, pq_eq (by omega) (by omega)]; exact e
        have i3 := i_30 (E := E) (N := N) (A := A) (K14 := bJ12_indexOf_2_14L E N m) hN hv hu lL hL h8 hf hg h1 hl (L.length - u.length - i) i N (by omega) ih (by omega)
        rw [em, if_neg (by decide), ← i3]
        simp only [bJ12_indexOf_2_14L, bJ12_indexOf_2_14, pq_lit]
        simp (disch := omega) only [e1, ↓rg, ef, pq_lit, pq_add, pq_le, pq_lt, pq_eq, pq_en, pq_ne, pq_nle, pq_nlt, pq_len, pq_ltn, pB_z, pB_o, mzt_0, mzt_1, mzt_B, ↓gbd_s, gbd_s, ↓gnn_s, ↓grf_s, eq_self, ↓reduceIte, Nat.reduceEqDiff, Nat.reduceLeDiff, Nat.reduceLT, Nat.reduceMul, Nat.reduceAdd, not_true_eq_false, not_false_eq_true, Bool.false_eq_true]
theorem c_iof {r ru : Nat} (hN : 2000 ≤ N) (h : StrAt b S r L) (hu : StrAt b S ru u) (h1 : 1 ≤ u.length) (hl : u.length ≤ L.length) : vjava_lang_String_indexOf__Ljava_lang_String__I E N (put b A S) (some r) (some ru) = some (oI (ixf L u (L.length - u.length + 1) 0), put b A S) := by
  have cd := c_cod (E := E) (N := N) (A := A) h
  have cdu := c_cod (E := E) (N := N) (A := A) hu
  have la := c_lat (E := E) (N := N) (A := A) h
  obtain ⟨ci, fs, v, f, hci, hc, g1, g2, e1, e2, hv, hL, hw, hf⟩ := h.op
  obtain ⟨ci', fs', v', f', hci', hc', g1', g2', e1', e2', hv', hl', hw', hf'⟩ := hu.op
  have r7 : ∀ {β : Type} (K : Option Nat → Option β), ggr (put b A S) (some r) 117 K = K (some v) := fun K => ggr_as (hc.at A) g1 e1 K
  have r7' : ∀ {β : Type} (K : Option Nat → Option β), ggr (put b A S) (some ru) 117 K = K (some v') := fun K => ggr_as (hc'.at A) g1' e1' K
  have rl : ∀ {β : Type} (K : Int32 → Option β), gal (put b A S) (some v) K = K (Int32.ofNat L.length) := fun K => gal_at (hv.at A) (by omega) K
  have rl' : ∀ {β : Type} (K : Int32 → Option β), gal (put b A S) (some v') K = K (Int32.ofNat u.length) := fun K => gal_at (hv'.at A) (by omega) K
  have rg' : ∀ {β : Type} (K : Int32 → Option β), gai 0 (put b A S) (some v') (Int32.ofNat 0) K = K (f' 0) := fun K => gai_at (hv'.at A) (show 0 < u.length by omega) (by omega) K
  have k14 := i_14 (E := E) (N := N) (A := A) hN hv hv' hL hw hw' hf hf' h1 hl N 0 (by omega) (by omega)
  rw [Nat.sub_zero] at k14
  have z1 : ¬ u.length = 0 := by omega
  have z2 : ¬ L.length = 0 := by omega
  have es : Int32.ofNat L.length - Int32.ofNat u.length = Int32.ofNat (L.length - u.length) := pq_sub hl
  have q12 : fJ12_indexOf E N (put b A S) (some v) (some v') = some (oI (ixf L u (L.length - u.length + 1) 0), put b A S) := by
    rw [← k14]
    simp only [fJ12_indexOf, bJ12_indexOf_0, fJ12_indexOf_2, bJ12_indexOf_2_0, pq_lit]
    simp (disch := omega) only [↓rl', z1, ↓rl, z2, ↓rg', es, k14, pq_lit, pq_add, pq_le, pq_lt, pq_eq, pq_en, pq_ne, pq_nle, pq_nlt, pq_len, pq_ltn, pB_z, pB_o, mzt_0, mzt_1, mzt_B, ↓gbd_s, gbd_s, ↓gnn_s, ↓grf_s, eq_self, ↓reduceIte, Nat.reduceEqDiff, Nat.reduceLeDiff, Nat.reduceLT, Nat.reduceMul, Nat.reduceAdd, not_true_eq_false, not_false_eq_true, Bool.false_eq_true]
  rcases hci with rfl | rfl <;>
  · simp only [vjava_lang_String_indexOf__Ljava_lang_String__I]
    rw [kc hc]
    simp only [fJ8_indexOf, bJ8_indexOf_0, pq_lit]
    simp (disch := omega) only [↓gbd_h (cd), cd, ↓gbd_h (cdu), cdu, ↓gbd_h (la), la, ↓r7, ↓r7', ↓gbd_h (q12), q12, pq_lit, pq_add, pq_le, pq_lt, pq_eq, pq_en, pq_ne, pq_nle, pq_nlt, pq_len, pq_ltn, pB_z, pB_o, mzt_0, mzt_1, mzt_B, ↓gbd_s, gbd_s, ↓gnn_s, ↓grf_s, eq_self, ↓reduceIte, Nat.reduceEqDiff, Nat.reduceLeDiff, Nat.reduceLT, Nat.reduceMul, Nat.reduceAdd, not_true_eq_false, not_false_eq_true, Bool.false_eq_true]
end RH
/-! the language's own words -/
def tknB : List Nat := sBytes " land store road treaty person crosses pact break close open lend day or and not home stuck in of free length taken crossed number "
theorem tkn_1 : resW.all (fun w => (List.range (tknB.length - (w.length + 2) + 1)).any (fun j => mtc tknB ([32] ++ w ++ [32]) j)) = true := by decide +kernel
theorem tkn_2 : (List.range tknB.length).all (fun j => tknB.getD j 0 != 32 || decide (((tknB.drop (j + 1)).takeWhile (fun c => c != 32)) ∈ resW) || decide (((tknB.drop (j + 1)).takeWhile (fun c => c != 32)) = [])) = true := by decide +kernel
theorem tkn_l : tknB.length = 131 := by decide +kernel
theorem res_w : resW.length = 24 ∧ ∀ w, w ∈ resW → Wd w := by
  refine ⟨by decide +kernel, ?_⟩
  have : resW.all (fun w => decide (1 ≤ w.length) && decide (w.length ≤ 7) && w.all (fun c => decide (97 ≤ c ∧ c ≤ 122))) = true := by decide +kernel
  intro w hw
  have h := List.all_eq_true.mp this w hw
  rw [Bool.and_eq_true, Bool.and_eq_true] at h
  exact ⟨of_decide_eq_true h.1.1, of_decide_eq_true h.1.2, fun c hc => of_decide_eq_true (List.all_eq_true.mp h.2 c hc)⟩
theorem tw_a {w r : List Nat} (hw : ∀ c, c ∈ w → c ≠ 32) : (w ++ 32 :: r).takeWhile (fun c => c != 32) = w := by
  induction w with
  | nil => rfl
  | cons x w ih =>
    have hx : (x != 32) = true := by
      have := hw x (List.mem_cons_self)
      simpa using this
    rw [List.cons_append, List.takeWhile_cons, if_pos hx, ih (fun c hc => hw c (List.mem_cons_of_mem _ hc))]
theorem tkn {w : List Nat} (hw : Wd w) : (ixf tknB ([32] ++ w ++ [32]) (tknB.length - ([32] ++ w ++ [32]).length + 1) 0 = none) ↔ w ∉ resW := by
  have hl : ([32] ++ w ++ [32]).length = w.length + 2 := by simp
  rw [ixf_n, hl]
  constructor
  · intro h hm
    have h1 := List.all_eq_true.mp tkn_1 w hm
    rw [List.any_eq_true] at h1
    obtain ⟨j, hj, hj2⟩ := h1
    have hj' := List.mem_range.mp hj
    have := h j (Nat.zero_le _) (by omega)
    rw [this] at hj2
    cases hj2
  · intro h j _ hj
    cases e : mtc tknB ([32] ++ w ++ [32]) j with
    | false => rfl
    | true =>
      exfalso
      have hx := of_decide_eq_true e
      rw [hl] at hx
      obtain ⟨r, hr⟩ : ∃ r, tknB.drop j = [32] ++ w ++ [32] ++ r := by
        refine ⟨(tknB.drop j).drop (w.length + 2), ?_⟩
        rw [hx]
        have := (List.take_append_drop (w.length + 2) (tknB.drop j)).symm
        exact this
      have hjl : j < tknB.length := by rw [tkn_l] at hj ⊢; omega
      have h2 := List.all_eq_true.mp tkn_2 j (List.mem_range.mpr hjl)
      have d1 : tknB.drop j = 32 :: (w ++ 32 :: r) := by rw [hr]; simp
      have d2 : tknB.drop (j + 1) = w ++ 32 :: r := by
        rw [← List.drop_drop, d1]; rfl
      have d3 : tknB.getD j 0 = 32 := by
        have : tknB[j]? = (tknB.drop j)[0]? := by rw [List.getElem?_drop, Nat.add_zero]
        rw [List.getD_eq_getElem?_getD, this, d1]; rfl
      have d4 : (w ++ 32 :: r).takeWhile (fun c => c != 32) = w := tw_a (fun c hc => by have := hw.2.2 c hc; omega)
      rw [d3, d2, d4] at h2
      have hn : w ≠ [] := by intro q; have := hw.1; rw [q] at this; simp at this
      simp [h, hn] at h2
