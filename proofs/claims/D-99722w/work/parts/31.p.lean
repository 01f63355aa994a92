/-! the face: what is kept, what is done -/
def bi (c i : Nat) : Nat := 2 + (i + c) % 8
theorem bi_lt (c i : Nat) : bi c i < 10 := by unfold bi; omega
theorem bi_ge (c i : Nat) : 2 ≤ bi c i := by unfold bi; omega
theorem va_up_up {α : Type} (f : Nat → α) (k : Nat) (v w : α) : va_up (va_up f k v) k w = va_up f k w := by
  funext j
  unfold va_up
  split <;> rfl
theorem sI_sT_sI (A : FA) (k j : Nat) (v w : Int32) (x : FT) : sI (sT (sI A k v) j x) k w = sI (sT A j x) k w := by
  unfold sI sT
  simp only [va_up_up]
theorem sI_sI (A : FA) (k : Nat) (v w : Int32) : sI (sI A k v) k w = sI A k w := by
  unfold sI
  simp only [va_up_up]
section FS
variable {β : Type} {E : gE} {N b : Nat} {A : FA} {S : GS} {a : Nat} {s : St} {d : AD}
theorem f_c7 : (put b A S).1 (b + 22) = some (.inl (3, 8, .inr (.inr (.inr (.inr (bef b (aC A))))))) := put_m (k := 22) (by unfold isM; omega)
theorem bef_s {c u : Nat} (hu : u < 8) : bef b c u = some (tad b (bi c u)) := if_pos hu
theorem f_b {u : Nat} (hu : u < 8) (K : Option Nat → Option β) : gar (put b A S) (some (b + 22)) (Int32.ofNat u) K = K (some (tad b (bi (aC A) u))) := by
  rw [gar_at f_c7 (And.intro (by omega) (by omega)) hu (by omega), bef_s hu]
theorem gaq_at {E : gE} {S : GS} {q κ n i v ci : Nat} {f : Nat → Option Nat} {fs : List Value} (h : S.1 q = some (.inl (κ, n, .inr (.inr (.inr (.inr f)))))) (hv : S.1 v = some (.inr (ci, fs))) (hm : gmay κ ci = true) (hi : i < n) (hn : n ≤ 65536) (hE : E.1 ≤ q) (K : GS → Option β) : gaq E S (some q) (Int32.ofNat i) (some v) K = K (gup S q (.inl (κ, n, .inr (.inr (.inr (.inr (va_up f i (some v)))))))) := by
  simp only [gaq, garr, gobj, h, hv, hm, hE, and_self, if_true]
  rw [pq_tn (by omega), if_neg]
  rw [show (0 : Int32) = Int32.ofNat 0 from rfl, pq_lt (by omega) (by omega)]; omega
def rotG (b c i : Nat) : Nat → Option Nat := fun k => if k + 1 < i then bef b c (k + 1) else bef b c k
theorem rotG_1 (b c : Nat) : rotG b c 1 = bef b c := by
  funext k
  unfold rotG
  rw [if_neg (by omega)]
theorem rotG_s {b c i : Nat} (hi : 1 ≤ i) : va_up (rotG b c i) (i - 1) (bef b c i) = rotG b c (i + 1) := by
  funext k
  unfold va_up rotG
  by_cases h : k = i - 1
  · rw [if_pos h, if_pos (by omega)]
    congr 1
    omega
  · rw [if_neg h]
    by_cases h2 : k + 1 < i
    · rw [if_pos h2, if_pos (by omega)]
    · rw [if_neg h2, if_neg (by omega)]
theorem rotG_8 (b c : Nat) : va_up (rotG b c 8) 7 (bef b c 0) = bef b (c + 1) := by
  funext k
  unfold va_up rotG bef
  by_cases h : k = 7
  · subst h
    rw [if_pos rfl, if_pos (by omega), if_pos (by omega)]
    congr 3
    omega
  · rw [if_neg h]
    by_cases h2 : k + 1 < 8
    · rw [if_pos h2, if_pos (by omega), if_pos (by omega)]
      congr 4
      omega
    · rw [if_neg h2, if_neg (by omega), if_neg (by omega)]
/-- the face while its row of Times is turned -/
noncomputable def rotS (b : Nat) (A : FA) (S : GS) (i : Nat) : GS := gup (put b A S) (b + 22) (.inl (3, 8, .inr (.inr (.inr (.inr (rotG b (aC A) i))))))
theorem rot_b {i : Nat} : (rotS b A S i).1 b = some (.inr (0, ffs b A)) := by
  show va_up (put b A S).1 (b + 22) _ b = _
  unfold va_up
  rw [if_neg (by omega)]
  exact f_c
theorem rot_t {i j : Nat} (hj : j < 12) : (rotS b A S i).1 (tad b j) = some (.inr (2, tfs (tad b j) (aT A j))) := by
  show va_up (put b A S).1 (b + 22) _ (tad b j) = _
  unfold va_up
  rw [if_neg]
  · exact put_t0 hj
  · unfold tad toff
    split
    · omega
    · split
      · omega
      · split <;> omega
theorem rot_7 {i : Nat} : (rotS b A S i).1 (b + 22) = some (.inl (3, 8, .inr (.inr (.inr (.inr (rotG b (aC A) i)))))) := gup_s _ _ _
theorem f_u7 (c : Nat) : gup (put b A S) (b + 22) (.inl (3, 8, .inr (.inr (.inr (.inr (bef b c)))))) = put b (sC A c) S := by
  refine gup_put (by unfold isM; omega) (fun k' hk' => ?_)
  unfold core
  cases hl : tloc k' with
  | some p =>
    rw [if_neg]
    · rfl
    · intro e
      subst e
      cases hl
  | none =>
    by_cases e : k' = 22
    · subst e
      rw [if_pos rfl]
      rfl
    · rw [if_neg e]
      show fcell b (sC A c) k' = fcell b A k'
      unfold fcell
      split <;> first | rfl | omega
theorem c_rotL (hE : E.1 ≤ b) : ∀ (k i n : Nat), 1 ≤ i → i + k = 8 → k < n → bX1_snap_18L E N b n (rotS b A S i) (bef b (aC A) 0) (Int32.ofNat i) = gpv E (put b (sC A (aC A + 1)) S) (some b) 8 (.int (aI A 8 - Int32.ofNat 1)) (fun S_8 => bX1_snap_62 E N b S_8)
  | k, i, 0, _, _, h => by omega
  | 0, i, n + 1, h0, h, _ => by
    have e : i = 8 := by omega
    subst e
    simp (disch := omega) only [bX1_snap_18L, bX1_snap_18, pq_lit, pq_add, pq_le, pq_lt, pq_eq, pq_en, pq_ne, pq_nle, pq_nlt, pq_len, pq_ltn, pB_z, pB_o, mzt_0, mzt_1, mzt_B, gbd_s, gnn_s, grf_s, ggr_as (κ := 7) (k := 7) (q := b + 22) rot_b rfl rfl, if_true, Nat.le_refl, bef_s (b := b) (c := aC A) (u := 0) (by omega)]
    rw [gaq_at rot_7 (rot_t (show bi (aC A) 0 < 12 by have := bi_lt (aC A) 0; omega)) rfl (by omega) (by omega) (by omega)]
    unfold rotS
    rw [gup_gup, ← bef_s (b := b) (c := aC A) (u := 0) (by omega), rotG_8, f_u7, f_8]
    rfl
  | k + 1, i, n + 1, h0, h, hk => by
    have ih := c_rotL hE k (i + 1) n (by omega) (by omega) (by omega)
    have hb := bi_lt (aC A) i
    have e1 : rotG b (aC A) i i = some (tad b (bi (aC A) i)) := by
      unfold rotG
      rw [if_neg (by omega)]
      exact bef_s (by omega)
    simp (disch := omega) only [bX1_snap_18L, bX1_snap_18, pq_lit, pq_add, pq_le, pq_lt, pq_eq, pq_en, pq_ne, pq_nle, pq_nlt, pq_len, pq_ltn, pB_z, pB_o, mzt_0, mzt_1, mzt_B, gbd_s, gnn_s, grf_s, ggr_as (κ := 7) (k := 7) (q := b + 22) rot_b rfl rfl, pq_sub]
    rw [if_neg (by omega), gar_at rot_7 (And.intro (by omega) (by omega)) (by omega) (by omega), e1]
    rw [gaq_at rot_7 (rot_t (show bi (aC A) i < 12 by omega)) rfl (by omega) (by omega) (by omega)]
    rw [← ih]
    unfold rotS
    rw [gup_gup, ← bef_s (b := b) (c := aC A) (u := i) (by omega), rotG_s h0]
theorem c_asv (hE : E.1 ≤ b) {i j : Nat} (hj : j < 12) (hi : i < 12) (hij : i ≠ j) : vInchBorders_Times_as__LInchBorders_Times__LInchBorders_Times_ E N (put b A S) (some (tad b j)) (some (tad b i)) = some (some (tad b j), put b (sT A j ((aT A i).1, (aT A j).2.1, (aT A i).2.2)) S) := by
  simp only [vInchBorders_Times_as__LInchBorders_Times__LInchBorders_Times_, t_cls hj, if_true, c_as hE hj hi hij]
/-- kept: what is so, in the row's next place -/
def snT (A : FA) (c u : Nat) : FA := sT A (bi c u) ((aT A 0).1, (aT A (bi c u)).2.1, (aT A 0).2.2)
def snA (A : FA) (u : Nat) : FA := if u = 8 then sI (snT (sC A (aC A + 1)) (aC A + 1) 7) 8 (Int32.ofNat 8) else sI (snT A (aC A) u) 8 (Int32.ofNat (u + 1))
theorem c_snap62 (hE : E.1 ≤ b) {u : Nat} (hu : u < 8) (e : aI A 8 = Int32.ofNat u) : bX1_snap_62 E N b (put b A S) = some (Int32.ofNat 0, put b (sI (snT A (aC A) u) 8 (Int32.ofNat (u + 1))) S) := by
  have h1 := bi_lt (aC A) u
  have h2 := bi_ge (aC A) u
  simp (disch := omega) only [bX1_snap_62, f_7, f_8, f_4, f_p8, e, f_b hu, c_asv hE, qIT, pq_lit, pq_add, pq_le, pq_lt, pq_eq, pq_en, pq_ne, pq_nle, pq_nlt, pq_len, pq_ltn, pB_z, pB_o, mzt_0, mzt_1, mzt_B, gbd_s, gnn_s, grf_s]
  rfl
theorem c_snap (hE : E.1 ≤ b) (hN : 100 ≤ N) {u : Nat} (hu : u ≤ 8) (e : aI A 8 = Int32.ofNat u) : vInchBorders_snap___V E N (put b A S) (some b) = some (Int32.ofNat 0, put b (snA A u) S) := by
  simp (disch := omega) only [vInchBorders_snap___V, f_cls, if_true, fX1_snap, bX1_snap_0, f_8, f_7, e, f_b (show 0 < 8 by omega), pq_lit, pq_add, pq_le, pq_lt, pq_eq, pq_en, pq_ne, pq_nle, pq_nlt, pq_len, pq_ltn, pB_z, pB_o, mzt_0, mzt_1, mzt_B, gbd_s, gnn_s, grf_s]
  unfold snA
  by_cases h : u = 8
  · rw [if_pos h, if_pos h]
    have h1 := c_rotL (E := E) (N := N) (b := b) (A := A) (S := S) hE 7 1 N (by omega) (by omega) (by omega)
    have h2 : rotS b A S 1 = put b A S := by
      unfold rotS
      rw [rotG_1]
      exact gup_i f_c7
    rw [h2, bef_s (by omega)] at h1
    rw [h1, e, h, pq_sub (by omega), f_p8 hE]
    rw [c_snap62 hE (u := 7) (by omega) rfl]
    unfold snT
    rw [sI_sT_sI]
    rfl
  · rw [if_neg h, if_neg h]
    exact c_snap62 hE (by omega) e
theorem k_isL (h3 : aR A 3 = some a) (hA : AtD b S a s d) (x : Int32) : vInchBorders_isLand__I_Z E N (put b A S) (some b) x = some (pB (inN x (nL s) = true), put b A S) := by
  simp only [vInchBorders_isLand__I_Z, f_cls, if_true, bX1_isLand_0, fX1_isLand, f_3, h3, vInchBorders_Atlas_isLand__I_Z, a_cls hA, a_isL hA, gbd_s, mzt_B]
theorem k_isP (h3 : aR A 3 = some a) (hA : AtD b S a s d) (x : Int32) : vInchBorders_isPerson__I_Z E N (put b A S) (some b) x = some (pB (inN x (nP s) = true), put b A S) := by
  simp only [vInchBorders_isPerson__I_Z, f_cls, if_true, bX1_isPerson_0, fX1_isPerson, f_3, h3, vInchBorders_Atlas_isPerson__I_Z, a_cls hA, a_isP hA, gbd_s, mzt_B]
theorem k_persons (h3 : aR A 3 = some a) (hA : AtD b S a s d) : vInchBorders_persons___I E N (put b A S) (some b) = some (Int32.ofNat (nP s), put b A S) := by
  simp only [vInchBorders_persons___I, f_cls, if_true, bX1_persons_0, fX1_persons, f_3, h3, a_27 hA, a_sP hA, gbd_s]
theorem k_lands (h3 : aR A 3 = some a) (hA : AtD b S a s d) : vInchBorders_lands___I E N (put b A S) (some b) = some (Int32.ofNat (nL s), put b A S) := by
  simp only [vInchBorders_lands___I, f_cls, if_true, bX1_lands_0, fX1_lands, f_3, h3, a_25 hA, a_sL hA, gbd_s]
/-- the trial begins as it is now -/
def tryA (A : FA) : FA := sT A 1 ((aT A 0).1, (aT A 1).2.1, (aT A 0).2.2)
theorem try_TA (h : TA b S A 0 a d) : TA b S (tryA A) 1 a d := by
  refine ⟨by omega, ?_, ?_, ?_⟩
  · unfold tryA; rw [aT_sT]; exact h.2.1
  · unfold tS tryA; rw [aT_sT]; exact h.2.2.1
  · unfold tS tryA; rw [aT_sT]; exact h.2.2.2
theorem try_tS : tS (tryA A) 1 = tS A 0 := by unfold tS tryA; rw [aT_sT]
/-- done: kept, then what the trial has come to -/
def doA (A : FA) (u : Nat) (s : St) : FA := sT (snA (sS (tryA A) 1 s) u) 0 ((aT A 0).1, (aT A 0).2.1, s)
theorem c_does (h : TA b S A 0 a d) (hE : E.1 ≤ b) (hN : 1000 ≤ N) (hD : IvD (tS A 0)) {u : Nat} (hu : u ≤ 8) (e : aI A 8 = Int32.ofNat u) {q k x y n : Nat} (hq : ActAt b S q k x y n) (ho : ActOk (tS A 0) k x y n) : vInchBorders_does__LInchBorders_Act__I E N (put b A S) (some b) (some q) = if actN (tS A 0) k x y n = 0 then some (Int32.ofNat 0, put b (doA A u (actS (tS A 0) k x y n)) S) else some (Int32.ofNat (actN (tS A 0) k x y n), put b (tryA A) S) := by
  have h1 := c_act (try_TA h) hE hN (by rw [try_tS]; exact hD) hq (by rw [try_tS]; exact ho)
  rw [try_tS] at h1
  have h2 := actN_le (tS A 0) (x := x) (y := y) (n := n) ho.1
  have hk := ho.1
  simp (disch := omega) only [vInchBorders_does__LInchBorders_Act__I, f_cls, if_true, bX1_does_0, fX1_does, f_4, f_5, c_asv hE, gbd_s]
  rw [show put b (sT A 1 ((aT A 0).1, (aT A 1).2.1, (aT A 0).2.2)) S = put b (tryA A) S from rfl, h1]
  simp (disch := omega) only [gbd_s, pq_lit, pq_add, pq_le, pq_lt, pq_eq, pq_en, pq_ne, pq_nle, pq_nlt, pq_len, pq_ltn, pB_z, pB_o, mzt_0, mzt_1, mzt_B, gbd_s, gnn_s, grf_s, totN, actF]
  by_cases q0 : actN (tS A 0) k x y n = 0
  · rw [if_pos (by rw [if_pos q0]), if_pos q0, if_pos q0]
    rw [c_snap hE (by omega) hu (show aI (sS (tryA A) 1 (actS (tS A 0) k x y n)) 8 = Int32.ofNat u from e)]
    simp (disch := omega) only [gbd_s, f_4, f_5, c_asv hE]
    congr 2
    unfold doA
    congr 2
    have e0 : aT (snA (sS (tryA A) 1 (actS (tS A 0) k x y n)) u) 1 = ((aT A 0).1, (aT A 1).2.1, actS (tS A 0) k x y n) := by
      unfold snA snT
      have b1 := fun c i => bi_ge c i
      split
      · show aT (sT _ _ _) 1 = _
        rw [aT_sTo _ _ (by have := b1 (aC (sS (tryA A) 1 (actS (tS A 0) k x y n)) + 1) 7; omega)]
        show aT (sS (tryA A) 1 _) 1 = _
        rw [aT_sS]
        unfold tryA
        rw [aT_sT]
      · show aT (sT _ _ _) 1 = _
        rw [aT_sTo _ _ (by have := b1 (aC (sS (tryA A) 1 (actS (tS A 0) k x y n))) u; omega)]
        rw [aT_sS]
        unfold tryA
        rw [aT_sT]
    have e1 : aT (snA (sS (tryA A) 1 (actS (tS A 0) k x y n)) u) 0 = aT A 0 := by
      unfold snA snT
      have b1 := fun c i => bi_ge c i
      split
      · show aT (sT _ _ _) 0 = _
        rw [aT_sTo _ _ (by have := b1 (aC (sS (tryA A) 1 (actS (tS A 0) k x y n)) + 1) 7; omega)]
        rfl
      · show aT (sT _ _ _) 0 = _
        rw [aT_sTo _ _ (by have := b1 (aC (sS (tryA A) 1 (actS (tS A 0) k x y n))) u; omega)]
        rfl
    rw [e0, e1]
  · have e9 : ¬ Int32.ofNat (if actN (tS A 0) k x y n = 0 then 0 else 10 * k + actN (tS A 0) k x y n) = Int32.ofNat 0 := by
      rw [if_neg q0, pq_eq (by omega) (by omega)]
      omega
    have e8 : sS (tryA A) 1 (tS A 0) = tryA A := by
      have := sS_id (tryA A) 1
      rw [show (aT (tryA A) 1).2.2 = tS A 0 from try_tS] at this
      exact this
    rw [if_neg e9, if_neg q0, if_neg q0, if_neg q0, e8]
    rw [pq_rem (by omega) (by omega)]
    congr 3
    omega
end FS
