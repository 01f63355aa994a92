/-! the component's go -/
section RC
variable {E : gE} {N b : Nat} {A : FA} {q ci n lim : Nat} {kd fr nu sg : Int32} {wr : Nat} {ex : List Value}
theorem c_skp (hk : RdK ci) (hE : E.1 ≤ q) (hn : n ≤ 940) : ∀ (k p m : Nat) (S : GS), Cel b S q (.inr (ci, rdV b n lim (Int32.ofNat p) kd fr nu sg wr ex)) → p + k = n → k < m → bX6_go_0L E N q m (put b A S) = bX6_go_50 E N q (put b A (gup S q (.inr (ci, rdV b n lim (Int32.ofNat (skp (Bt (aV A 0)) k p)) kd fr nu sg wr ex))))
  | k, p, 0, S, h, h1, h2 => by omega
  | 0, p, m + 1, S, h, h1, h2 => by
    have r46 := fun {β : Type} (K : Int32 → Option β) => rd_46 hk h A K
    have r44 := fun {β : Type} (K : Int32 → Option β) => rd_44 hk h A K
    have e1 : n ≤ p := by omega
    rw [show skp (Bt (aV A 0)) 0 p = p from rfl, gup_i h.1]
    simp only [bX6_go_0L, bX6_go_0, pq_lit]
    simp (disch := omega) only [↓r46, ↓r44, e1, pq_lit, pq_add, pq_le, pq_lt, pq_eq, pq_en, pq_ne, pq_nle, pq_nlt, pq_len, pq_ltn, pB_z, pB_o, mzt_0, mzt_1, mzt_B, ↓gbd_s, gbd_s, ↓gnn_s, ↓grf_s, eq_self, ↓reduceIte, Nat.reduceEqDiff, Nat.reduceLeDiff, Nat.reduceLT, Nat.reduceMul, Nat.reduceAdd, not_true_eq_false, not_false_eq_true, Bool.false_eq_true]
  | k + 1, p, m + 1, S, h, h1, h2 => by
    have r46 := fun {β : Type} (K : Int32 → Option β) => rd_46 hk h A K
    have r44 := fun {β : Type} (K : Int32 → Option β) => rd_44 hk h A K
    have rb := c_rb (E := E) (N := N) (A := A) hk h hn (i := p) (by omega)
    rw [if_pos (show p < n by omega)] at rb
    have hB := Bt_lt (aV A 0) p
    have e1 : ¬ n ≤ p := by omega
    have ih := c_skp hk hE hn k (p + 1) m (gup S q (.inr (ci, rdV b n lim (Int32.ofNat (p + 1)) kd fr nu sg wr ex))) (h.up _) (by omega) (by omega)
    rw [gup_gup] at ih
    have w46 := fun {β : Type} (K : GS → Option β) => rd_w46 (E := E) hk h hE A (Int32.ofNat (p + 1)) K
    by_cases e2 : Bt (aV A 0) p = 32
    · rw [show skp (Bt (aV A 0)) (k + 1) p = skp (Bt (aV A 0)) k (p + 1) from if_pos (Or.inl e2), ← ih]
      simp only [bX6_go_0L, bX6_go_0, bX6_go_19, bX6_go_37, pq_lit]
      simp (disch := omega) only [↓r46, ↓r44, e1, ↓gbd_h (rb), rb, e2, ↓w46, pq_lit, pq_add, pq_le, pq_lt, pq_eq, pq_en, pq_ne, pq_nle, pq_nlt, pq_len, pq_ltn, pB_z, pB_o, mzt_0, mzt_1, mzt_B, ↓gbd_s, gbd_s, ↓gnn_s, ↓grf_s, eq_self, ↓reduceIte, Nat.reduceEqDiff, Nat.reduceLeDiff, Nat.reduceLT, Nat.reduceMul, Nat.reduceAdd, not_true_eq_false, not_false_eq_true, Bool.false_eq_true]
    · by_cases e3 : Bt (aV A 0) p = 10
      · rw [show skp (Bt (aV A 0)) (k + 1) p = skp (Bt (aV A 0)) k (p + 1) from if_pos (Or.inr e3), ← ih]
        simp only [bX6_go_0L, bX6_go_0, bX6_go_19, bX6_go_32, bX6_go_37, pq_lit]
        simp (disch := omega) only [↓r46, ↓r44, e1, ↓gbd_h (rb), rb, e3, ↓w46, pq_lit, pq_add, pq_le, pq_lt, pq_eq, pq_en, pq_ne, pq_nle, pq_nlt, pq_len, pq_ltn, pB_z, pB_o, mzt_0, mzt_1, mzt_B, ↓gbd_s, gbd_s, ↓gnn_s, ↓grf_s, eq_self, ↓reduceIte, Nat.reduceEqDiff, Nat.reduceLeDiff, Nat.reduceLT, Nat.reduceMul, Nat.reduceAdd, not_true_eq_false, not_false_eq_true, Bool.false_eq_true]
      · rw [show skp (Bt (aV A 0)) (k + 1) p = p from if_neg (fun h => h.elim e2 e3), gup_i h.1]
        simp only [bX6_go_0L, bX6_go_0, bX6_go_19, bX6_go_32, pq_lit]
        simp (disch := omega) only [↓r46, ↓r44, e1, ↓gbd_h (rb), rb, e2, e3, pq_lit, pq_add, pq_le, pq_lt, pq_eq, pq_en, pq_ne, pq_nle, pq_nlt, pq_len, pq_ltn, pB_z, pB_o, mzt_0, mzt_1, mzt_B, ↓gbd_s, gbd_s, ↓gnn_s, ↓grf_s, eq_self, ↓reduceIte, Nat.reduceEqDiff, Nat.reduceLeDiff, Nat.reduceLT, Nat.reduceMul, Nat.reduceAdd, not_true_eq_false, not_false_eq_true, Bool.false_eq_true]
/-- one letter or digit more -/
theorem c_rs (hk : RdK ci) (hE : E.1 ≤ b) (hn : n ≤ 940) {S0 S : GS} {p a0 j v sb : Nat} {g sm : Bool} {w : List Nat} (hb : b + 111 ≤ S0.2.1) (hq : E.1 ≤ q) (h : Cel b S0 q (.inr (ci, rdV b n lim (Int32.ofNat p) kd (Int32.ofNat a0) (Int32.ofNat v) sg wr ex))) (hs : SbAt b S0 S sb w 16) (hp : p < n) (hj : p = a0 + j) (hw : w.length = min j 7) (hc : isl (Bt (aV A 0) p) = true ∨ isd (Bt (aV A 0) p) = true) (K : GS → Int32 → Int32 → Option Nat → Option (Int32 × GS)) : ∃ S1, SbAt b S0 S1 sb (rn1 sm (Bt (aV A 0) p) (p, j, g, w, v)).2.2.2.1 16 ∧ S1.2 = S.2 ∧ bX6_go_221 E N q K (put b A S) (bI sm) (bI g) (some sb) = K (put b A (gup S1 q (.inr (ci, rdV b n lim (Int32.ofNat (p + 1)) kd (Int32.ofNat a0) (Int32.ofNat (rn1 sm (Bt (aV A 0) p) (p, j, g, w, v)).2.2.2.2) sg wr ex)))) (bI sm) (bI (rn1 sm (Bt (aV A 0) p) (p, j, g, w, v)).2.2.1) (some sb) := by
  obtain ⟨c, hcc⟩ : ∃ c, c = Bt (aV A 0) p := ⟨_, rfl⟩
  have c256 : c < 256 := by rw [hcc]; exact Bt_lt _ _
  rw [← hcc] at hc ⊢
  have c8 : c ≤ 122 ∧ 48 ≤ c := by
    rcases hc with hc | hc <;> have := of_decide_eq_true hc <;> omega
  have hS := h.ext hs.1
  have r46 := fun {β : Type} (K : Int32 → Option β) => rd_46 hk hS A K
  have rb := c_rb (E := E) (N := N) (A := A) hk hS hn (i := p) (by omega)
  rw [if_pos hp, ← hcc] at rb
  have il := c_isl (E := E) (N := N) (S := put b A S) c256
  have id := c_isd (E := E) (N := N) (S := put b A S) c256
  -- from 303 on
  have k303 : ∀ (S2 : GS), SbAt b S0 S2 sb (if j < 7 then w ++ [c] else w) 16 → ∀ x3, bX6_go_303 E N q K (put b A S2) (bI sm) x3 (some sb) = K (put b A (gup S2 q (.inr (ci, rdV b n lim (Int32.ofNat (p + 1)) kd (Int32.ofNat a0) (Int32.ofNat (if j < 3 then 10 * v + c - 48 else v)) sg wr ex)))) (bI sm) x3 (some sb) := by
    intro S2 h2 x3
    have hS2 := h.ext h2.1
    have q46 := fun {β : Type} (K : Int32 → Option β) => rd_46 hk hS2 A K
    have q48 := fun {β : Type} (K : Int32 → Option β) => rd_48 hk hS2 A K
    have q49 := fun {β : Type} (K : Int32 → Option β) => rd_49 hk hS2 A K
    have rb2 := c_rb (E := E) (N := N) (A := A) hk hS2 hn (i := p) (by omega)
    rw [if_pos hp, ← hcc] at rb2
    have es : Int32.ofNat p - Int32.ofNat a0 = Int32.ofNat j := by rw [hj, pq_sub (by omega)]; congr 1; omega
    by_cases e3 : j < 3
    · have e3' : ¬ 3 ≤ j := by omega
      have w49 := fun {β : Type} (K : GS → Option β) => rd_w49 (E := E) hk hS2 hq A (Int32.ofNat (10 * v + c - 48)) K
      have hS3 : Cel b (gup S2 q (.inr (ci, rdV b n lim (Int32.ofNat p) kd (Int32.ofNat a0) (Int32.ofNat (10 * v + c - 48)) sg wr ex))) q _ := hS2.up _
      have t46 := fun {β : Type} (K : Int32 → Option β) => rd_46 hk hS3 A K
      have w46 := fun {β : Type} (K : GS → Option β) => rd_w46 (E := E) hk hS3 hq A (Int32.ofNat (p + 1)) K
      have ev : Int32.ofNat (10 * v + c) - Int32.ofNat 48 = Int32.ofNat (10 * v + c - 48) := pq_sub (by omega)
      rw [if_pos e3]
      simp only [bX6_go_303, bX6_go_332, bX6_go_339, pq_lit]
      simp (disch := omega) only [↓q46, ↓q48, es, e3', ↓q49, ↓gbd_h (rb2), rb2, pq_mul, ev, ↓w49, ↓t46, ↓w46, gup_gup, pq_lit, pq_add, pq_le, pq_lt, pq_eq, pq_en, pq_ne, pq_nle, pq_nlt, pq_len, pq_ltn, pB_z, pB_o, mzt_0, mzt_1, mzt_B, ↓gbd_s, gbd_s, ↓gnn_s, ↓grf_s, eq_self, ↓reduceIte, Nat.reduceEqDiff, Nat.reduceLeDiff, Nat.reduceLT, Nat.reduceMul, Nat.reduceAdd, not_true_eq_false, not_false_eq_true, Bool.false_eq_true]
    · have e3' : 3 ≤ j := by omega
      have w46 := fun {β : Type} (K : GS → Option β) => rd_w46 (E := E) hk hS2 hq A (Int32.ofNat (p + 1)) K
      rw [if_neg e3]
      simp only [bX6_go_303, bX6_go_339, pq_lit]
      simp (disch := omega) only [↓q46, ↓q48, es, e3', ↓w46, pq_lit, pq_add, pq_le, pq_lt, pq_eq, pq_en, pq_ne, pq_nle, pq_nlt, pq_len, pq_ltn, pB_z, pB_o, mzt_0, mzt_1, mzt_B, ↓gbd_s, gbd_s, ↓gnn_s, ↓grf_s, eq_self, ↓reduceIte, Nat.reduceEqDiff, Nat.reduceLeDiff, Nat.reduceLT, Nat.reduceMul, Nat.reduceAdd, not_true_eq_false, not_false_eq_true, Bool.false_eq_true]
  -- from 273 on
  have k273 : ∃ S1, SbAt b S0 S1 sb (if j < 7 then w ++ [c] else w) 16 ∧ S1.2 = S.2 ∧ ∀ x3, bX6_go_273 E N q K (put b A S) (bI sm) (some sb) x3 = K (put b A (gup S1 q (.inr (ci, rdV b n lim (Int32.ofNat (p + 1)) kd (Int32.ofNat a0) (Int32.ofNat (if j < 3 then 10 * v + c - 48 else v)) sg wr ex)))) (bI sm) x3 (some sb) := by
    have q48 := fun {β : Type} (K : Int32 → Option β) => rd_48 hk hS A K
    have es : Int32.ofNat p - Int32.ofNat a0 = Int32.ofNat j := by rw [hj, pq_sub (by omega)]; congr 1; omega
    by_cases e7 : j < 7
    · have e7' : ¬ 7 ≤ j := by omega
      obtain ⟨S1, s1, s2, ap⟩ := sb_chr (E := E) (N := N) (A := A) hb hE hs (c := c) (by omega) (by omega) (by omega)
      have cc := (chr_c c (by omega)).1
      have s1' : SbAt b S0 S1 sb (if j < 7 then w ++ [c] else w) 16 := by rw [if_pos e7]; exact s1
      refine ⟨S1, s1', s2, fun x3 => ?_⟩
      rw [← k303 S1 s1' x3]
      simp only [bX6_go_273, bX6_go_298, bX6_go_302, pq_lit]
      simp (disch := omega) only [↓r46, ↓q48, es, e7', ↓gbd_h (rb), rb, cc, ↓gbd_h (ap), ap, pq_lit, pq_add, pq_le, pq_lt, pq_eq, pq_en, pq_ne, pq_nle, pq_nlt, pq_len, pq_ltn, pB_z, pB_o, mzt_0, mzt_1, mzt_B, ↓gbd_s, gbd_s, ↓gnn_s, ↓grf_s, eq_self, ↓reduceIte, Nat.reduceEqDiff, Nat.reduceLeDiff, Nat.reduceLT, Nat.reduceMul, Nat.reduceAdd, not_true_eq_false, not_false_eq_true, Bool.false_eq_true]
    · have e7' : 7 ≤ j := by omega
      have s1' : SbAt b S0 S sb (if j < 7 then w ++ [c] else w) 16 := by rw [if_neg e7]; exact hs
      refine ⟨S, s1', rfl, fun x3 => ?_⟩
      rw [← k303 S s1' x3]
      simp only [bX6_go_273, pq_lit]
      simp (disch := omega) only [↓r46, ↓q48, es, e7', pq_lit, pq_add, pq_le, pq_lt, pq_eq, pq_en, pq_ne, pq_nle, pq_nlt, pq_len, pq_ltn, pB_z, pB_o, mzt_0, mzt_1, mzt_B, ↓gbd_s, gbd_s, ↓gnn_s, ↓grf_s, eq_self, ↓reduceIte, Nat.reduceEqDiff, Nat.reduceLeDiff, Nat.reduceLT, Nat.reduceMul, Nat.reduceAdd, not_true_eq_false, not_false_eq_true, Bool.false_eq_true]
  obtain ⟨S1, s1, s2, k2⟩ := k273
  refine ⟨S1, s1, s2, ?_⟩
  -- from 249 on
  have k249 : bX6_go_249 E N q K (put b A S) (bI sm) (bI g) (some sb) = K (put b A (gup S1 q (.inr (ci, rdV b n lim (Int32.ofNat (p + 1)) kd (Int32.ofNat a0) (Int32.ofNat (if j < 3 then 10 * v + c - 48 else v)) sg wr ex)))) (bI sm) (bI (g && (isl c == sm))) (some sb) := by
    rw [← k2]
    cases g with
    | false =>
      simp only [bX6_go_249, bX6_go_272, pq_lit, Bool.false_and, bI_f]
      simp (disch := omega) only [pq_lit, pq_add, pq_le, pq_lt, pq_eq, pq_en, pq_ne, pq_nle, pq_nlt, pq_len, pq_ltn, pB_z, pB_o, mzt_0, mzt_1, mzt_B, ↓gbd_s, gbd_s, ↓gnn_s, ↓grf_s, eq_self, ↓reduceIte, Nat.reduceEqDiff, Nat.reduceLeDiff, Nat.reduceLT, Nat.reduceMul, Nat.reduceAdd, not_true_eq_false, not_false_eq_true, Bool.false_eq_true]
    | true =>
      cases e : isl c <;> cases sm <;> rw [e] at il
      all_goals
        simp only [bI_f, bI_t] at il ⊢
        simp only [bX6_go_249, bX6_go_261, bX6_go_264, bX6_go_272, pq_lit, Bool.true_and, Bool.and_true, Bool.and_false, beq_self_eq_true, bI_f, bI_t, show (true == false) = false from rfl, show (false == true) = false from rfl]
        simp (disch := omega) only [↓r46, ↓gbd_h (rb), rb, ↓gbd_h (il), il, pq_lit, pq_add, pq_le, pq_lt, pq_eq, pq_en, pq_ne, pq_nle, pq_nlt, pq_len, pq_ltn, pB_z, pB_o, mzt_0, mzt_1, mzt_B, ↓gbd_s, gbd_s, ↓gnn_s, ↓grf_s, eq_self, ↓reduceIte, Nat.reduceEqDiff, Nat.reduceLeDiff, Nat.reduceLT, Nat.reduceMul, Nat.reduceAdd, not_true_eq_false, not_false_eq_true, Bool.false_eq_true]
  show _ = K (put b A (gup S1 q (.inr (ci, rdV b n lim (Int32.ofNat (p + 1)) kd (Int32.ofNat a0) (Int32.ofNat (if j < 3 then 10 * v + c - 48 else v)) sg wr ex)))) (bI sm) (bI (g && (isl c == sm))) (some sb)
  rw [← k249]
  cases e : isl c with
  | true =>
    rw [e] at il
    simp only [bX6_go_221, bX6_go_229, bX6_go_232, pq_lit]
    simp (disch := omega) only [↓r46, ↓gbd_h (rb), rb, ↓gbd_h (il), il, bI_t, pq_lit, pq_add, pq_le, pq_lt, pq_eq, pq_en, pq_ne, pq_nle, pq_nlt, pq_len, pq_ltn, pB_z, pB_o, mzt_0, mzt_1, mzt_B, ↓gbd_s, gbd_s, ↓gnn_s, ↓grf_s, eq_self, ↓reduceIte, Nat.reduceEqDiff, Nat.reduceLeDiff, Nat.reduceLT, Nat.reduceMul, Nat.reduceAdd, not_true_eq_false, not_false_eq_true, Bool.false_eq_true]
  | false =>
    have e2 : isd c = true := by rcases hc with h | h; (rw [e] at h; cases h); exact h
    rw [e] at il
    rw [e2] at id
    simp only [bX6_go_221, bX6_go_229, bX6_go_232, bX6_go_243, bX6_go_246, pq_lit]
    simp (disch := omega) only [↓r46, ↓gbd_h (rb), rb, ↓gbd_h (il), il, ↓gbd_h (id), id, bI_t, bI_f, pq_lit, pq_add, pq_le, pq_lt, pq_eq, pq_en, pq_ne, pq_nle, pq_nlt, pq_len, pq_ltn, pB_z, pB_o, mzt_0, mzt_1, mzt_B, ↓gbd_s, gbd_s, ↓gnn_s, ↓grf_s, eq_self, ↓reduceIte, Nat.reduceEqDiff, Nat.reduceLeDiff, Nat.reduceLT, Nat.reduceMul, Nat.reduceAdd, not_true_eq_false, not_false_eq_true, Bool.false_eq_true]
theorem c_run (hk : RdK ci) (hE : E.1 ≤ b) (hn : n ≤ 940) {a0 sb : Nat} {sm : Bool} (hq : E.1 ≤ q) : ∀ (k p m j v : Nat) (g : Bool) (w : List Nat) (S0 S : GS), b + 111 ≤ S0.2.1 → Cel b S0 q (.inr (ci, rdV b n lim (Int32.ofNat p) kd (Int32.ofNat a0) (Int32.ofNat v) sg wr ex)) → SbAt b S0 S sb w 16 → p + k = n → p = a0 + j → rnP sm (p, j, g, w, v) → k < m → ∃ S', SbAt b (gup S0 q (.inr (ci, rdV b n lim (Int32.ofNat (rnS (Bt (aV A 0)) sm k (p, j, g, w, v)).1) kd (Int32.ofNat a0) (Int32.ofNat (rnS (Bt (aV A 0)) sm k (p, j, g, w, v)).2.2.2.2) sg wr ex))) S' sb (rnS (Bt (aV A 0)) sm k (p, j, g, w, v)).2.2.2.1 16 ∧ S'.2 = S.2 ∧ bX6_go_221L E N q m (put b A S) (bI sm) (bI g) (some sb) = gbd (vjava_lang_StringBuilder_toString___Ljava_lang_String_ E N (put b A S') (some sb)) (fun r_2 S_3 => bX6_go_358 E N q S_3 (bI sm) (bI (rnS (Bt (aV A 0)) sm k (p, j, g, w, v)).2.2.1) (some q) r_2)
  | k, p, 0, j, v, g, w, S0, S, hb, h, hs, h1, h2, h3, h4 => by omega
  | k, p, m + 1, j, v, g, w, S0, S, hb, h, hs, h1, h2, h3, h4 => by
    by_cases hx : k ≠ 0 ∧ (isl (Bt (aV A 0) p) = true ∨ isd (Bt (aV A 0) p) = true)
    · obtain ⟨k, rfl⟩ : ∃ k', k = k' + 1 := ⟨k - 1, by omega⟩
      obtain ⟨S1, s1, s2, e1⟩ := c_rs (N := N) (sm := sm) (g := g) hk hE hn hb hq h hs (by omega) h2 h3.1 hx.2 (bX6_go_221L E N q m)
      have hql : q < S0.2.1 := h.2.2
      have s1' := s1.up hql (.inr (ci, rdV b n lim (Int32.ofNat (p + 1)) kd (Int32.ofNat a0) (Int32.ofNat (rn1 sm (Bt (aV A 0) p) (p, j, g, w, v)).2.2.2.2) sg wr ex))
      obtain ⟨S', t1, t2, t3⟩ := c_run (a0 := a0) (sb := sb) (sm := sm) hk hE hn hq k (p + 1) m (j + 1) (rn1 sm (Bt (aV A 0) p) (p, j, g, w, v)).2.2.2.2 (rn1 sm (Bt (aV A 0) p) (p, j, g, w, v)).2.2.1 (rn1 sm (Bt (aV A 0) p) (p, j, g, w, v)).2.2.2.1 (gup S0 q (.inr (ci, rdV b n lim (Int32.ofNat (p + 1)) kd (Int32.ofNat a0) (Int32.ofNat (rn1 sm (Bt (aV A 0) p) (p, j, g, w, v)).2.2.2.2) sg wr ex))) (gup S1 q (.inr (ci, rdV b n lim (Int32.ofNat (p + 1)) kd (Int32.ofNat a0) (Int32.ofNat (rn1 sm (Bt (aV A 0) p) (p, j, g, w, v)).2.2.2.2) sg wr ex))) hb (h.up _) s1' (by omega) (by omega) (rn1_p h3 hx.2) (by omega)
      have er : rnS (Bt (aV A 0)) sm (k + 1) (p, j, g, w, v) = rnS (Bt (aV A 0)) sm k (rn1 sm (Bt (aV A 0) p) (p, j, g, w, v)) := if_pos hx.2
      rw [er]
      rw [gup_gup] at t1
      refine ⟨S', t1, t2.trans s2, ?_⟩
      show bX6_go_221 E N q (bX6_go_221L E N q m) (put b A S) (bI sm) (bI g) (some sb) = _
      rw [e1, t3]
      rfl
    · have er : rnS (Bt (aV A 0)) sm k (p, j, g, w, v) = (p, j, g, w, v) := by
        cases k with
        | zero => rfl
        | succ k => exact if_neg (fun q => hx ⟨by omega, q⟩)
      rw [er]
      have hS := h.ext hs.1
      have r46 := fun {β : Type} (K : Int32 → Option β) => rd_46 hk hS A K
      have rb := c_rb (E := E) (N := N) (A := A) hk hS hn (i := p) (by omega)
      obtain ⟨c, hc⟩ : ∃ c, c = if p < n then Bt (aV A 0) p else 0 := ⟨_, rfl⟩
      rw [← hc] at rb
      have c256 : c < 256 := by
        rw [hc]; split
        · exact Bt_lt _ _
        · omega
      have nl : isl c = false ∧ isd c = false := by
        by_cases e : p < n
        · rw [if_pos e] at hc
          have : ¬ (isl c = true ∨ isd c = true) := fun q => hx ⟨by omega, by rw [← hc]; exact q⟩
          cases h1 : isl c <;> cases h2 : isd c <;> simp_all
        · rw [if_neg e] at hc
          rw [hc]; exact ⟨rfl, rfl⟩
      have il := c_isl (E := E) (N := N) (S := put b A S) c256
      have id := c_isd (E := E) (N := N) (S := put b A S) c256
      rw [nl.1] at il
      rw [nl.2] at id
      refine ⟨S, ?_, rfl, ?_⟩
      · rw [gup_i h.1]; exact hs
      · show bX6_go_221 E N q (bX6_go_221L E N q m) (put b A S) (bI sm) (bI g) (some sb) = _
        simp only [bX6_go_221, bX6_go_229, bX6_go_232, bX6_go_243, bX6_go_246, pq_lit]
        simp (disch := omega) only [↓r46, ↓gbd_h (rb), rb, ↓gbd_h (il), il, ↓gbd_h (id), id, bI_f, pq_lit, pq_add, pq_le, pq_lt, pq_eq, pq_en, pq_ne, pq_nle, pq_nlt, pq_len, pq_ltn, pB_z, pB_o, mzt_0, mzt_1, mzt_B, ↓gbd_s, gbd_s, ↓gnn_s, ↓grf_s, eq_self, ↓reduceIte, Nat.reduceEqDiff, Nat.reduceLeDiff, Nat.reduceLT, Nat.reduceMul, Nat.reduceAdd, not_true_eq_false, not_false_eq_true, Bool.false_eq_true]
/-! go as a whole, by what comes -/
def sgk (c : Nat) : Nat := if c = 59 then 4 else if c = 60 ∨ c = 61 ∨ c = 62 ∨ c = 40 ∨ c = 41 then 6 else 1
def kdC (sm g : Bool) (j : Nat) : Nat := if g = true ∧ j ≤ (if sm = true then 7 else 3) then (if sm = true then 2 else 3) else 1
def kdM (sm g : Bool) (j : Nat) : Nat := if g = true ∧ j ≤ (if sm = true then 7 else 3) then (if sm = true then 1 else 2) else 4
variable {S : GS} {p p1 : Nat}
theorem c_go1 (hk : RdK ci) (hE : E.1 ≤ q) (hn : n ≤ 940) (hN : 1000 ≤ N) (hl : lim ≤ 940) (h : Cel b S q (.inr (ci, rdV b n lim (Int32.ofNat p) kd fr nu sg wr ex))) (hp : p ≤ n) (e1 : p1 = skp (Bt (aV A 0)) (n - p) p) (hm : lim < n ∧ lim ≤ p1) : fX6_go E N (put b A S) q = some (Int32.ofNat 0, put b A (gup S q (.inr (ci, rdV b n lim (Int32.ofNat p1) (Int32.ofNat 5) (Int32.ofNat lim) nu sg wr ex)))) := by
  have sk := c_skp (N := N) (A := A) hk hE hn (n - p) p N S h (by omega) (by omega)
  rw [← e1] at sk
  have p1n := (skp_p (Bt (aV A 0)) (n - p) p).2.1
  rw [← e1] at p1n
  refine Eq.trans (b := bX6_go_50 E N q (put b A (gup S q (.inr (ci, rdV b n lim (Int32.ofNat p1) kd fr nu sg wr ex))))) sk ?_
  have h1 : Cel b (gup S q (.inr (ci, rdV b n lim (Int32.ofNat p1) kd fr nu sg wr ex))) q (.inr (ci, rdV b n lim (Int32.ofNat p1) kd fr nu sg wr ex)) := h.up _
  have h2 : Cel b (gup S q (.inr (ci, rdV b n lim (Int32.ofNat p1) kd (Int32.ofNat p1) nu sg wr ex))) q (.inr (ci, rdV b n lim (Int32.ofNat p1) kd (Int32.ofNat p1) nu sg wr ex)) := h.up _
  have h3 : Cel b (gup S q (.inr (ci, rdV b n lim (Int32.ofNat p1) kd (Int32.ofNat lim) nu sg wr ex))) q (.inr (ci, rdV b n lim (Int32.ofNat p1) kd (Int32.ofNat lim) nu sg wr ex)) := h.up _
  have a46 := fun {β : Type} (K : Int32 → Option β) => rd_46 hk h1 A K
  have a48 := fun {β : Type} (K : GS → Option β) => rd_w48 (E := E) hk h1 hE A (Int32.ofNat p1) K
  have b44 := fun {β : Type} (K : Int32 → Option β) => rd_44 hk h2 A K
  have b45 := fun {β : Type} (K : Int32 → Option β) => rd_45 hk h2 A K
  have b48 := fun {β : Type} (K : Int32 → Option β) => rd_48 hk h2 A K
  have d48 := fun {β : Type} (K : GS → Option β) => rd_w48 (E := E) hk h2 hE A (Int32.ofNat lim) K
  have d47 := fun {β : Type} (K : GS → Option β) => rd_w47 (E := E) hk h3 hE A (Int32.ofNat 5) K
  have z1 : ¬ n ≤ lim := by omega
  have z2 : ¬ p1 < lim := by omega
  simp only [bX6_go_50, pq_lit]
  simp (disch := omega) only [↓a46, ↓a48, gup_gup, ↓b44, ↓b45, z1, ↓b48, z2, ↓d48, ↓d47, pq_lit, pq_add, pq_le, pq_lt, pq_eq, pq_en, pq_ne, pq_nle, pq_nlt, pq_len, pq_ltn, pB_z, pB_o, mzt_0, mzt_1, mzt_B, ↓gbd_s, gbd_s, ↓gnn_s, ↓grf_s, eq_self, ↓reduceIte, Nat.reduceEqDiff, Nat.reduceLeDiff, Nat.reduceLT, Nat.reduceMul, Nat.reduceAdd, not_true_eq_false, not_false_eq_true, Bool.false_eq_true]
theorem c_goH (hk : RdK ci) (hE : E.1 ≤ q) (hn : n ≤ 940) (hN : 1000 ≤ N) (hl : lim ≤ 940) (h : Cel b S q (.inr (ci, rdV b n lim (Int32.ofNat p) kd fr nu sg wr ex))) (hp : p ≤ n) (e1 : p1 = skp (Bt (aV A 0)) (n - p) p) (hm : ¬ (lim < n ∧ lim ≤ p1)) : fX6_go E N (put b A S) q = bX6_go_94 E N q (put b A (gup S q (.inr (ci, rdV b n lim (Int32.ofNat p1) kd (Int32.ofNat p1) nu sg wr ex)))) := by
  have sk := c_skp (N := N) (A := A) hk hE hn (n - p) p N S h (by omega) (by omega)
  rw [← e1] at sk
  have p1n := (skp_p (Bt (aV A 0)) (n - p) p).2.1
  rw [← e1] at p1n
  refine Eq.trans (b := bX6_go_50 E N q (put b A (gup S q (.inr (ci, rdV b n lim (Int32.ofNat p1) kd fr nu sg wr ex))))) sk ?_
  have h1 : Cel b (gup S q (.inr (ci, rdV b n lim (Int32.ofNat p1) kd fr nu sg wr ex))) q (.inr (ci, rdV b n lim (Int32.ofNat p1) kd fr nu sg wr ex)) := h.up _
  have h2 : Cel b (gup S q (.inr (ci, rdV b n lim (Int32.ofNat p1) kd (Int32.ofNat p1) nu sg wr ex))) q (.inr (ci, rdV b n lim (Int32.ofNat p1) kd (Int32.ofNat p1) nu sg wr ex)) := h.up _
  have a46 := fun {β : Type} (K : Int32 → Option β) => rd_46 hk h1 A K
  have a48 := fun {β : Type} (K : GS → Option β) => rd_w48 (E := E) hk h1 hE A (Int32.ofNat p1) K
  have b44 := fun {β : Type} (K : Int32 → Option β) => rd_44 hk h2 A K
  have b45 := fun {β : Type} (K : Int32 → Option β) => rd_45 hk h2 A K
  have b48 := fun {β : Type} (K : Int32 → Option β) => rd_48 hk h2 A K
  by_cases z1 : n ≤ lim
  · simp only [bX6_go_50, pq_lit]
    simp (disch := omega) only [↓a46, ↓a48, gup_gup, ↓b44, ↓b45, z1, pq_lit, pq_add, pq_le, pq_lt, pq_eq, pq_en, pq_ne, pq_nle, pq_nlt, pq_len, pq_ltn, pB_z, pB_o, mzt_0, mzt_1, mzt_B, ↓gbd_s, gbd_s, ↓gnn_s, ↓grf_s, eq_self, ↓reduceIte, Nat.reduceEqDiff, Nat.reduceLeDiff, Nat.reduceLT, Nat.reduceMul, Nat.reduceAdd, not_true_eq_false, not_false_eq_true, Bool.false_eq_true]
  · have z2 : p1 < lim := by omega
    simp only [bX6_go_50, pq_lit]
    simp (disch := omega) only [↓a46, ↓a48, gup_gup, ↓b44, ↓b45, z1, ↓b48, z2, pq_lit, pq_add, pq_le, pq_lt, pq_eq, pq_en, pq_ne, pq_nle, pq_nlt, pq_len, pq_ltn, pB_z, pB_o, mzt_0, mzt_1, mzt_B, ↓gbd_s, gbd_s, ↓gnn_s, ↓grf_s, eq_self, ↓reduceIte, Nat.reduceEqDiff, Nat.reduceLeDiff, Nat.reduceLT, Nat.reduceMul, Nat.reduceAdd, not_true_eq_false, not_false_eq_true, Bool.false_eq_true]
theorem c_go0 (hk : RdK ci) (hE : E.1 ≤ q) (hn : n ≤ 940) (hN : 1000 ≤ N) (hl : lim ≤ 940) (h : Cel b S q (.inr (ci, rdV b n lim (Int32.ofNat p) kd fr nu sg wr ex))) (hp : p ≤ n) (e1 : p1 = skp (Bt (aV A 0)) (n - p) p) (hm : ¬ (lim < n ∧ lim ≤ p1)) (hs : n ≤ p1) : fX6_go E N (put b A S) q = some (Int32.ofNat 0, put b A (gup S q (.inr (ci, rdV b n lim (Int32.ofNat p1) (Int32.ofNat 0) (Int32.ofNat p1) nu sg wr ex)))) := by
  rw [c_goH hk hE hn hN hl h hp e1 hm]
  have p1n := (skp_p (Bt (aV A 0)) (n - p) p).2.1
  rw [← e1] at p1n
  have h2 : Cel b (gup S q (.inr (ci, rdV b n lim (Int32.ofNat p1) kd (Int32.ofNat p1) nu sg wr ex))) q (.inr (ci, rdV b n lim (Int32.ofNat p1) kd (Int32.ofNat p1) nu sg wr ex)) := h.up _
  have b44 := fun {β : Type} (K : Int32 → Option β) => rd_44 hk h2 A K
  have b46 := fun {β : Type} (K : Int32 → Option β) => rd_46 hk h2 A K
  have d47 := fun {β : Type} (K : GS → Option β) => rd_w47 (E := E) hk h2 hE A (Int32.ofNat 0) K
  have z : ¬ p1 < n := by omega
  simp only [bX6_go_94, pq_lit]
  simp (disch := omega) only [↓b46, ↓b44, z, ↓d47, gup_gup, pq_lit, pq_add, pq_le, pq_lt, pq_eq, pq_en, pq_ne, pq_nle, pq_nlt, pq_len, pq_ltn, pB_z, pB_o, mzt_0, mzt_1, mzt_B, ↓gbd_s, gbd_s, ↓gnn_s, ↓grf_s, eq_self, ↓reduceIte, Nat.reduceEqDiff, Nat.reduceLeDiff, Nat.reduceLT, Nat.reduceMul, Nat.reduceAdd, not_true_eq_false, not_false_eq_true, Bool.false_eq_true]
theorem c_goS (hk : RdK ci) (hE : E.1 ≤ q) (hn : n ≤ 940) (hN : 1000 ≤ N) (hl : lim ≤ 940) (h : Cel b S q (.inr (ci, rdV b n lim (Int32.ofNat p) kd fr nu sg wr ex))) (hp : p ≤ n) (e1 : p1 = skp (Bt (aV A 0)) (n - p) p) (hm : ¬ (lim < n ∧ lim ≤ p1)) (hs : p1 < n) {c : Nat} (hc : c = Bt (aV A 0) p1) (ha : ¬ (isl c = true ∨ isd c = true)) : fX6_go E N (put b A S) q = some (Int32.ofNat 0, put b A (gup S q (.inr (ci, rdV b n lim (Int32.ofNat (p1 + 1)) (Int32.ofNat (sgk c)) (Int32.ofNat p1) nu (Int32.ofNat c) wr ex)))) := by
  rw [c_goH hk hE hn hN hl h hp e1 hm]
  have c256 : c < 256 := by rw [hc]; exact Bt_lt _ _
  have h2 : Cel b (gup S q (.inr (ci, rdV b n lim (Int32.ofNat p1) kd (Int32.ofNat p1) nu sg wr ex))) q (.inr (ci, rdV b n lim (Int32.ofNat p1) kd (Int32.ofNat p1) nu sg wr ex)) := h.up _
  have b44 := fun {β : Type} (K : Int32 → Option β) => rd_44 hk h2 A K
  have b46 := fun {β : Type} (K : Int32 → Option β) => rd_46 hk h2 A K
  have rb := c_rb (E := E) (N := N) (A := A) hk h2 hn (i := p1) (by omega)
  rw [if_pos hs, ← hc] at rb
  have nl : isl c = false ∧ isd c = false := by cases h1 : isl c <;> cases h2 : isd c <;> simp_all
  have il := c_isl (E := E) (N := N) (S := put b A (gup S q (.inr (ci, rdV b n lim (Int32.ofNat p1) kd (Int32.ofNat p1) nu sg wr ex)))) c256
  have id := c_isd (E := E) (N := N) (S := put b A (gup S q (.inr (ci, rdV b n lim (Int32.ofNat p1) kd (Int32.ofNat p1) nu sg wr ex)))) c256
  rw [nl.1] at il
  rw [nl.2] at id
  have k181 : ∀ k, k = sgk c → bX6_go_181 E N q (put b A (gup S q (.inr (ci, rdV b n lim (Int32.ofNat p1) kd (Int32.ofNat p1) nu sg wr ex)))) (Int32.ofNat c) (some q) (Int32.ofNat k) = some (Int32.ofNat 0, put b A (gup S q (.inr (ci, rdV b n lim (Int32.ofNat (p1 + 1)) (Int32.ofNat (sgk c)) (Int32.ofNat p1) nu (Int32.ofNat c) wr ex)))) := by
    intro k hk2
    rw [hk2]
    have h3 : Cel b (gup S q (.inr (ci, rdV b n lim (Int32.ofNat p1) (Int32.ofNat (sgk c)) (Int32.ofNat p1) nu sg wr ex))) q (.inr (ci, rdV b n lim (Int32.ofNat p1) (Int32.ofNat (sgk c)) (Int32.ofNat p1) nu sg wr ex)) := h.up _
    have h4 : Cel b (gup S q (.inr (ci, rdV b n lim (Int32.ofNat p1) (Int32.ofNat (sgk c)) (Int32.ofNat p1) nu (Int32.ofNat c) wr ex))) q (.inr (ci, rdV b n lim (Int32.ofNat p1) (Int32.ofNat (sgk c)) (Int32.ofNat p1) nu (Int32.ofNat c) wr ex)) := h.up _
    have d47 := fun {β : Type} (K : GS → Option β) => rd_w47 (E := E) hk h2 hE A (Int32.ofNat (sgk c)) K
    have d50 := fun {β : Type} (K : GS → Option β) => rd_w50 (E := E) hk h3 hE A (Int32.ofNat c) K
    have d46 := fun {β : Type} (K : Int32 → Option β) => rd_46 hk h4 A K
    have w46 := fun {β : Type} (K : GS → Option β) => rd_w46 (E := E) hk h4 hE A (Int32.ofNat (p1 + 1)) K
    simp only [bX6_go_181, pq_lit]
    simp (disch := omega) only [↓d47, gup_gup, ↓d50, ↓d46, ↓w46, pq_lit, pq_add, pq_le, pq_lt, pq_eq, pq_en, pq_ne, pq_nle, pq_nlt, pq_len, pq_ltn, pB_z, pB_o, mzt_0, mzt_1, mzt_B, ↓gbd_s, gbd_s, ↓gnn_s, ↓grf_s, eq_self, ↓reduceIte, Nat.reduceEqDiff, Nat.reduceLeDiff, Nat.reduceLT, Nat.reduceMul, Nat.reduceAdd, not_true_eq_false, not_false_eq_true, Bool.false_eq_true]
  have z : p1 < n := hs
  refine Eq.trans (b := bX6_go_131 E N q (put b A (gup S q (.inr (ci, rdV b n lim (Int32.ofNat p1) kd (Int32.ofNat p1) nu sg wr ex)))) (Int32.ofNat c) (Int32.ofNat 0)) ?_ ?_
  · simp only [bX6_go_94, bX6_go_119, bX6_go_124, pq_lit]
    simp (disch := omega) only [↓b46, ↓b44, z, ↓gbd_h (rb), rb, ↓gbd_h (il), il, ↓gbd_h (id), id, bI_f, pq_lit, pq_add, pq_le, pq_lt, pq_eq, pq_en, pq_ne, pq_nle, pq_nlt, pq_len, pq_ltn, pB_z, pB_o, mzt_0, mzt_1, mzt_B, ↓gbd_s, gbd_s, ↓gnn_s, ↓grf_s, eq_self, ↓reduceIte, Nat.reduceEqDiff, Nat.reduceLeDiff, Nat.reduceLT, Nat.reduceMul, Nat.reduceAdd, not_true_eq_false, not_false_eq_true, Bool.false_eq_true]
  · simp only [bX6_go_131, bX6_go_175, pq_lit]
    by_cases e1 : c = 59
    · rw [e1] at k181 ⊢
      simp (disch := omega) only [k181 4 rfl, pq_lit, pq_add, pq_le, pq_lt, pq_eq, pq_en, pq_ne, pq_nle, pq_nlt, pq_len, pq_ltn, pB_z, pB_o, mzt_0, mzt_1, mzt_B, ↓gbd_s, gbd_s, ↓gnn_s, ↓grf_s, eq_self, ↓reduceIte, Nat.reduceEqDiff, Nat.reduceLeDiff, Nat.reduceLT, Nat.reduceMul, Nat.reduceAdd, not_true_eq_false, not_false_eq_true, Bool.false_eq_true]
    · by_cases e2 : c = 60
      · rw [e2] at k181 ⊢
        simp (disch := omega) only [k181 6 rfl, pq_lit, pq_add, pq_le, pq_lt, pq_eq, pq_en, pq_ne, pq_nle, pq_nlt, pq_len, pq_ltn, pB_z, pB_o, mzt_0, mzt_1, mzt_B, ↓gbd_s, gbd_s, ↓gnn_s, ↓grf_s, eq_self, ↓reduceIte, Nat.reduceEqDiff, Nat.reduceLeDiff, Nat.reduceLT, Nat.reduceMul, Nat.reduceAdd, not_true_eq_false, not_false_eq_true, Bool.false_eq_true]
      · by_cases e3 : c = 61
        · rw [e3] at k181 ⊢
          simp (disch := omega) only [k181 6 rfl, pq_lit, pq_add, pq_le, pq_lt, pq_eq, pq_en, pq_ne, pq_nle, pq_nlt, pq_len, pq_ltn, pB_z, pB_o, mzt_0, mzt_1, mzt_B, ↓gbd_s, gbd_s, ↓gnn_s, ↓grf_s, eq_self, ↓reduceIte, Nat.reduceEqDiff, Nat.reduceLeDiff, Nat.reduceLT, Nat.reduceMul, Nat.reduceAdd, not_true_eq_false, not_false_eq_true, Bool.false_eq_true]
        · by_cases e4 : c = 62
          · rw [e4] at k181 ⊢
            simp (disch := omega) only [k181 6 rfl, pq_lit, pq_add, pq_le, pq_lt, pq_eq, pq_en, pq_ne, pq_nle, pq_nlt, pq_len, pq_ltn, pB_z, pB_o, mzt_0, mzt_1, mzt_B, ↓gbd_s, gbd_s, ↓gnn_s, ↓grf_s, eq_self, ↓reduceIte, Nat.reduceEqDiff, Nat.reduceLeDiff, Nat.reduceLT, Nat.reduceMul, Nat.reduceAdd, not_true_eq_false, not_false_eq_true, Bool.false_eq_true]
          · by_cases e5 : c = 40
            · rw [e5] at k181 ⊢
              simp (disch := omega) only [k181 6 rfl, pq_lit, pq_add, pq_le, pq_lt, pq_eq, pq_en, pq_ne, pq_nle, pq_nlt, pq_len, pq_ltn, pB_z, pB_o, mzt_0, mzt_1, mzt_B, ↓gbd_s, gbd_s, ↓gnn_s, ↓grf_s, eq_self, ↓reduceIte, Nat.reduceEqDiff, Nat.reduceLeDiff, Nat.reduceLT, Nat.reduceMul, Nat.reduceAdd, not_true_eq_false, not_false_eq_true, Bool.false_eq_true]
            · by_cases e6 : c = 41
              · rw [e6] at k181 ⊢
                simp (disch := omega) only [k181 6 rfl, pq_lit, pq_add, pq_le, pq_lt, pq_eq, pq_en, pq_ne, pq_nle, pq_nlt, pq_len, pq_ltn, pB_z, pB_o, mzt_0, mzt_1, mzt_B, ↓gbd_s, gbd_s, ↓gnn_s, ↓grf_s, eq_self, ↓reduceIte, Nat.reduceEqDiff, Nat.reduceLeDiff, Nat.reduceLT, Nat.reduceMul, Nat.reduceAdd, not_true_eq_false, not_false_eq_true, Bool.false_eq_true]
              · have ek : 1 = sgk c := by unfold sgk; rw [if_neg e1, if_neg (by omega)]
                simp (disch := omega) only [e1, e2, e3, e4, e5, e6, k181 1 ek, pq_lit, pq_add, pq_le, pq_lt, pq_eq, pq_en, pq_ne, pq_nle, pq_nlt, pq_len, pq_ltn, pB_z, pB_o, mzt_0, mzt_1, mzt_B, ↓gbd_s, gbd_s, ↓gnn_s, ↓grf_s, eq_self, ↓reduceIte, Nat.reduceEqDiff, Nat.reduceLeDiff, Nat.reduceLT, Nat.reduceMul, Nat.reduceAdd, not_true_eq_false, not_false_eq_true, Bool.false_eq_true]
theorem c_goR (hk : RdK ci) (hE : E.1 ≤ b) (hq : E.1 ≤ q) (hb : b + 111 ≤ S.2.1) (hn : n ≤ 940) (hN : 1000 ≤ N) (hl : lim ≤ 940) (h : Cel b S q (.inr (ci, rdV b n lim (Int32.ofNat p) kd fr nu sg wr ex))) (hp : p ≤ n) (e1 : p1 = skp (Bt (aV A 0)) (n - p) p) (hm : ¬ (lim < n ∧ lim ≤ p1)) (hs : p1 < n) {c : Nat} (hc : c = Bt (aV A 0) p1) (ha : isl c = true ∨ isd c = true) {z : RnS} (hz : z = rnS (Bt (aV A 0)) (isl c) (n - p1) (p1, 0, true, [], 0)) : ∃ S' wr', fX6_go E N (put b A S) q = some (Int32.ofNat 0, put b A S') ∧ Cel b S' q (.inr (ci, rdV b n lim (Int32.ofNat z.1) (Int32.ofNat (kdC (isl c) z.2.2.1 z.2.1)) (Int32.ofNat p1) (Int32.ofNat z.2.2.2.2) sg wr' ex)) ∧ StrAt b S' wr' z.2.2.2.1 ∧ S.2.1 ≤ wr' ∧ Xo q S S' ∧ S'.2.2.1 ≤ S.2.2.1 + 4 ∧ S'.2.2.2 ≤ S.2.2.2 + 40 := by
  have c256 : c < 256 := by rw [hc]; exact Bt_lt _ _
  obtain ⟨S1, hS1⟩ : ∃ S1, S1 = gup S q (.inr (ci, rdV b n lim (Int32.ofNat p1) kd (Int32.ofNat p1) nu sg wr ex)) := ⟨_, rfl⟩
  obtain ⟨S2, hS2⟩ : ∃ S2, S2 = gup S q (.inr (ci, rdV b n lim (Int32.ofNat p1) kd (Int32.ofNat p1) (Int32.ofNat 0) sg wr ex)) := ⟨_, rfl⟩
  have h1 : Cel b S1 q (.inr (ci, rdV b n lim (Int32.ofNat p1) kd (Int32.ofNat p1) nu sg wr ex)) := by rw [hS1]; exact h.up _
  have h2 : Cel b S2 q (.inr (ci, rdV b n lim (Int32.ofNat p1) kd (Int32.ofNat p1) (Int32.ofNat 0) sg wr ex)) := by rw [hS2]; exact h.up _
  have n2 : S2.2 = S.2 := by rw [hS2]; rfl
  have hb2 : b + 111 ≤ S2.2.1 := by rw [n2]; exact hb
  have hql : q < S2.2.1 := h2.2.2
  have x2 : Xo q S S2 := by rw [hS2]; exact Xo.up _
  have rp0 : rnP (isl c) (p1, 0, true, [], 0) := ⟨rfl, fun _ x hx => (by cases hx), fun x hx => (by cases hx), fun _ _ => (show 0 < 10 ^ min 0 3 by decide)⟩
  have hz1 := rnS_p (B := Bt (aV A 0)) (n - p1) _ rp0
  rw [← hz] at hz1
  obtain ⟨zp, zj, zl, zr⟩ := hz1
  have zj' : z.2.1 + p1 = z.1 := by
    have : z.2.1 + p1 = 0 + z.1 := zj
    omega
  have zr' : z.1 ≤ n := by
    have : z.1 ≤ p1 + (n - p1) := zr
    omega
  have zl' : p1 ≤ z.1 := zl
  obtain ⟨S3, b3, n3, nw⟩ := sb_new (E := E) (N := N) (A := A) hb2 hE
  obtain ⟨S4, b4, n4, rn⟩ := c_run (N := N) (A := A) (sm := isl c) hk hE hn hq (n - p1) p1 N 0 0 true [] S2 S3 hb2 h2 b3 (by omega) (by omega) rp0 (by omega)
  rw [← hz] at b4 rn
  obtain ⟨S5, x5, s5, n5, ts⟩ := sb_str (E := E) (N := N) (A := A) (S0 := gup S2 q (.inr (ci, rdV b n lim (Int32.ofNat z.1) kd (Int32.ofNat p1) (Int32.ofNat z.2.2.2.2) sg wr ex))) hb2 hE b4
  obtain ⟨Z, hZ⟩ : ∃ Z, Z = gup S2 q (.inr (ci, rdV b n lim (Int32.ofNat z.1) kd (Int32.ofNat p1) (Int32.ofNat z.2.2.2.2) sg wr ex)) := ⟨_, rfl⟩
  rw [← hZ] at b4
  have xZ : Xo q S Z := x2.tr (by rw [hZ]; exact Xo.up _)
  have xZ5 : Ext Z S5 := b4.1.tr x5
  have hZc : Cel b Z q (.inr (ci, rdV b n lim (Int32.ofNat z.1) kd (Int32.ofNat p1) (Int32.ofNat z.2.2.2.2) sg wr ex)) := by rw [hZ]; exact h2.up _
  have h5 := hZc.ext xZ5
  have nZ : Z.2 = S2.2 := by rw [hZ]; rfl
  have l4 : S.2.1 ≤ S4.2.1 := by have := b4.1.1; rw [nZ, n2] at this; exact this
  have h6 : Cel b (gup S5 q (.inr (ci, rdV b n lim (Int32.ofNat z.1) kd (Int32.ofNat p1) (Int32.ofNat z.2.2.2.2) sg S4.2.1 ex))) q (.inr (ci, rdV b n lim (Int32.ofNat z.1) kd (Int32.ofNat p1) (Int32.ofNat z.2.2.2.2) sg S4.2.1 ex)) := h5.up _
  have hSq : q < S.2.1 := h.2.2
  refine ⟨gup S5 q (.inr (ci, rdV b n lim (Int32.ofNat z.1) (Int32.ofNat (kdC (isl c) z.2.2.1 z.2.1)) (Int32.ofNat p1) (Int32.ofNat z.2.2.2.2) sg S4.2.1 ex)), S4.2.1, ?_, h5.up _, ?_, l4, (xZ.tr xZ5.xo).tr (Xo.up _), ?_, ?_⟩
  · have b46 := fun {β : Type} (K : Int32 → Option β) => rd_46 hk h1 A K
    have b44 := fun {β : Type} (K : Int32 → Option β) => rd_44 hk h1 A K
    have rb := c_rb (E := E) (N := N) (A := A) hk h1 hn (i := p1) (by omega)
    rw [if_pos hs, ← hc] at rb
    have il := c_isl (E := E) (N := N) (S := put b A S1) c256
    have id := c_isd (E := E) (N := N) (S := put b A S1) c256
    have d49 := fun {β : Type} (K : GS → Option β) => rd_w49 (E := E) hk h1 hq A (Int32.ofNat 0) K
    have e12 : gup S1 q (.inr (ci, rdV b n lim (Int32.ofNat p1) kd (Int32.ofNat p1) (Int32.ofNat 0) sg wr ex)) = S2 := by rw [hS1, hS2, gup_gup]
    have k200 : bX6_go_200 E N q (put b A S1) (Int32.ofNat c) = bX6_go_221L E N q N (put b A S3) (bI (isl c)) (bI true) (some S2.2.1) := by
      simp only [bX6_go_200, bX6_go_204, bX6_go_215, bX6_go_219, pq_lit]
      simp (disch := omega) only [↓gbd_h (il), il, ↓d49, e12, ↓gnw_n hb2, ↓gbd_h (nw), nw, bI_t, pq_lit, pq_add, pq_le, pq_lt, pq_eq, pq_en, pq_ne, pq_nle, pq_nlt, pq_len, pq_ltn, pB_z, pB_o, mzt_0, mzt_1, mzt_B, ↓gbd_s, gbd_s, ↓gnn_s, ↓grf_s, eq_self, ↓reduceIte, Nat.reduceEqDiff, Nat.reduceLeDiff, Nat.reduceLT, Nat.reduceMul, Nat.reduceAdd, not_true_eq_false, not_false_eq_true, Bool.false_eq_true]
    have hd : bX6_go_94 E N q (put b A S1) = bX6_go_200 E N q (put b A S1) (Int32.ofNat c) := by
      cases e : isl c with
      | true =>
        rw [e] at il
        simp only [bX6_go_94, bX6_go_119, bX6_go_124, pq_lit]
        simp (disch := omega) only [↓b46, ↓b44, hs, ↓gbd_h (rb), rb, ↓gbd_h (il), il, bI_t, pq_lit, pq_add, pq_le, pq_lt, pq_eq, pq_en, pq_ne, pq_nle, pq_nlt, pq_len, pq_ltn, pB_z, pB_o, mzt_0, mzt_1, mzt_B, ↓gbd_s, gbd_s, ↓gnn_s, ↓grf_s, eq_self, ↓reduceIte, Nat.reduceEqDiff, Nat.reduceLeDiff, Nat.reduceLT, Nat.reduceMul, Nat.reduceAdd, not_true_eq_false, not_false_eq_true, Bool.false_eq_true]
      | false =>
        have e2 : isd c = true := by rcases ha with h | h; (rw [e] at h; cases h); exact h
        rw [e] at il
        rw [e2] at id
        simp only [bX6_go_94, bX6_go_119, bX6_go_124, bX6_go_131, pq_lit]
        simp (disch := omega) only [↓b46, ↓b44, hs, ↓gbd_h (rb), rb, ↓gbd_h (il), il, ↓gbd_h (id), id, bI_t, bI_f, pq_lit, pq_add, pq_le, pq_lt, pq_eq, pq_en, pq_ne, pq_nle, pq_nlt, pq_len, pq_ltn, pB_z, pB_o, mzt_0, mzt_1, mzt_B, ↓gbd_s, gbd_s, ↓gnn_s, ↓grf_s, eq_self, ↓reduceIte, Nat.reduceEqDiff, Nat.reduceLeDiff, Nat.reduceLT, Nat.reduceMul, Nat.reduceAdd, not_true_eq_false, not_false_eq_true, Bool.false_eq_true]
    rw [c_goH hk hq hn hN hl h hp e1 hm, ← hS1, hd, k200, rn, gbd_h ts]
    have d51 := fun {β : Type} (K : GS → Option β) => rd_w51 (E := E) hk h5 hq A S4.2.1 K
    have t46 := fun {β : Type} (K : Int32 → Option β) => rd_46 hk h6 A K
    have t48 := fun {β : Type} (K : Int32 → Option β) => rd_48 hk h6 A K
    have t47 := fun {β : Type} (v : Int32) (K : GS → Option β) => rd_w47 (E := E) hk h6 hq A v K
    have es : Int32.ofNat z.1 - Int32.ofNat p1 = Int32.ofNat z.2.1 := by rw [← zj', pq_sub (by omega)]; congr 1; omega
    unfold kdC
    cases eg : z.2.2.1 with
    | false =>
      simp only [bX6_go_358, bX6_go_388, bX6_go_401, pq_lit]
      simp (disch := omega) only [g_rfs, ↓d51, bI_f, ↓t47, gup_gup, pq_lit, pq_add, pq_le, pq_lt, pq_eq, pq_en, pq_ne, pq_nle, pq_nlt, pq_len, pq_ltn, pB_z, pB_o, mzt_0, mzt_1, mzt_B, ↓gbd_s, gbd_s, ↓gnn_s, ↓grf_s, eq_self, ↓reduceIte, Nat.reduceEqDiff, Nat.reduceLeDiff, Nat.reduceLT, Nat.reduceMul, Nat.reduceAdd, not_true_eq_false, not_false_eq_true, Bool.false_eq_true, false_and]
    | true =>
      cases em : isl c with
      | false =>
        by_cases e3 : z.2.1 ≤ 3
        · simp only [bX6_go_358, bX6_go_385, bX6_go_401, pq_lit]
          simp (disch := omega) only [g_rfs, ↓d51, bI_f, bI_t, ↓t46, ↓t48, es, e3, ↓t47, gup_gup, pq_lit, pq_add, pq_le, pq_lt, pq_eq, pq_en, pq_ne, pq_nle, pq_nlt, pq_len, pq_ltn, pB_z, pB_o, mzt_0, mzt_1, mzt_B, ↓gbd_s, gbd_s, ↓gnn_s, ↓grf_s, eq_self, ↓reduceIte, Nat.reduceEqDiff, Nat.reduceLeDiff, Nat.reduceLT, Nat.reduceMul, Nat.reduceAdd, not_true_eq_false, not_false_eq_true, Bool.false_eq_true, true_and]
        · simp only [bX6_go_358, bX6_go_385, bX6_go_388, bX6_go_401, pq_lit]
          simp (disch := omega) only [g_rfs, ↓d51, bI_f, bI_t, ↓t46, ↓t48, es, e3, ↓t47, gup_gup, pq_lit, pq_add, pq_le, pq_lt, pq_eq, pq_en, pq_ne, pq_nle, pq_nlt, pq_len, pq_ltn, pB_z, pB_o, mzt_0, mzt_1, mzt_B, ↓gbd_s, gbd_s, ↓gnn_s, ↓grf_s, eq_self, ↓reduceIte, Nat.reduceEqDiff, Nat.reduceLeDiff, Nat.reduceLT, Nat.reduceMul, Nat.reduceAdd, not_true_eq_false, not_false_eq_true, Bool.false_eq_true, true_and]
      | true =>
        by_cases e3 : z.2.1 ≤ 7
        · simp only [bX6_go_358, bX6_go_385, bX6_go_401, pq_lit]
          simp (disch := omega) only [g_rfs, ↓d51, bI_f, bI_t, ↓t46, ↓t48, es, e3, ↓t47, gup_gup, pq_lit, pq_add, pq_le, pq_lt, pq_eq, pq_en, pq_ne, pq_nle, pq_nlt, pq_len, pq_ltn, pB_z, pB_o, mzt_0, mzt_1, mzt_B, ↓gbd_s, gbd_s, ↓gnn_s, ↓grf_s, eq_self, ↓reduceIte, Nat.reduceEqDiff, Nat.reduceLeDiff, Nat.reduceLT, Nat.reduceMul, Nat.reduceAdd, not_true_eq_false, not_false_eq_true, Bool.false_eq_true, true_and]
        · simp only [bX6_go_358, bX6_go_385, bX6_go_388, bX6_go_401, pq_lit]
          simp (disch := omega) only [g_rfs, ↓d51, bI_f, bI_t, ↓t46, ↓t48, es, e3, ↓t47, gup_gup, pq_lit, pq_add, pq_le, pq_lt, pq_eq, pq_en, pq_ne, pq_nle, pq_nlt, pq_len, pq_ltn, pB_z, pB_o, mzt_0, mzt_1, mzt_B, ↓gbd_s, gbd_s, ↓gnn_s, ↓grf_s, eq_self, ↓reduceIte, Nat.reduceEqDiff, Nat.reduceLeDiff, Nat.reduceLT, Nat.reduceMul, Nat.reduceAdd, not_true_eq_false, not_false_eq_true, Bool.false_eq_true, true_and]
  · obtain ⟨v, f1, f2, f3, f, f4, f5⟩ := s5
    have hq4 : q < S4.2.1 := by omega
    refine ⟨v, ?_, f2, f3, f, ?_, f5⟩
    · rcases f1 with ⟨hh, zz, f1⟩ | f1
      · exact Or.inl ⟨hh, zz, f1.uo (by omega) _⟩
      · exact Or.inr (f1.uo (by omega) _)
    · refine f4.uo ?_ _
      intro ev
      subst ev
      have e1 := f4.1.symm.trans h5.1
      cases e1
  · show S5.2.2.1 ≤ _
    rw [n5, show S4.2.2.1 = S3.2.2.1 by rw [n4], n3, n2]
    exact Nat.le_refl _
  · show S5.2.2.2 ≤ _
    have l7 : z.2.2.2.1.length ≤ 7 := by rw [zp.1]; omega
    rw [n5, show S4.2.2.2 = S3.2.2.2 by rw [n4], n3, n2]
    show S.2.2.2 + 20 + 4 + _ ≤ _
    omega
end RC
