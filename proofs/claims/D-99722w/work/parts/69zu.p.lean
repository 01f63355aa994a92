/-! maps: the component's beginning; new lists -/
section MK
variable {E : gE} {N b : Nat} {A : FA} {S : GS} {M : MS} {a : Nat} {d : AD} {h : St}
theorem c_be133 (hE : E.1 ≤ b) (hA : AtD b S a h d) (h6 : nP h ≤ 6) : ∀ (k i m : Nat) (A : FA), (aT A 0).1 = some a → i + k = nP h → k < m → bX3_begin_133L E N (tad b 0) m (put b A S) (Int32.ofNat i) = some (some (tad b 0), put b (sS A 0 (two2 h 108 79 114 85 k i (tS A 0))) S)
  | k, i, 0, A, ha, h1, h2 => by omega
  | 0, i, m + 1, A, ha, h1, h2 => by
    have e1 : nP h ≤ i := by omega
    have ps : vInchBorders_Times_persons___I E N (put b A S) (some (tad b 0)) = some (Int32.ofNat (nP h), put b A S) := by
      simp only [vInchBorders_Times_persons___I, t_cls (show 0 < 12 by omega), if_true, bX3_persons_0, fX3_persons, t_a (show 0 < 12 by omega), ha, a_27 hA, a_sP hA, gbd_s]
    show _ = some (some (tad b 0), put b (sS A 0 (aT A 0).2.2) S)
    rw [sS_id]
    simp only [bX3_begin_133L, bX3_begin_133, pq_lit]
    simp (disch := omega) only [↓gbd_h (ps), ps, e1, ↓gbd_s, gbd_s, ↓gbx_s, gbx_s, ↓gnn_s, ↓grf_s, eq_self, ↓reduceIte, Nat.reduceEqDiff, Nat.reduceLeDiff, Nat.reduceLT, Nat.reduceMul, Nat.reduceAdd, not_true_eq_false, not_false_eq_true, Bool.false_eq_true, pq_lit, pq_add, pq_le, pq_lt, pq_eq, pq_en, pq_ne, pq_nle, pq_nlt, pq_len, pq_ltn, pB_z, pB_o, mzt_0, mzt_1, mzt_B]
  | k + 1, i, m + 1, A, ha, h1, h2 => by
    have e1 : ¬ nP h ≤ i := by omega
    have hi : i < nP h := by omega
    have ps : vInchBorders_Times_persons___I E N (put b A S) (some (tad b 0)) = some (Int32.ofNat (nP h), put b A S) := by
      simp only [vInchBorders_Times_persons___I, t_cls (show 0 < 12 by omega), if_true, bX3_persons_0, fX3_persons, t_a (show 0 < 12 by omega), ha, a_27 hA, a_sP hA, gbd_s]
    obtain ⟨A1, hA1⟩ : ∃ A1, A1 = sS A 0 (upd (aT A 0).2.2 (108 + i) (h (79 + i))) := ⟨_, rfl⟩
    obtain ⟨A2, hA2⟩ : ∃ A2, A2 = sS A1 0 (upd (aT A1 0).2.2 (114 + i) (h (85 + i))) := ⟨_, rfl⟩
    have a1 : (aT A1 0).1 = some a := by rw [hA1, aT_sS]; exact ha
    have a2 : (aT A2 0).1 = some a := by rw [hA2, aT_sS]; exact a1
    have t2 : tS A2 0 = upd (upd (tS A 0) (108 + i) (h (79 + i))) (114 + i) (h (85 + i)) := by
      unfold tS; rw [hA2, aT_sS, hA1, aT_sS]
    have ih := c_be133 hE hA h6 k (i + 1) m A2 a2 (by omega) (by omega)
    have e2 : sS A2 0 (two2 h 108 79 114 85 k (i + 1) (tS A2 0)) = sS A 0 (two2 h 108 79 114 85 (k + 1) i (tS A 0)) := by
      rw [t2, hA2, hA1, sS_sS, sS_sS]; rfl
    rw [e2] at ih
    rw [← ih]
    have hm := a_home (E := E) (N := N) (A := A) hA hi
    have gp := a_gP (E := E) (N := N) (A := A1) hA hi
    have f0 := fun {β : Type} (K : Option Nat → Option β) => t_a (b := b) (A := A) (S := S) (j := 0) (by omega) K
    rw [ha] at f0
    have f1 := fun {β : Type} (K : Option Nat → Option β) => t_a (b := b) (A := A1) (S := S) (j := 0) (by omega) K
    rw [a1] at f1
    have g27 := fun {β : Type} (K : Option Nat → Option β) => a_27 (A := A1) hA K
    have gc8 := fun {β : Type} (K : Option β) => a_cP (A := A1) hA hi K
    have g72 := fun {β : Type} (K : Int32 → Option β) => a_72 (A := A1) hA hi K
    have w3 := fun {β : Type} (K : GS → Option β) => t_w3 (S := S) hE (A := A) (j := 0) (by omega) (i := i) (by omega) (h (79 + i)) K
    have w4 := fun {β : Type} (K : GS → Option β) => t_w4 (S := S) hE (A := A1) (j := 0) (by omega) (i := i) (by omega) (h (85 + i)) K
    have f34 := fun {β : Type} (K : Option Nat → Option β) => t_34 (b := b) (A := A) (S := S) (j := 0) (by omega) K
    have f35 := fun {β : Type} (K : Option Nat → Option β) => t_35 (b := b) (A := A1) (S := S) (j := 0) (by omega) K
    rw [← hA1] at w3
    rw [← hA2] at w4
    simp only [bX3_begin_133L, bX3_begin_133, pq_lit]
    simp (disch := omega) only [↓gbd_h (ps), ps, e1, ↓f34, ↓f0, ↓gbd_h (hm), hm, ↓w3, ↓f35, ↓f1, ↓g27, ↓gbd_h (gp), gp, ↓gc8, ↓g72, ↓w4, ↓gbd_s, gbd_s, ↓gbx_s, gbx_s, ↓gnn_s, ↓grf_s, eq_self, ↓reduceIte, Nat.reduceEqDiff, Nat.reduceLeDiff, Nat.reduceLT, Nat.reduceMul, Nat.reduceAdd, not_true_eq_false, not_false_eq_true, Bool.false_eq_true, pq_lit, pq_add, pq_le, pq_lt, pq_eq, pq_en, pq_ne, pq_nle, pq_nlt, pq_len, pq_ltn, pB_z, pB_o, mzt_0, mzt_1, mzt_B]
theorem c_be71 (hE : E.1 ≤ b) (hA : AtD b S a h d) (h7 : nL h ≤ 7) : ∀ (k i m : Nat) (A : FA), (aT A 0).1 = some a → i + k = nL h → k < m → bX3_begin_71L E N (tad b 0) m (put b A S) (Int32.ofNat i) = bX3_begin_133L E N (tad b 0) N (put b (sS A 0 (two2 h 94 17 101 72 k i (tS A 0))) S) (Int32.ofNat 0)
  | k, i, 0, A, ha, h1, h2 => by omega
  | 0, i, m + 1, A, ha, h1, h2 => by
    have e1 : nL h ≤ i := by omega
    have ps : vInchBorders_Times_lands___I E N (put b A S) (some (tad b 0)) = some (Int32.ofNat (nL h), put b A S) := by
      simp only [vInchBorders_Times_lands___I, t_cls (show 0 < 12 by omega), if_true, bX3_lands_0, fX3_lands, t_a (show 0 < 12 by omega), ha, a_25 hA, a_sL hA, gbd_s]
    show _ = bX3_begin_133L E N (tad b 0) N (put b (sS A 0 (aT A 0).2.2) S) (Int32.ofNat 0)
    rw [sS_id]
    simp only [bX3_begin_71L, bX3_begin_71, pq_lit]
    simp (disch := omega) only [↓gbd_h (ps), ps, e1, ↓gbd_s, gbd_s, ↓gbx_s, gbx_s, ↓gnn_s, ↓grf_s, eq_self, ↓reduceIte, Nat.reduceEqDiff, Nat.reduceLeDiff, Nat.reduceLT, Nat.reduceMul, Nat.reduceAdd, not_true_eq_false, not_false_eq_true, Bool.false_eq_true, pq_lit, pq_add, pq_le, pq_lt, pq_eq, pq_en, pq_ne, pq_nle, pq_nlt, pq_len, pq_ltn, pB_z, pB_o, mzt_0, mzt_1, mzt_B]
  | k + 1, i, m + 1, A, ha, h1, h2 => by
    have e1 : ¬ nL h ≤ i := by omega
    have hi : i < nL h := by omega
    have ps : vInchBorders_Times_lands___I E N (put b A S) (some (tad b 0)) = some (Int32.ofNat (nL h), put b A S) := by
      simp only [vInchBorders_Times_lands___I, t_cls (show 0 < 12 by omega), if_true, bX3_lands_0, fX3_lands, t_a (show 0 < 12 by omega), ha, a_25 hA, a_sL hA, gbd_s]
    obtain ⟨A1, hA1⟩ : ∃ A1, A1 = sS A 0 (upd (aT A 0).2.2 (94 + i) (h (17 + i))) := ⟨_, rfl⟩
    obtain ⟨A2, hA2⟩ : ∃ A2, A2 = sS A1 0 (upd (aT A1 0).2.2 (101 + i) (h (72 + i))) := ⟨_, rfl⟩
    have a1 : (aT A1 0).1 = some a := by rw [hA1, aT_sS]; exact ha
    have a2 : (aT A2 0).1 = some a := by rw [hA2, aT_sS]; exact a1
    have t2 : tS A2 0 = upd (upd (tS A 0) (94 + i) (h (17 + i))) (101 + i) (h (72 + i)) := by
      unfold tS; rw [hA2, aT_sS, hA1, aT_sS]
    have ih := c_be71 hE hA h7 k (i + 1) m A2 a2 (by omega) (by omega)
    have e2 : sS A2 0 (two2 h 94 17 101 72 k (i + 1) (tS A2 0)) = sS A 0 (two2 h 94 17 101 72 (k + 1) i (tS A 0)) := by
      rw [t2, hA2, hA1, sS_sS, sS_sS]; rfl
    rw [e2] at ih
    rw [← ih]
    have gl := a_gL (E := E) (N := N) (A := A) hA hi
    have gl1 := a_gL (E := E) (N := N) (A := A1) hA hi
    have f0 := fun {β : Type} (K : Option Nat → Option β) => t_a (b := b) (A := A) (S := S) (j := 0) (by omega) K
    rw [ha] at f0
    have f1 := fun {β : Type} (K : Option Nat → Option β) => t_a (b := b) (A := A1) (S := S) (j := 0) (by omega) K
    rw [a1] at f1
    have g25 := fun {β : Type} (K : Option Nat → Option β) => a_25 (A := A) hA K
    have g25' := fun {β : Type} (K : Option Nat → Option β) => a_25 (A := A1) hA K
    have gc6 := fun {β : Type} (K : Option β) => a_cL (A := A) hA hi K
    have gc6' := fun {β : Type} (K : Option β) => a_cL (A := A1) hA hi K
    have g64 := fun {β : Type} (K : Int32 → Option β) => a_64 (A := A) hA hi K
    have g65 := fun {β : Type} (K : Int32 → Option β) => a_65 (A := A1) hA hi K
    have w1 := fun {β : Type} (K : GS → Option β) => t_w1 (S := S) hE (A := A) (j := 0) (by omega) (i := i) (by omega) (h (17 + i)) K
    have w2 := fun {β : Type} (K : GS → Option β) => t_w2 (S := S) hE (A := A1) (j := 0) (by omega) (i := i) (by omega) (h (72 + i)) K
    have f32 := fun {β : Type} (K : Option Nat → Option β) => t_32 (b := b) (A := A) (S := S) (j := 0) (by omega) K
    have f33 := fun {β : Type} (K : Option Nat → Option β) => t_33 (b := b) (A := A1) (S := S) (j := 0) (by omega) K
    rw [← hA1] at w1
    rw [← hA2] at w2
    simp only [bX3_begin_71L, bX3_begin_71, pq_lit]
    simp (disch := omega) only [↓gbd_h (ps), ps, e1, ↓f32, ↓f0, ↓g25, ↓gbd_h (gl), gl, ↓gc6, ↓g64, ↓w1, ↓f33, ↓f1, ↓g25', ↓gbd_h (gl1), gl1, ↓gc6', ↓g65, ↓w2, ↓gbd_s, gbd_s, ↓gbx_s, gbx_s, ↓gnn_s, ↓grf_s, eq_self, ↓reduceIte, Nat.reduceEqDiff, Nat.reduceLeDiff, Nat.reduceLT, Nat.reduceMul, Nat.reduceAdd, not_true_eq_false, not_false_eq_true, Bool.false_eq_true, pq_lit, pq_add, pq_le, pq_lt, pq_eq, pq_en, pq_ne, pq_nle, pq_nlt, pq_len, pq_ltn, pB_z, pB_o, mzt_0, mzt_1, mzt_B]
theorem cpR_z (s : St) (o n k : Nat) : cpR s (fun _ => Int32.ofNat 0) o n k = if o ≤ k ∧ k < o + n then Int32.ofNat 0 else s k := rfl
theorem c_begin (hE : E.1 ≤ b) (hN : 1000 ≤ N) (hA : AtD b S a h d) {w : Int32} (vb : VB h w) (g : St) : vInchBorders_Times_begin__LInchBorders_Atlas__LInchBorders_Times_ E N (put b A S) (some (tad b 0)) (some a) = some (some (tad b 0), put b (sT A 0 (some a, (aT A 0).2.1, begF h g)) S) := by
  have h7 := vb.1.2.1
  have h6 := vb.1.2.2.2.2.2
  have l12 : 0 < 12 := by omega
  obtain ⟨A0, hA0⟩ : ∃ A0, A0 = sT A 0 (some a, (aT A 0).2) := ⟨_, rfl⟩
  obtain ⟨f, hf⟩ : ∃ f : St, f = cpR (cpR (cpR (cpR (cpR (cpR (cpR (upd (upd (upd (aT A 0).2.2 91 (Int32.ofNat 0)) 92 (Int32.ofNat 0)) 93 (Int32.ofNat 0)) (fun _ => Int32.ofNat 0) 94 7) (fun _ => Int32.ofNat 0) 101 7) (fun _ => Int32.ofNat 0) 108 6) (fun _ => Int32.ofNat 0) 114 6) (fun _ => Int32.ofNat 0) 120 6) (fun _ => Int32.ofNat 0) 126 6) (fun _ => Int32.ofNat 0) 132 6 := ⟨_, rfl⟩
  have a0 : aT A0 0 = (some a, (aT A 0).2) := by rw [hA0]; exact aT_sT _ _ _
  have fz : ∀ k, 91 ≤ k → k < 138 → f k = Int32.ofNat 0 := by
    intro k k1 k2
    rw [hf, cpR_z, cpR_z, cpR_z, cpR_z, cpR_z, cpR_z, cpR_z]
    by_cases q1 : k < 94
    · rw [if_neg (by omega), if_neg (by omega), if_neg (by omega), if_neg (by omega), if_neg (by omega), if_neg (by omega), if_neg (by omega)]
      have : k = 91 ∨ k = 92 ∨ k = 93 := by omega
      rcases this with rfl | rfl | rfl
      · rw [upd_o _ _ (by omega), upd_o _ _ (by omega), upd_s]
      · rw [upd_o _ _ (by omega), upd_s]
      · rw [upd_s]
    · by_cases q7 : 132 ≤ k
      · rw [if_pos (by omega)]
      · rw [if_neg (by omega)]
        by_cases q6 : 126 ≤ k
        · rw [if_pos (by omega)]
        · rw [if_neg (by omega)]
          by_cases q5 : 120 ≤ k
          · rw [if_pos (by omega)]
          · rw [if_neg (by omega)]
            by_cases q4 : 114 ≤ k
            · rw [if_pos (by omega)]
            · rw [if_neg (by omega)]
              by_cases q3 : 108 ≤ k
              · rw [if_pos (by omega)]
              · rw [if_neg (by omega)]
                by_cases q2 : 101 ≤ k
                · rw [if_pos (by omega)]
                · rw [if_neg (by omega), if_pos (by omega)]
  have pre : vInchBorders_Times_begin__LInchBorders_Atlas__LInchBorders_Times_ E N (put b A S) (some (tad b 0)) (some a) = bX3_begin_71L E N (tad b 0) N (put b (sS A0 0 f) S) (Int32.ofNat 0) := by
    have v : vInchBorders_Times_begin__LInchBorders_Atlas__LInchBorders_Times_ E N (put b A S) (some (tad b 0)) (some a) = fX3_begin E N (put b A S) (tad b 0) (some a) := by
      simp only [vInchBorders_Times_begin__LInchBorders_Atlas__LInchBorders_Times_]
      rw [t_cls l12]; rfl
    rw [v]
    unfold fX3_begin bX3_begin_0
    simp only [pq_lit]
    rw [t_pa hE l12, ← hA0, t_p29 hE l12, t_p30 hE l12, t_p31 hE l12, t_32 l12, gbd_h (t_z1 hE (by omega) l12), t_33 l12, gbd_h (t_z2 hE (by omega) l12), t_34 l12, gbd_h (t_z3 hE (by omega) l12), t_35 l12, gbd_h (t_z4 hE (by omega) l12), t_36 l12, gbd_h (t_z5 hE (by omega) l12), t_37 l12, gbd_h (t_z6 hE (by omega) l12), t_38 l12, gbd_h (t_z7 hE (by omega) l12)]
    simp only [aT_sS, sS_sS, a0]
    rw [← hf]
  have b0 : (aT (sS A0 0 f) 0).1 = some a := by rw [aT_sS, a0]
  have t0 : tS (sS A0 0 f) 0 = f := by unfold tS; rw [aT_sS]
  rw [pre, c_be71 hE hA h7 (nL h) 0 N (sS A0 0 f) b0 (by omega) (by omega), t0, sS_sS]
  obtain ⟨f1, hf1⟩ : ∃ f1, f1 = two2 h 94 17 101 72 (nL h) 0 f := ⟨_, rfl⟩
  rw [← hf1]
  have b1 : (aT (sS A0 0 f1) 0).1 = some a := by rw [aT_sS, a0]
  have t1 : tS (sS A0 0 f1) 0 = f1 := by unfold tS; rw [aT_sS]
  rw [c_be133 hE hA h6 (nP h) 0 N (sS A0 0 f1) b1 (by omega) (by omega), t1, sS_sS]
  have e1 : sS A0 0 (two2 h 108 79 114 85 (nP h) 0 f1) = sT A 0 (some a, (aT A 0).2.1, two2 h 108 79 114 85 (nP h) 0 f1) := by
    show sT A0 0 ((aT A0 0).1, (aT A0 0).2.1, _) = _
    rw [a0, hA0, sT_sT]
  rw [e1]
  have pe := put_eq (b := b) (A := A) (S := S) (j := 0) (x := (some a, (aT A 0).2.1, two2 h 108 79 114 85 (nP h) 0 f1)) (y := (some a, (aT A 0).2.1, begF h g)) rfl rfl (fun k k1 k2 => by
    show two2 h 108 79 114 85 (nP h) 0 f1 k = begF h g k
    rw [two2_v (nP h) 0 f1 k (by omega), hf1, two2_v (nL h) 0 f k (by omega), fz k k1 k2]
    obtain ⟨_, z2, _, z4, _⟩ := vb
    by_cases q1 : k < 94
    · rw [begF_z (by omega), if_neg (by omega), if_neg (by omega), if_neg (by omega), if_neg (by omega)]
    · by_cases q2 : k < 101
      · obtain ⟨l, rfl⟩ : ∃ l, k = 94 + l := ⟨k - 94, by omega⟩
        rw [begF_94 (by omega), if_neg (by omega), if_neg (by omega), show 94 + l - 94 = l by omega]
        by_cases ql : l < nL h
        · rw [if_pos (by omega)]
        · rw [if_neg (by omega), if_neg (by omega), ((z2 l (by omega)).2.2.2.2 (by omega)).1]
      · by_cases q3 : k < 108
        · obtain ⟨l, rfl⟩ : ∃ l, k = 101 + l := ⟨k - 101, by omega⟩
          rw [begF_101 (by omega), if_neg (by omega), if_neg (by omega), if_neg (by omega), show 101 + l - 101 = l by omega]
          by_cases ql : l < nL h
          · rw [if_pos (by omega)]
          · rw [if_neg (by omega), ((z2 l (by omega)).2.2.2.2 (by omega)).2]
        · by_cases q4 : k < 114
          · obtain ⟨l, rfl⟩ : ∃ l, k = 108 + l := ⟨k - 108, by omega⟩
            rw [begF_108 (by omega), show 108 + l - 108 = l by omega]
            by_cases ql : l < nP h
            · rw [if_pos (by omega)]
            · rw [if_neg (by omega), if_neg (by omega), if_neg (by omega), if_neg (by omega), ((z4 l (by omega)).2.1 (by omega)).1]
          · by_cases q5 : k < 120
            · obtain ⟨l, rfl⟩ : ∃ l, k = 114 + l := ⟨k - 114, by omega⟩
              rw [begF_114 (by omega), if_neg (by omega), show 114 + l - 114 = l by omega]
              by_cases ql : l < nP h
              · rw [if_pos (by omega)]
              · rw [if_neg (by omega), if_neg (by omega), if_neg (by omega), ((z4 l (by omega)).2.1 (by omega)).2]
            · rw [begF_z (by omega), if_neg (by omega), if_neg (by omega), if_neg (by omega), if_neg (by omega)])
  rw [pe]
/-- a list is made -/
theorem n_list (hb : b + 111 ≤ S.2.1) (hE : E.1 ≤ b) {z : Nat} (ez : E.2.2 0 = some z) : ∃ Sp S', (∀ {β : Type} (K : Nat → GS → Option β), gnw (put b A S) 24 K = K S.2.1 (put b A Sp)) ∧ fJ2_init E N (put b A Sp) S.2.1 = some (Int32.ofNat 0, put b A S') ∧ Ext S S' ∧ S'.2 = (S.2.1 + 1, S.2.2.1 + 1, S.2.2.2 + 3) ∧ Cel b S' S.2.1 (.inr (24, [.int (Int32.ofNat 0), .ref z, .int (Int32.ofNat 0)])) := by
  obtain ⟨Sp, hSp⟩ : ∃ Sp, Sp = gpush S (.inr (24, gdf 24)) (gdf 24).length := ⟨_, rfl⟩
  have l3 : Cel b Sp S.2.1 (.inr (24, [.int (Int32.ofNat 0), .null, .int (Int32.ofNat 0)])) := by rw [hSp]; exact Cel.push hb _ _
  have hg1 : E.1 ≤ S.2.1 := by omega
  obtain ⟨S4, hS4⟩ : ∃ S4, S4 = gup Sp S.2.1 (.inr (24, [.int (Int32.ofNat 0), .ref z, .int (Int32.ofNat 0)])) := ⟨_, rfl⟩
  refine ⟨Sp, S4, fun K => by rw [gnw_n hb, ← hSp], ?_, ?_, ?_, ?_⟩
  · simp only [bJ2_init_0, fJ2_init, bJ1_init_0, fJ1_init, bJ0_init_0, fJ0_init, pq_lit]
    simp (disch := omega) only [ez, g_rfs, ↓w24_110 l3 hg1, ↓w24_111 (l3.up _) hg1, gup_gup, ↓gbd_s, gbd_s, ↓gbx_s, gbx_s, ↓gnn_s, ↓grf_s, eq_self, ↓reduceIte, Nat.reduceEqDiff, Nat.reduceLeDiff, Nat.reduceLT, Nat.reduceMul, Nat.reduceAdd, not_true_eq_false, not_false_eq_true, Bool.false_eq_true, pq_lit, pq_add, pq_le, pq_lt, pq_eq, pq_en, pq_ne, pq_nle, pq_nlt, pq_len, pq_ltn, pB_z, pB_o, mzt_0, mzt_1, mzt_B]
    rw [hS4]
  · rw [hS4, hSp]; exact (Ext.push _ _ _).gup (Nat.le_refl _)
  · rw [hS4, hSp]; rfl
  · rw [hS4]; exact l3.up _
theorem m_clrL : ∀ (k i m : Nat) (M : MS), i + k = 91 → k < m → bX5_clears_2L N m M (Int32.ofNat i) = some (Int32.ofNat 0, mR M 7 (fun j => if i ≤ j ∧ j < 91 then Int32.ofNat 0 else M.2.2.1 7 j))
  | k, i, 0, M, h1, h2 => by omega
  | 0, i, m + 1, M, h1, h2 => by
    have e1 : 91 ≤ i := by omega
    have eg : (fun j => if i ≤ j ∧ j < 91 then Int32.ofNat 0 else M.2.2.1 7 j) = M.2.2.1 7 := by funext j; rw [if_neg (by omega)]
    rw [eg, mR_id]
    simp only [bX5_clears_2L, bX5_clears_2, pq_lit]
    simp (disch := omega) only [e1, eq_self, ↓reduceIte, Nat.reduceEqDiff, Nat.reduceLeDiff, Nat.reduceLT, Nat.reduceMul, Nat.reduceAdd, not_true_eq_false, not_false_eq_true, Bool.false_eq_true, pq_lit, pq_add, pq_le, pq_lt, pq_eq, pq_en, pq_ne, pq_nle, pq_nlt, pq_len, pq_ltn, pB_z, pB_o, mzt_0, mzt_1, mzt_B]
  | k + 1, i, m + 1, M, h1, h2 => by
    have e1 : ¬ 91 ≤ i := by omega
    have ih := m_clrL k (i + 1) m (mR M 7 (upd (M.2.2.1 7) i (Int32.ofNat 0))) (by omega) (by omega)
    have eg : (fun j => if i + 1 ≤ j ∧ j < 91 then Int32.ofNat 0 else (mR M 7 (upd (M.2.2.1 7) i (Int32.ofNat 0))).2.2.1 7 j) = fun j => if i ≤ j ∧ j < 91 then Int32.ofNat 0 else M.2.2.1 7 j := by
      funext j
      rw [mA_e]
      by_cases q : j = i
      · rw [if_neg (by omega), if_pos (by omega), q, upd_s]
      · rw [upd_o _ _ q]
        by_cases q2 : i ≤ j ∧ j < 91
        · rw [if_pos q2, if_pos (by omega)]
        · rw [if_neg q2, if_neg (by omega)]
    rw [mR_mR, eg] at ih
    rw [← ih]
    simp only [bX5_clears_2L, bX5_clears_2, pq_lit]
    simp (disch := omega) only [e1, ↓mwr_n, mwr_n, ma_s, eq_self, ↓reduceIte, Nat.reduceEqDiff, Nat.reduceLeDiff, Nat.reduceLT, Nat.reduceMul, Nat.reduceAdd, not_true_eq_false, not_false_eq_true, Bool.false_eq_true, pq_lit, pq_add, pq_le, pq_lt, pq_eq, pq_en, pq_ne, pq_nle, pq_nlt, pq_len, pq_ltn, pB_z, pB_o, mzt_0, mzt_1, mzt_B]
theorem m_clr (hN : 1000 ≤ N) (M : MS) : fX5_clears N M = some (Int32.ofNat 0, mR M 7 (fun j => if 0 ≤ j ∧ j < 91 then Int32.ofNat 0 else M.2.2.1 7 j)) := m_clrL 91 0 N M (by omega) (by omega)
end MK
