/-! the component's Times: draws, lengths, a beginning -/
theorem TA.st {b : Nat} {S : GS} {A : FA} {j a : Nat} {d : AD} (h : TA b S A j a d) {s' : St} (sd : Int32) (m : Mp (tS A j) s') (i : IvS s') : TA b S (sT A j ((aT A j).1, sd, s')) j a d := by
  refine ⟨h.1, ?_, ?_, ?_⟩
  · rw [aT_sT]; exact h.2.1
  · unfold tS; rw [aT_sT]; exact h.2.2.1.mp h.2.2.2 m
  · unfold tS; rw [aT_sT]; exact i
theorem tS_st (A : FA) (j : Nat) (x : FT) : tS (sT A j x) j = x.2.2 := by unfold tS; rw [aT_sT]
theorem sS_sT (A : FA) (j : Nat) (x : FT) (s : St) : sS (sT A j x) j s = sT A j (x.1, x.2.1, s) := by unfold sS; rw [sT_sT, aT_sT]
theorem sT_sS (A : FA) (j : Nat) (x : FT) (s : St) : sT (sS A j s) j x = sT A j x := sT_sT _ _ _ _
theorem sT_id (A : FA) (j : Nat) : sT A j (aT A j) = A := sS_id A j
theorem sT_id' (A : FA) (j : Nat) : sT A j ((aT A j).1, (aT A j).2.1, (aT A j).2.2) = A := sS_id A j
theorem mp_drR {sd : Int32} {s : St} : Mp s (drR sd s).2 := by
  unfold drR
  split
  · exact Mp.rf.up (by omega)
  · exact Mp.rf
theorem mp_drP : ∀ (k p : Nat) (sd : Int32) (s : St), Mp s (drP p k sd s).2
  | 0, _, _, _ => Mp.rf
  | k + 1, p, sd, s => by
    unfold drP
    refine Mp.tr ?_ (mp_drP k _ _ _)
    split
    · exact mp_cr
    · exact Mp.rf
theorem mp_drD {sd : Int32} {s : St} : Mp s (drD sd s).2 := (mp_drR.tr (mp_drP _ _ _ _)).tr mp_day
theorem mp_dr : ∀ (k e : Nat) (sd : Int32) (s : St), Mp s (drF k e sd s).2.2
  | 0, _, _, _ => Mp.rf
  | k + 1, e, sd, s => by
    unfold drF
    split
    · exact mp_drD.tr (mp_dr k _ _ _)
    · exact Mp.rf
theorem cr_91 {s : St} {p l : Nat} : crS s p l 91 = s 91 := by
  unfold crS
  simp only []
  rw [upd_o _ _ (by omega), upd_o _ _ (by omega), upd_o _ _ (by omega)]
  split
  · rw [upd_o _ _ (by omega), upd_o _ _ (by omega), upd_o _ _ (by omega)]
  · split
    · rw [upd_o _ _ (by omega), upd_o _ _ (by omega), upd_o _ _ (by omega)]
    · rfl
theorem drR_91 {sd : Int32} {s : St} : (drR sd s).2 91 = s 91 := by
  unfold drR
  split
  · show upd s 93 (s 93 ^^^ p1 (drw (dsd (dsd sd)) (nR s))) 91 = s 91
    rw [upd_o _ _ (by omega)]
  · rfl
theorem drP_91 : ∀ (k p : Nat) (sd : Int32) (s : St), (drP p k sd s).2 91 = s 91
  | 0, _, _, _ => rfl
  | k + 1, p, sd, s => by
    unfold drP
    rw [drP_91 k]
    split
    · exact cr_91
    · rfl
theorem IvD.eq {s s' : St} (h : IvD s) (e : s' 91 = s 91) : IvD s' := by
  obtain ⟨k, hk, q⟩ := h
  exact ⟨k, hk, e.trans q⟩
theorem IvD.drD {s : St} (h : IvD s) (q : s 91 < Int32.ofNat 400) (sd : Int32) : IvD (drD sd s).2 := by
  have e : (drP 0 (nP s) (drR sd s).1 (drR sd s).2).2 91 = s 91 := (drP_91 _ _ _ _).trans drR_91
  exact (h.eq e).day (by rw [e]; exact q)
theorem IvD.go : ∀ (k e : Nat) {s : St}, IvD s → IvD (goF k e s).2
  | 0, _, _, h => h
  | k + 1, e, s, h => by
    unfold goF
    split
    · rename_i q
      exact IvD.go k _ (h.day q)
    · exact h
theorem IvD.dr : ∀ (k e : Nat) (sd : Int32) {s : St}, IvD s → IvD (drF k e sd s).2.2
  | 0, _, _, _, h => h
  | k + 1, e, sd, s, h => by
    unfold drF
    split
    · rename_i q
      exact IvD.dr k _ _ (h.drD q sd)
    · exact h
theorem iv_dr : ∀ (k e : Nat) (sd : Int32) {s : St}, IvS s → 0 < nL s → IvS (drF k e sd s).2.2
  | 0, _, _, _, h, _ => h
  | k + 1, e, sd, s, h, h0 => by
    unfold drF
    split
    · have h1 := iv_drD h sd h0
      exact iv_dr k _ _ h1.1 (by rw [h1.2.2.1]; exact h0)
    · exact h
theorem iv_go : ∀ (k e : Nat) {s : St}, IvS s → IvS (goF k e s).2
  | 0, _, _, h => h
  | k + 1, e, s, h => by
    unfold goF
    split
    · exact iv_go k _ h.day.1
    · exact h
section TD
variable {E : gE} {N b : Nat} {A : FA} {S : GS} {j a : Nat} {d : AD}
theorem c_drP (hE : E.1 ≤ b) (hN : 100 ≤ N) {K7 : GS → Int32 → Int32 → Option (Int32 × GS)} {x1 x3 : Int32} : ∀ (k p n : Nat) (A : FA), TA b S A j a d → 0 < nL (tS A j) → p + k = nP (tS A j) → k < n → bX3_drawn_68L E N (tad b j) K7 n (put b A S) x1 x3 (Int32.ofNat p) = K7 (put b (sT A j ((aT A j).1, (drP p k (aT A j).2.1 (tS A j)).1, dayS (drP p k (aT A j).2.1 (tS A j)).2)) S) x1 (x3 + Int32.ofNat 1)
  | k, p, 0, A, _, _, _, h => by omega
  | 0, p, n + 1, A, h, _, hk, _ => by
    have h6 := h.2.2.2.p6
    simp (disch := omega) only [bX3_drawn_68L, bX3_drawn_106, bX3_drawn_68, bX3_drawn_65, bX3_drawn_122, bX3_drawn_7, bX3_drawn_0, fX3_drawn, c_persons h, c_day h hE hN, pq_lit, pq_add, pq_le, pq_lt, pq_eq, pq_en, pq_ne, pq_nle, pq_nlt, pq_len, pq_ltn, pB_z, pB_o, mzt_0, mzt_1, mzt_B, gbd_s, gnn_s, grf_s, drP]
    rw [if_pos (by omega)]
    rfl
  | k + 1, p, n + 1, A, h, h0, hk, hn => by
    have hI := h.2.2.2
    have h6 := hI.p6
    have h7 := hI.l7
    have hp : p < nP (tS A j) := by omega
    have hl := drw_lt (dsd (aT A j).2.1) h0
    have i1 := iv_drP1 hI (p := p) (aT A j).2.1 hp h0
    have m1 : Mp (tS A j) (if whyC (tS A j) p (drw (dsd (aT A j).2.1) (nL (tS A j))) = Int32.ofNat 0 then crS (tS A j) p (drw (dsd (aT A j).2.1) (nL (tS A j))) else tS A j) := by
      split
      · exact mp_cr
      · exact Mp.rf
    have ih := c_drP hE hN (K7 := K7) (x1 := x1) (x3 := x3) k (p + 1) n (sT A j ((aT A j).1, dsd (aT A j).2.1, if whyC (tS A j) p (drw (dsd (aT A j).2.1) (nL (tS A j))) = Int32.ofNat 0 then crS (tS A j) p (drw (dsd (aT A j).2.1) (nL (tS A j))) else tS A j)) (h.st _ m1 i1.1) (by rw [tS_st]; exact Nat.lt_of_lt_of_eq h0 i1.2.2.1.symm) (by rw [tS_st]; show _ = nP _; rw [i1.2.1]; omega) (by omega)
    simp only [tS_st, aT_sT, sT_sT] at ih
    have h2 : TA b S (sT A j ((aT A j).1, dsd (aT A j).2.1, tS A j)) j a d := h.st _ Mp.rf hI
    simp (disch := omega) only [bX3_drawn_68L, bX3_drawn_106, bX3_drawn_68, bX3_drawn_65, bX3_drawn_122, bX3_drawn_7, bX3_drawn_0, fX3_drawn, c_persons h, c_lands h, c_draw h hE h0, pq_lit, pq_add, pq_le, pq_lt, pq_eq, pq_en, pq_ne, pq_nle, pq_nlt, pq_len, pq_ltn, pB_z, pB_o, mzt_0, mzt_1, mzt_B, gbd_s, gnn_s, grf_s]
    rw [if_neg (by omega), c_whyC h2 hN (by rw [tS_st]; exact hp) (by rw [tS_st]; exact hl), gbd_s, c_cr h2 hE (by rw [tS_st]; exact hp) (by rw [tS_st]; exact hl), gbd_s, tS_st, sS_sT]
    unfold drP
    rw [← ih]
    split
    · rfl
    · rfl
theorem c_drL (hE : E.1 ≤ b) (hN : 1000 ≤ N) {m : Nat} (hm : m < 1000) : ∀ (k e n : Nat) (A : FA), TA b S A j a d → IvD (tS A j) → 0 < nL (tS A j) → e + k = m → k < n → bX3_drawn_7L E N (tad b j) n (put b A S) (Int32.ofNat m) (Int32.ofNat e) = some (Int32.ofNat (drF k e (aT A j).2.1 (tS A j)).1, put b (sT A j ((aT A j).1, (drF k e (aT A j).2.1 (tS A j)).2.1, (drF k e (aT A j).2.1 (tS A j)).2.2)) S)
  | k, e, 0, A, _, _, _, _, h => by omega
  | 0, e, n + 1, A, h, hD, _, hk, _ => by
    simp (disch := omega) only [bX3_drawn_7L, bX3_drawn_7, bX3_drawn_122, pq_lit, pq_add, pq_le, pq_lt, pq_eq, pq_en, pq_ne, pq_nle, pq_nlt, pq_len, pq_ltn, pB_z, pB_o, mzt_0, mzt_1, mzt_B, gbd_s, gnn_s, grf_s, drF, sT_id']
    rw [if_pos (by omega)]
  | k + 1, e, n + 1, A, h, hD, h0, hk, hn => by
    have hI := h.2.2.2
    have hj := h.1
    have ha := h.2.1
    have h12 := hI.r12
    have h6 := hI.p6
    have i1 := iv_drD hI (aT A j).2.1 h0
    have hm4 : ¬ drw (dsd (aT A j).2.1) 4 = 0 → ¬ Int32.ofNat (drw (dsd (aT A j).2.1) 4) = Int32.ofNat 0 := pq_n4 (drw_lt (dsd (aT A j).2.1) (show 0 < 4 by omega))
    have h2 : TA b S (sT A j ((aT A j).1, dsd (aT A j).2.1, tS A j)) j a d := h.st _ Mp.rf hI
    have a2 : AtD b S a (tS A j) d := h.2.2.1
    simp (disch := omega) only [bX3_drawn_7L, bX3_drawn_7, bX3_drawn_122, bX3_drawn_65, c_over h hD, c_draw h hE, pq_lit, pq_add, pq_le, pq_lt, pq_en, pq_ne, pq_nle, pq_nlt, pq_len, pq_ltn, pB_z, pB_o, mzt_0, mzt_1, mzt_B, gbd_s, gnn_s, grf_s, drF]
    rw [if_neg (by omega)]
    by_cases q : tS A j 91 < Int32.ofNat 400
    · have ih := c_drL hE hN hm k (e + 1) n (sT A j ((aT A j).1, (drD (aT A j).2.1 (tS A j)).1, (drD (aT A j).2.1 (tS A j)).2)) (h.st _ mp_drD i1.1) (by rw [tS_st]; exact hD.drD q _) (by rw [tS_st]; exact Nat.lt_of_lt_of_eq h0 i1.2.2.1.symm) (by omega) (by omega)
      simp only [tS_st, aT_sT, sT_sT] at ih
      rw [if_pos (fun w => w q), if_pos q, ← ih]
      unfold drD drR
      by_cases e1 : drw (dsd (aT A j).2.1) 4 = 0
      · rw [if_pos (congrArg Int32.ofNat e1)]
        simp (disch := omega) only [t_a, aT_sT]
        rw [ha]
        simp (disch := omega) only [a_26 a2, a_eR a2, pq_lit, pq_add, pq_le, pq_lt, pq_en, pq_ne, pq_nle, pq_nlt, pq_len, pq_ltn, pB_z, pB_o, mzt_0, mzt_1, mzt_B, gbd_s, gnn_s, grf_s]
        rw [← ha]
        simp (disch := omega) only [t_a, t_31, aT_sT]
        rw [ha]
        simp (disch := omega) only [a_26 a2, a_sR a2, pq_lit, pq_add, pq_le, pq_lt, pq_en, pq_ne, pq_nle, pq_nlt, pq_len, pq_ltn, pB_z, pB_o, mzt_0, mzt_1, mzt_B, gbd_s, gnn_s, grf_s]
        rw [← ha]
        by_cases e2 : 0 < nR (tS A j)
        · have g1 := iv_drR hI (aT A j).2.1
          unfold drR at g1
          rw [if_pos ⟨e1, e2⟩] at g1
          rw [if_pos (by omega), if_pos ⟨e1, e2⟩]
          have h3 : TA b S (sT A j ((aT A j).1, dsd (dsd (aT A j).2.1), upd (tS A j) 93 (tS A j 93 ^^^ p1 (drw (dsd (dsd (aT A j).2.1)) (nR (tS A j)))))) j a d := h.st _ (Mp.rf.up (by omega)) g1.1
          have g2 := c_drP (N := N) hE (by omega) (K7 := bX3_drawn_7L E N (tad b j) n) (x1 := Int32.ofNat m) (x3 := Int32.ofNat e) (nP (tS A j)) 0 N _ h3 (by rw [tS_st]; exact Nat.lt_of_lt_of_eq h0 g1.2.2.1.symm) (by rw [tS_st]; exact (Nat.zero_add _).trans g1.2.1.symm) (by omega)
          simp only [tS_st, aT_sT, sT_sT, pq_add] at g2
          simp (disch := omega) only [c_draw h2 hE e2, pq_lit, pq_add, pq_le, pq_lt, pq_en, pq_ne, pq_nle, pq_nlt, pq_len, pq_ltn, pB_z, pB_o, mzt_0, mzt_1, mzt_B, gbd_s, gnn_s, grf_s, t_31, t_p31, aT_sT, sT_sT, tS_st, sS_sT, p1_e]
          exact g2
        · rw [if_neg (by omega), if_neg (fun w => e2 w.2)]
          have g2 := c_drP (N := N) hE (by omega) (K7 := bX3_drawn_7L E N (tad b j) n) (x1 := Int32.ofNat m) (x3 := Int32.ofNat e) (nP (tS A j)) 0 N _ h2 (by rw [tS_st]; exact h0) (by rw [tS_st]; show _ = nP (tS A j); omega) (by omega)
          simp only [tS_st, aT_sT, sT_sT, pq_add] at g2
          exact g2
      · rw [if_neg (hm4 e1), if_neg (fun w => e1 w.1)]
        have g2 := c_drP (N := N) hE (by omega) (K7 := bX3_drawn_7L E N (tad b j) n) (x1 := Int32.ofNat m) (x3 := Int32.ofNat e) (nP (tS A j)) 0 N _ h2 (by rw [tS_st]; exact h0) (by rw [tS_st]; show _ = nP (tS A j); omega) (by omega)
        simp only [tS_st, aT_sT, sT_sT, pq_add] at g2
        exact g2
    · rw [if_neg (fun w => w q), if_neg q, sT_id']
theorem c_dr (h : TA b S A j a d) (hE : E.1 ≤ b) (hN : 1000 ≤ N) (hD : IvD (tS A j)) (h0 : 0 < nL (tS A j)) {m : Nat} (hm : m < 1000) (sd : Int32) : fX3_drawn E N (put b A S) (tad b j) (Int32.ofNat m) sd = some (Int32.ofNat (drF m 0 sd (tS A j)).1, put b (sT A j ((aT A j).1, (drF m 0 sd (tS A j)).2.1, (drF m 0 sd (tS A j)).2.2)) S) := by
  have hj := h.1
  have h2 := c_drL hE hN hm m 0 N _ (h.st sd Mp.rf h.2.2.2) (by rw [tS_st]; exact hD) (by rw [tS_st]; exact h0) (by omega) (by omega)
  simp only [tS_st, aT_sT, sT_sT] at h2
  simp only [fX3_drawn, bX3_drawn_0, t_p39 hE hj, pq_lit]
  exact h2
/-- rows are nothing behind their ends -/
def IvZ (s : St) : Prop := (∀ l, nL s ≤ l → l < 7 → s (94 + l) = Int32.ofNat 0 ∧ s (101 + l) = Int32.ofNat 0) ∧ (∀ p, nP s ≤ p → p < 6 → s (114 + p) = Int32.ofNat 0)
theorem c_lenL (hj : j < 12) : ∀ (k p n : Nat) (x : Int32), p + k = 6 → k < n → bX3_lengths_13L E N (tad b j) n (put b A S) x (some (tad b j + 4)) (Int32.ofNat 6) (Int32.ofNat p) = some (lenF (tS A j) x p k, put b A S)
  | k, p, 0, _, _, h => by omega
  | 0, p, n + 1, x, h, _ => by
    simp (disch := omega) only [bX3_lengths_13L, bX3_lengths_13, bX3_lengths_0, fX3_lengths, pq_lit, pq_add, pq_le, pq_lt, pq_eq, pq_en, pq_ne, pq_nle, pq_nlt, pq_len, pq_ltn, pB_z, pB_o, mzt_0, mzt_1, mzt_B, gbd_s, gnn_s, grf_s]
    rw [if_pos (by omega)]
    rfl
  | k + 1, p, n + 1, x, h, hk => by
    have ih := fun x => c_lenL hj k (p + 1) n x (by omega) (by omega)
    simp (disch := omega) only [bX3_lengths_13L, bX3_lengths_13, bX3_lengths_0, fX3_lengths, t_g4, pq_lit, pq_add, pq_le, pq_lt, pq_eq, pq_en, pq_ne, pq_nle, pq_nlt, pq_len, pq_ltn, pB_z, pB_o, mzt_0, mzt_1, mzt_B, gbd_s, gnn_s, grf_s, ih, lenF]
    rw [if_neg (by omega)]
theorem lenF_z {s : St} : ∀ (k p : Nat) (x : Int32), (∀ q, p ≤ q → q < p + k → s (114 + q) = Int32.ofNat 0) → lenF s x p k = x
  | 0, _, _, _ => rfl
  | k + 1, p, x, h => by
    unfold lenF
    rw [h p (by omega) (by omega), lenF_z k (p + 1) _ (fun q h1 h2 => h q (by omega) (by omega))]
    simp
theorem lenF_add {s : St} : ∀ (k m p : Nat) (x : Int32), lenF s x p (k + m) = lenF s (lenF s x p k) (p + k) m
  | 0, m, p, x => by simp [lenF]
  | k + 1, m, p, x => by
    rw [show k + 1 + m = (k + m) + 1 by omega]
    show lenF s (x + s (114 + p)) (p + 1) (k + m) = lenF s (lenF s (x + s (114 + p)) (p + 1) k) (p + (k + 1)) m
    rw [lenF_add k m (p + 1)]
    rw [show p + 1 + k = p + (k + 1) by omega]
theorem c_len (h : TA b S A j a d) (hN : 100 ≤ N) (hZ : IvZ (tS A j)) : fX3_lengths E N (put b A S) (tad b j) = some (lenS (tS A j), put b A S) := by
  have hj := h.1
  have h6 := h.2.2.2.p6
  have e := c_lenL (E := E) (N := N) (b := b) (A := A) (S := S) hj 6 0 N (Int32.ofNat 0) (by omega) (by omega)
  simp (disch := omega) only [fX3_lengths, bX3_lengths_0, t_35, t_l4, pq_lit, e]
  congr 2
  rw [show 6 = nP (tS A j) + (6 - nP (tS A j)) by omega, lenF_add, lenF_z]
  · rfl
  · intro q h1 h2
    exact hZ.2 q (by omega) (by omega)
end TD
