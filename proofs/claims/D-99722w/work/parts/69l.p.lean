/-! pass -/
section PL
variable {E : gE} {N b : Nat} {A : FA} {S : GS} {M : MS}
theorem o_pass (h : Rel E b A S M) (hN : 1000 ≤ N) (x : Int32) : Op E b S 20 4000 (fX1_pass E N (put b A S) b x) (fX5_pass N M x) := by
  have hh := h
  obtain ⟨r1, r2, ⟨a, d, u, h3, h0, hs, hW, hU⟩, r4⟩ := h
  have hE := r1.1
  have hb := r1.2.1
  have hI := hW.2.2.2.1
  have h6 := hI.p6
  have hI0 : IvS ((mF M 0 (Int32.ofNat 0)).2.2.1 6) := hI
  have hT : TA b S A 0 a d := ⟨by omega, h0, by rw [hs]; exact hW.1, by rw [hs]; exact hI⟩
  by_cases e : inN x (nP (M.2.2.1 6)) = true
  · have e' := e
    obtain ⟨p, hp, rfl⟩ := (inN_i (by omega)).mp e
    obtain ⟨nu, su, wu, eu⟩ := hW.2.1.2 p hp
    obtain ⟨nh, sh, wwh, eh⟩ := hW.2.1.1 _ (hI.hl hp)
    obtain ⟨nl, sl, wl, el⟩ := hW.2.1.1 _ (hI.2.2.2.2.2.2 p hp).2.2.2
    obtain ⟨f, f1, f2, f3⟩ := hW.2.2.2.2.2.2.1
    have en : M.2.2.1 6 (114 + p) = Int32.ofNat (f (7 + p)) := by
      have := f1 (7 + p) (by omega)
      have e : ix (7 + p) = 114 + p := by unfold ix; split <;> omega
      rw [e] at this; exact this
    have hn := f3 p (by omega)
    have s1 := r1.2.2.1 1 _ rfl
    have s2 := r1.2.2.1 2 _ rfl
    have s3 := r1.2.2.1 3 _ rfl
    obtain ⟨S', r, x1, st, z1, z2, cp⟩ := c_pass (E := E) (N := N) (A := A) hN r1 h3 hT (by rw [hs]; exact hp) (n := f (7 + p)) su (by rw [hs]; exact sh) (by rw [hs]; exact sl) wu.2.1 wwh.2.1 wl.2.1 s1 s2 s3 (by omega) (by rw [hs]; exact en)
    obtain ⟨M', sm, tx, mp⟩ := m_pass (N := N) (M := M) (by omega) rfl hI hp wu wwh wl eu eh el (by omega) en
    have sl' := c_slen (E := E) (N := N) (A := sR A 21 (some r)) st
    have cc : fX1_pass E N (put b A S) b (Int32.ofNat p) = some (Int32.ofNat (psT nu nh nl (f (7 + p))).length, put b (sR A 21 (some r)) S') := by
      refine Eq.trans (b := bX1_pass_126 E N b (put b A S') (some b) (some r)) ?_ ?_
      · rw [← cp]
        simp only [fX1_pass, bX1_pass_0, bX1_pass_5, pq_lit]
        simp (disch := omega) only [↓gbd_h (k_isP h3 hW.1 _), k_isP h3 hW.1 _, e', pB_T, ↓gnw_n hb, pq_lit, pq_add, pq_le, pq_lt, pq_eq, pq_en, pq_ne, pq_nle, pq_nlt, pq_len, pq_ltn, pB_z, pB_o, mzt_0, mzt_1, mzt_B, ↓gbd_s, gbd_s, ↓gnn_s, ↓grf_s, eq_self, ↓reduceIte, Nat.reduceEqDiff, Nat.reduceLeDiff, Nat.reduceLT, Nat.reduceMul, Nat.reduceAdd, not_true_eq_false, not_false_eq_true, Bool.false_eq_true]
      · have e21 : aR (sR A 21 (some r)) 21 = some r := by first | rfl | (unfold aR sR; rfl) | simp [aR, sR]
        simp only [bX1_pass_126, bX1_pass_136, pq_lit]
        simp (disch := omega) only [↓f_p21, ↓f_21, e21, ↓gbd_h (sl'), sl', pq_lit, pq_add, pq_le, pq_lt, pq_eq, pq_en, pq_ne, pq_nle, pq_nlt, pq_len, pq_ltn, pB_z, pB_o, mzt_0, mzt_1, mzt_B, ↓gbd_s, gbd_s, ↓gnn_s, ↓grf_s, eq_self, ↓reduceIte, Nat.reduceEqDiff, Nat.reduceLeDiff, Nat.reduceLT, Nat.reduceMul, Nat.reduceAdd, not_true_eq_false, not_false_eq_true, Bool.false_eq_true]
    have l40 : (psT nu nh nl (f (7 + p))).length ≤ 40 := by
      have := wu.2.1; have := wwh.2.1; have := wl.2.1; have := dec_l (f (7 + p))
      simp [psT]; omega
    refine ⟨_, _, S', M', cc, mp, hh.ch x1 sm (by decide) rfl rfl rfl ⟨rfl, rfl⟩ rfl (fun _ _ => rfl) (Or.inl ⟨by decide, rfl⟩) (r4.ch x1 sm (Or.inl ⟨by decide, by decide, rfl, rfl⟩) (Or.inl ⟨by decide, by decide, by decide, rfl, rfl, rfl⟩) (Or.inl ⟨by decide, by decide, rfl⟩) (Or.inl ⟨by decide, by decide, rfl, rfl⟩) (Or.inl ⟨by decide, by decide, rfl⟩) (Or.inr ⟨r, _, rfl, st, l40, tx.1, tx.2⟩) (Or.inl ⟨by decide, by decide, rfl⟩) ⟨by decide, by decide, fun _ => rfl, rfl, rfl⟩), z1, z2⟩
  · refine ⟨-Int32.ofNat 1, A, S, mF M 0 (Int32.ofNat 0), ?_, ?_, hh.m0 _, Nat.le_add_right _ _, Nat.le_add_right _ _⟩
    · simp only [fX1_pass, bX1_pass_0, bX1_pass_5, pq_lit]
      simp (disch := omega) only [↓gbd_h (k_isP h3 hW.1 _), k_isP h3 hW.1 _, e, pB_F, pq_lit, pq_add, pq_le, pq_lt, pq_eq, pq_en, pq_ne, pq_nle, pq_nlt, pq_len, pq_ltn, pB_z, pB_o, mzt_0, mzt_1, mzt_B, ↓gbd_s, gbd_s, ↓gnn_s, ↓grf_s, eq_self, ↓reduceIte, Nat.reduceEqDiff, Nat.reduceLeDiff, Nat.reduceLT, Nat.reduceMul, Nat.reduceAdd, not_true_eq_false, not_false_eq_true, Bool.false_eq_true]
    · simp only [fX5_pass, bX5_pass_0, pq_lit]
      simp (disch := omega) only [↓mpt, ↓mbd_h (m_isPerson hI0 _), m_isPerson hI0 _, mF_a, e, pB_F, eq_self, ↓reduceIte, Nat.reduceEqDiff, Nat.reduceLeDiff, Nat.reduceLT, Nat.reduceMul, Nat.reduceAdd, not_true_eq_false, not_false_eq_true, Bool.false_eq_true, pq_lit, pq_add, pq_le, pq_lt, pq_eq, pq_en, pq_ne, pq_nle, pq_nlt, pq_len, pq_ltn, pB_z, pB_o, mzt_0, mzt_1, mzt_B]
end PL
