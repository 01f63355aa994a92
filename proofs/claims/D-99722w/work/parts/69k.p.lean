/-! pass: the component -/
section PK
variable {E : gE} {N b : Nat} {A : FA} {S : GS} {M : MS} {a : Nat} {d : AD} {p : Nat}
theorem c_pass (hN : 1000 ≤ N) (kok : KOk E b S) (h3 : aR A 3 = some a) (hT : TA b S A 0 a d) (hp : p < nP (tS A 0)) {u h l : List Nat} {n : Nat} (su : StrAt b S (d.2.2.2.2.2 p) u) (sh : StrAt b S (d.2.2.2.2.1 (hm (tS A 0) p)) h) (sl : StrAt b S (d.2.2.2.2.1 (wh (tS A 0) p)) l) (lu : u.length ≤ 7) (lh : h.length ≤ 7) (ll : l.length ≤ 7) (s1 : StrAt b S (E.2.1 1) [32, 111, 102, 32]) (s2 : StrAt b S (E.2.1 2) [32, 105, 110, 32]) (s3 : StrAt b S (E.2.1 3) [32]) (hn : n < 1000) (en : tS A 0 (114 + p) = Int32.ofNat n) : ∃ S' r, Ext S S' ∧ StrAt b S' r (psT u h l n) ∧ S'.2.2.1 ≤ S.2.2.1 + 20 ∧ S'.2.2.2 ≤ S.2.2.2 + 4000 ∧ bX1_pass_14 E N b (put b A (gpush S (.inr (25, gdf 25)) (gdf 25).length)) (Int32.ofNat p) (some b) (some S.2.1) = bX1_pass_126 E N b (put b A S') (some b) (some r) := by
  have hE := kok.1
  have hb := kok.2.1
  have hI := hT.2.2.2
  have h6 := hI.p6
  have dl := dec_l n
  obtain ⟨T0, b0, z0, c0⟩ := sb_new (E := E) (N := N) (A := A) hb hE
  have kb : ∀ {k k' m : Nat}, (k' = k ∨ (k < m ∧ k' ≤ max m (2 * k + 2))) → k ≤ 82 → m ≤ 40 → k' ≤ 82 := by intro k k' m h1 h2 h3; omega
  obtain ⟨T1, k1, b1, q1, y1, z1, c1⟩ := sb_app (E := E) (N := N) (A := A) hb hE b0 su (by simp; omega) (by omega)
  have m1 := kb q1 (by omega) (by simp; omega)
  obtain ⟨T2, k2, b2, q2, y2, z2, c2⟩ := sb_app (E := E) (N := N) (A := A) hb hE b1 s1 (by simp; omega) (by omega)
  have m2 := kb q2 m1 (by simp; omega)
  obtain ⟨T3, k3, b3, q3, y3, z3, c3⟩ := sb_app (E := E) (N := N) (A := A) hb hE b2 sh (by simp; omega) (by omega)
  have m3 := kb q3 m2 (by simp; omega)
  obtain ⟨T4, k4, b4, q4, y4, z4, c4⟩ := sb_app (E := E) (N := N) (A := A) hb hE b3 s2 (by simp; omega) (by omega)
  have m4 := kb q4 m3 (by simp; omega)
  obtain ⟨T5, k5, b5, q5, y5, z5, c5⟩ := sb_app (E := E) (N := N) (A := A) hb hE b4 sl (by simp; omega) (by omega)
  have m5 := kb q5 m4 (by simp; omega)
  obtain ⟨T6, k6, b6, q6, y6, z6, c6⟩ := sb_app (E := E) (N := N) (A := A) hb hE b5 s3 (by simp; omega) (by omega)
  have m6 := kb q6 m5 (by simp; omega)
  obtain ⟨T7, k7, b7, q7, y7, z7, c7⟩ := sb_num (E := E) (N := N) (A := A) hN kok b6 hn (by simp; omega) (by omega)
  have m7 := kb q7 m6 (by simp; omega)
  obtain ⟨T8, x8, b8, z8, c8⟩ := sb_str (E := E) (N := N) (A := A) hb hE b7
  have hA := hT.2.2.1
  have A0 := hA.ext b0.1
  have A1 := hA.ext b1.1
  have A2 := hA.ext b2.1
  have A3 := hA.ext b3.1
  have A4 := hA.ext b4.1
  have ho := hI.ho hp
  have hhl := hI.hl hp
  have wo : (aT A 0).2.2 (108 + p) = Int32.ofNat (wh (tS A 0) p) := hI.wo hp
  have hwl := (hI.2.2.2.2.2.2 p hp).2.2.2
  have en' : (aT A 0).2.2 (114 + p) = Int32.ofNat n := en
  have hh2 := a_home (E := E) (N := N) (A := A) A2 hp
  rw [ho] at hh2
  have l8 : ([] ++ u ++ [32, 111, 102, 32] ++ h ++ [32, 105, 110, 32] ++ l ++ [32] ++ dec n).length ≤ 40 := by simp; omega
  refine ⟨T8, T7.2.1, b7.1.tr x8, by simpa [psT] using b8, ?_, ?_, ?_⟩
  · rw [z8]; have e0 : T0.2.2.1 = S.2.2.1 + 2 := by rw [z0]
    show T7.2.2.1 + 2 ≤ _
    omega
  · rw [z8]; have e0 : T0.2.2.2 = S.2.2.2 + 20 := by rw [z0]
    show T7.2.2.2 + 4 + _ ≤ _
    omega
  · simp only [bX1_pass_14, bX1_pass_18, bX1_pass_29, bX1_pass_38, bX1_pass_44, bX1_pass_59, bX1_pass_62, bX1_pass_71, bX1_pass_77, bX1_pass_96, bX1_pass_105, bX1_pass_111, bX1_pass_123, pq_lit]
    simp (disch := omega) only [↓gbd_h (c0), c0, ↓f_3, h3, ↓a_27 A0, ↓gbd_h (a_gP A0 hp), a_gP A0 hp, ↓a_cP A0 hp, ↓a_p61 A0 hp, ↓gbd_h (c1), c1, ↓gbd_h (c2), c2, ↓a_25 A2, ↓gbd_h (hh2), hh2, ↓gbd_h (a_gL A2 hhl), a_gL A2 hhl, ↓a_cL A2 hhl, ↓a_61 A2 hhl, ↓gbd_h (c3), c3, ↓gbd_h (c4), c4, ↓a_25 A4, ↓f_4, ↓t_34, ↓t_g3, t_g3, wo, ↓gbd_h (a_gL A4 hwl), a_gL A4 hwl, ↓a_cL A4 hwl, ↓a_61 A4 hwl, ↓gbd_h (c5), c5, ↓gbd_h (c6), c6, ↓t_35, ↓t_g4, t_g4, en', ↓gbd_h (c7), c7, ↓gbd_h (c8), c8, pq_lit, pq_add, pq_le, pq_lt, pq_eq, pq_en, pq_ne, pq_nle, pq_nlt, pq_len, pq_ltn, pB_z, pB_o, mzt_0, mzt_1, mzt_B, ↓gbd_s, gbd_s, ↓gnn_s, ↓grf_s, eq_self, ↓reduceIte, Nat.reduceEqDiff, Nat.reduceLeDiff, Nat.reduceLT, Nat.reduceMul, Nat.reduceAdd, not_true_eq_false, not_false_eq_true, Bool.false_eq_true]
end PK
