/-! draws; what is kept and comes back (the model) -/
theorem pq_div {u k : Nat} (hu : u < 2147483648) (hk : k < 2147483648) : Int32.ofNat u / Int32.ofNat k = Int32.ofNat (u / k) := by
  rw [← Int32.toInt_inj, Int32.toInt_div, pq_toInt hu, pq_toInt hk, pq_toInt (Nat.lt_of_le_of_lt (Nat.div_le_self u k) hu)]
  rw [show Int.tdiv (u : Int) (k : Int) = ((u / k : Nat) : Int) from rfl]
  have := Nat.div_le_self u k
  generalize u / k = w at *
  rw [Int.bmod_eq_of_le (by omega) (by omega)]
theorem pq_rem {u k : Nat} (hu : u < 2147483648) (hk : k < 2147483648) : Int32.ofNat u - Int32.ofNat u / Int32.ofNat k * Int32.ofNat k = Int32.ofNat (u % k) := by
  rw [pq_div hu hk, pq_mul, pq_sub (by exact Nat.div_mul_le_self u k)]
  congr 1
  have := Nat.div_add_mod u k
  rw [Nat.mul_comm] at this
  omega
theorem pq_n4 {a : Nat} (h : a < 4) (h0 : ¬ a = 0) : ¬ Int32.ofNat a = Int32.ofNat 0 := by rw [pq_eq (by omega) (by omega)]; exact h0
theorem dsu_lt (v : Int32) : dsu v < 16777216 := by
  unfold dsu
  rw [show ((Int32.ofNat 8).toUInt32 &&& Int32.toUInt32 (Int32.ofNat 31)) = 8 from by decide]
  rw [UInt32.toNat_shiftRight]
  have := v.toUInt32.toNat_lt
  simp [Nat.shiftRight_eq_div_pow]
  omega
theorem dsu_e (v : Int32) : (v.toUInt32 >>> ((Int32.ofNat 8).toUInt32 &&& Int32.toUInt32 (Int32.ofNat 31))).toInt32 = Int32.ofNat (dsu v) := by
  unfold dsu
  generalize (v.toUInt32 >>> ((Int32.ofNat 8).toUInt32 &&& Int32.toUInt32 (Int32.ofNat 31))) = x
  rw [← Int32.toBitVec_inj]
  apply BitVec.eq_of_toNat_eq
  have := x.toNat_lt
  simp
theorem mnz_n {β : Type} {k : Nat} (h0 : 0 < k) (h : k < 2147483648) (K : Option β) : mnz (Int32.ofNat k) K = K := by
  unfold mnz
  rw [if_neg]
  show ¬ Int32.ofNat k = Int32.ofNat 0
  rw [pq_eq h (by omega)]; omega
theorem iv_drR {s : St} (h : IvS s) (sd : Int32) : IvS (drR sd s).2 ∧ nP (drR sd s).2 = nP s ∧ nL (drR sd s).2 = nL s ∧ nR (drR sd s).2 = nR s := by
  unfold drR
  split
  · refine ⟨h.up (by omega) (by omega), ?_, ?_, ?_⟩
    · show nP (upd _ _ _) = _; rw [upd_nP (by omega)]
    · show nL (upd _ _ _) = _; rw [upd_nL (by omega)]
    · show nR (upd _ _ _) = _; rw [upd_nR (by omega)]
  · exact ⟨h, rfl, rfl, rfl⟩
theorem iv_drP1 {s : St} (h : IvS s) {p : Nat} (sd : Int32) (hp : p < nP s) (h0 : 0 < nL s) : IvS (if whyC s p (drw (dsd sd) (nL s)) = Int32.ofNat 0 then crS s p (drw (dsd sd) (nL s)) else s) ∧ nP (if whyC s p (drw (dsd sd) (nL s)) = Int32.ofNat 0 then crS s p (drw (dsd sd) (nL s)) else s) = nP s ∧ nL (if whyC s p (drw (dsd sd) (nL s)) = Int32.ofNat 0 then crS s p (drw (dsd sd) (nL s)) else s) = nL s ∧ nR (if whyC s p (drw (dsd sd) (nL s)) = Int32.ofNat 0 then crS s p (drw (dsd sd) (nL s)) else s) = nR s := by
  split
  · exact h.cr hp (drw_lt _ h0)
  · exact ⟨h, rfl, rfl, rfl⟩
theorem iv_drP : ∀ (k p : Nat) (sd : Int32) {s : St}, IvS s → p + k = nP s → 0 < nL s → IvS (drP p k sd s).2 ∧ nP (drP p k sd s).2 = nP s ∧ nL (drP p k sd s).2 = nL s ∧ nR (drP p k sd s).2 = nR s
  | 0, p, sd, s, h, _, _ => ⟨h, rfl, rfl, rfl⟩
  | k + 1, p, sd, s, h, hk, h0 => by
    have h1 := iv_drP1 h (p := p) sd (by omega) h0
    have h2 := iv_drP k (p + 1) (dsd sd) h1.1 (by rw [h1.2.1]; omega) (by rw [h1.2.2.1]; exact h0)
    exact ⟨h2.1, h2.2.1.trans h1.2.1, h2.2.2.1.trans h1.2.2.1, h2.2.2.2.trans h1.2.2.2⟩
theorem iv_drD {s : St} (h : IvS s) (sd : Int32) (h0 : 0 < nL s) : IvS (drD sd s).2 ∧ nP (drD sd s).2 = nP s ∧ nL (drD sd s).2 = nL s ∧ nR (drD sd s).2 = nR s := by
  unfold drD
  have h1 := iv_drR h sd
  have h2 := iv_drP (nP s) 0 (drR sd s).1 h1.1 (by rw [h1.2.1]; omega) (by rw [h1.2.2.1]; exact h0)
  have h3 := h2.1.day
  exact ⟨h3.1, h3.2.1.trans (h2.2.1.trans h1.2.1), h3.2.2.1.trans (h2.2.2.1.trans h1.2.2.1), h3.2.2.2.trans (h2.2.2.2.trans h1.2.2.2)⟩
section PM4
variable {N : Nat}
theorem m_draw {S : MS} {k : Nat} (h0 : 0 < k) (hk : k < 2147483648) : fX5_draw N S (Int32.ofNat k) = some (Int32.ofNat (drw (dsd (S.1 46)) k), mF S 46 (dsd (S.1 46))) := by
  have h1 := dsu_lt (dsd (S.1 46))
  simp (disch := omega) only [fX5_draw, bX5_draw_0, pq_lit, pq_add, pq_le, pq_lt, pq_eq, pq_en, pq_ne, pq_nle, pq_nlt, pq_len, pq_ltn, pB_z, pB_o, mzt_0, mzt_1, mzt_B, mrd_n, mwr_n, mbd_s, mpt, mF_a, mF_w, mF_i, mF_L, mA_a, mA_w, mA_i, mA_L, ma_s, mnz_n, if_true, dsd_e]
  generalize dsd (S.1 46) = x at *
  simp (disch := omega) only [dsu_e, pq_rem, drw_e]
theorem m_drP (hN : 100 ≤ N) {K7 : MS → Int32 → Int32 → Option (Int32 × MS)} {x1 x3 : Int32} : ∀ (k p n : Nat) (S : MS), IvS (S.2.2.1 6) → 0 < nL (S.2.2.1 6) → p + k = nP (S.2.2.1 6) → k < n → bX5_draws_67L N K7 n S x1 x3 (Int32.ofNat p) = K7 (mR (mF S 46 (drP p k (S.1 46) (S.2.2.1 6)).1) 6 (dayS (drP p k (S.1 46) (S.2.2.1 6)).2)) x1 (x3 + Int32.ofNat 1)
  | k, p, 0, S, _, _, _, h => by omega
  | 0, p, n + 1, S, hI, _, h, _ => by
    have h6 := hI.p6
    simp (disch := omega) only [bX5_draws_67L, bX5_draws_67, pq_lit, pq_add, pq_le, pq_lt, pq_eq, pq_en, pq_ne, pq_nle, pq_nlt, pq_len, pq_ltn, pB_z, pB_o, mzt_0, mzt_1, mzt_B, mrd_n, mwr_n, mbd_s, mpt, mF_a, mF_w, mF_i, mF_L, mA_a, mA_w, mA_i, mA_L, ma_s, hI.c2, m_day hI hN, drP, mF_id]
    rw [if_pos (by omega)]
  | k + 1, p, n + 1, S, hI, h0, h, hk => by
    have h6 := hI.p6
    have h7 := hI.l7
    have hp : p < nP (S.2.2.1 6) := by omega
    have hl := drw_lt (dsd (S.1 46)) h0
    have i1 := iv_drP1 hI (p := p) (S.1 46) hp h0
    have ih := m_drP hN (K7 := K7) (x1 := x1) (x3 := x3) k (p + 1) n (mR (mF S 46 (dsd (S.1 46))) 6 (if whyC (S.2.2.1 6) p (drw (dsd (S.1 46)) (nL (S.2.2.1 6))) = Int32.ofNat 0 then crS (S.2.2.1 6) p (drw (dsd (S.1 46)) (nL (S.2.2.1 6))) else S.2.2.1 6)) i1.1 (Nat.lt_of_lt_of_eq h0 i1.2.2.1.symm) (by rw [mA_a, if_pos rfl, i1.2.1]; omega) (by omega)
    simp only [mA_a, mA_i, mF_i, if_true, mR_mR, mF_mR, mF_mF] at ih
    have hI2 : IvS ((mF S 46 (dsd (S.1 46))).2.2.1 6) := hI
    simp (disch := omega) only [bX5_draws_67L, bX5_draws_67, bX5_draws_109, pq_lit, pq_add, pq_le, pq_lt, pq_eq, pq_en, pq_ne, pq_nle, pq_nlt, pq_len, pq_ltn, pB_z, pB_o, mzt_0, mzt_1, mzt_B, mrd_n, mwr_n, mbd_s, mpt, mF_a, mF_w, mF_i, mF_L, mA_a, mA_w, mA_i, mA_L, ma_s, hI.c2, hI.c0, m_draw, drP]
    rw [if_neg (by omega), m_whyC hI2 hN hp (by omega), mbd_s, m_cr hI2 hp hl, mbd_s, mF_a, ← ih]
    split
    · rfl
    · have e : mR (mF S 46 (dsd (S.1 46))) 6 (S.2.2.1 6) = mF S 46 (dsd (S.1 46)) := mR_id (mF S 46 (dsd (S.1 46))) 6
      rw [e]
theorem m_drL (hN : 1000 ≤ N) {m : Nat} (hm : m < 1000) : ∀ (k d n : Nat) (S : MS), IvS (S.2.2.1 6) → 0 < nL (S.2.2.1 6) → d + k = m → k < n → bX5_draws_7L N n S (Int32.ofNat m) (Int32.ofNat d) = some (Int32.ofNat (drF k d (S.1 46) (S.2.2.1 6)).1, mR (mF S 46 (drF k d (S.1 46) (S.2.2.1 6)).2.1) 6 (drF k d (S.1 46) (S.2.2.1 6)).2.2)
  | k, d, 0, S, _, _, _, h => by omega
  | 0, d, n + 1, S, hI, _, h, _ => by
    simp (disch := omega) only [bX5_draws_7L, bX5_draws_7, bX5_draws_125, pq_lit, pq_add, pq_le, pq_lt, pq_eq, pq_en, pq_ne, pq_nle, pq_nlt, pq_len, pq_ltn, pB_z, pB_o, mzt_0, mzt_1, mzt_B, mrd_n, mwr_n, mbd_s, mpt, mF_a, mF_w, mF_i, mF_L, mA_a, mA_w, mA_i, mA_L, ma_s, drF, mR_id, mF_id]
    rw [if_pos (by omega)]
  | k + 1, d, n + 1, S, hI, h0, h, hk => by
    have h12 := hI.r12
    have i1 := iv_drD hI (S.1 46) h0
    have ih := m_drL hN hm k (d + 1) n (mR (mF S 46 (drD (S.1 46) (S.2.2.1 6)).1) 6 (drD (S.1 46) (S.2.2.1 6)).2) i1.1 (Nat.lt_of_lt_of_eq h0 i1.2.2.1.symm) (by omega) (by omega)
    simp only [mA_a, mA_i, mF_i, if_true, mR_mR, mF_mR, mF_mF] at ih
    have hm4 : ¬ drw (dsd (S.1 46)) 4 = 0 → ¬ Int32.ofNat (drw (dsd (S.1 46)) 4) = Int32.ofNat 0 := pq_n4 (drw_lt (dsd (S.1 46)) (show 0 < 4 by omega))
    simp (disch := omega) only [bX5_draws_7L, bX5_draws_7, bX5_draws_125, bX5_draws_64, pq_lit, pq_add, pq_le, pq_lt, pq_en, pq_ne, pq_nle, pq_nlt, pq_len, pq_ltn, pB_z, pB_o, mzt_0, mzt_1, mzt_B, mrd_n, mwr_n, mbd_s, mpt, mF_a, mF_w, mF_i, mF_L, mA_a, mA_w, mA_i, mA_L, ma_s, hI.c1, m_draw, drF]
    rw [if_neg (by omega)]
    by_cases e : S.2.2.1 6 91 < Int32.ofNat 400
    · rw [if_neg (Int32.not_le.mpr e), if_pos e, ← ih]
      unfold drD drR
      have g1 := iv_drR hI (S.1 46)
      unfold drR at g1
      by_cases e1 : drw (dsd (S.1 46)) 4 = 0
      · by_cases e2 : 0 < nR (S.2.2.1 6)
        · rw [if_pos (congrArg Int32.ofNat e1), if_neg (by omega)]
          rw [if_pos ⟨e1, e2⟩] at g1
          simp (disch := omega) only [m_draw, pq_lit, pq_add, pq_le, pq_lt, pq_eq, pq_en, pq_ne, pq_nle, pq_nlt, pq_len, pq_ltn, pB_z, pB_o, mzt_0, mzt_1, mzt_B, mrd_n, mwr_n, mbd_s, mpt, mF_a, mF_w, mF_i, mF_L, mA_a, mA_w, mA_i, mA_L, ma_s, if_true, mF_mF, p1_e]
          rw [if_pos ⟨e1, e2⟩]
          have g2 := m_drP (N := N) (by omega) (K7 := bX5_draws_7L N n) (x1 := Int32.ofNat m) (x3 := Int32.ofNat d) (nP (S.2.2.1 6)) 0 N (mR (mF S 46 (dsd (dsd (S.1 46)))) 6 (upd (S.2.2.1 6) 93 (S.2.2.1 6 93 ^^^ p1 (drw (dsd (dsd (S.1 46))) (nR (S.2.2.1 6)))))) g1.1 (Nat.lt_of_lt_of_eq h0 g1.2.2.1.symm) ((Nat.zero_add _).trans g1.2.1.symm) (by have := hI.p6; omega)
          simp only [mA_a, mA_i, mF_i, if_true, mR_mR, mF_mR, mF_mF, pq_add] at g2
          exact g2
        · rw [if_pos (congrArg Int32.ofNat e1), if_pos (by omega)]
          rw [if_neg (fun q => e2 q.2)] at g1
          rw [if_neg (fun q => e2 q.2)]
          have g2 := m_drP (N := N) (by omega) (K7 := bX5_draws_7L N n) (x1 := Int32.ofNat m) (x3 := Int32.ofNat d) (nP (S.2.2.1 6)) 0 N (mF S 46 (dsd (S.1 46))) hI h0 (by rw [mF_a]; omega) (by have := hI.p6; omega)
          simp only [mF_a, mF_i, if_true, mF_mF, pq_add] at g2
          exact g2
      · rw [if_neg (hm4 e1)]
        rw [if_neg (fun q => e1 q.1)]
        have g2 := m_drP (N := N) (by omega) (K7 := bX5_draws_7L N n) (x1 := Int32.ofNat m) (x3 := Int32.ofNat d) (nP (S.2.2.1 6)) 0 N (mF S 46 (dsd (S.1 46))) hI h0 (by rw [mF_a]; omega) (by have := hI.p6; omega)
        simp only [mF_a, mF_i, if_true, mF_mF, pq_add] at g2
        exact g2
    · rw [if_pos (Int32.not_lt.mp e), if_neg e, mF_id, mR_id]
theorem m_dr {S : MS} (hI : IvS (S.2.2.1 6)) (hN : 1000 ≤ N) (h0 : 0 < nL (S.2.2.1 6)) {m : Nat} (hm : m < 1000) (sd : Int32) : fX5_draws N S (Int32.ofNat m) sd = some (Int32.ofNat (drF m 0 sd (S.2.2.1 6)).1, mR (mF S 46 (drF m 0 sd (S.2.2.1 6)).2.1) 6 (drF m 0 sd (S.2.2.1 6)).2.2) := by
  have h := m_drL hN hm m 0 N (mF S 46 sd) hI h0 (by omega) (by omega)
  simp only [mF_a, mF_i, if_true, mF_mF] at h
  exact h
end PM4
