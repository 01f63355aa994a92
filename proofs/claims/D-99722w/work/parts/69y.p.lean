/-! sentences: the operands that go on -/
theorem pB_n {p : Prop} [Decidable p] (h : p) : pB p = Int32.ofNat 1 := pB_t h
section SG
variable {E : gE} {N b : Nat} {A : FA} {S0 S : GS} {M0 M : MS} {q a nl l0 n lim fr on wi : Nat} {f0 : Nat → Nat} {t : Tk} {ρ0 ρ1 ρ2 ρ3 : GS → Option Nat → Option ((Option Nat ⊕ Nat) × GS)} {cs : List Cd} {st : List Nat}
theorem y_of (cx : SCx E N b A S0 M0 q a nl l0 f0) (x : Ext S0 S) {S3 : GS} {M3 : MS} {fr3 i : Nat} {t3 : Tk} {oc : Option ((Option Nat ⊕ Nat) × GS)} (hi : i = 2 ∨ i = 3 ∨ i = 4) (hw : wi < 8) (h55 : M.1 55 = Int32.ofNat 0) (hc : oc = bX25_says_157 E N ρ0 ρ1 ρ2 ρ3 q (put b A S3) (bI (decide (i = 12))) (bI (decide (i = 9))) (bI (decide (i = 0))) (bI (decide (i = 0) || decide (i = 1))) (x5t i) (x6t i)) (hm : fX5_operand N M = opT N M3 (bI (decide (i = 9))) (bI (decide (i = 12))) (x7t i)) (h3 : Rd b A S3 M3 q 18 (sEx a (on + 1) (wi + 1)) n lim fr3 t3) (hs : SnM M3 cs st (on + 1) false) (hb2 : cs.length + st.length + 2 ≤ 2 * (on + 1)) (xo : Xo q S S3) (sm : mSm sk M0 M3) (hf : fr + 1 ≤ fr3) (k1 : S3.2.2.1 ≤ S.2.2.1 + 4) (k2 : S3.2.2.2 ≤ S.2.2.2 + 40)  : SP N b A S0 M0 q a nl n lim wi Rs (fun _ => True) S M fr cs st oc := by
  have cx' := cx
  obtain ⟨kok, hN, hq, hr, hl, ⟨ln, y2, y3, ha⟩, h6⟩ := cx
  have hE := kok.1
  have hb0 := kok.2.1
  have x3 := xo.ext x hq
  have hb : b + 111 ≤ S3.2.1 := Nat.le_trans hb0 x3.1
  have hEq : E.1 ≤ q := by omega
  have hbq : b ≤ q := by omega
  have hq3 := h3.lt
  have hfl : fr3 ≤ lim := by
    obtain ⟨p, kd, nu, sg, wr, c, _, _, _, _, _, _, _, _, _, h10, _⟩ := h3
    exact h10
  have hlen : cs.length + st.length ≤ 40 := by have := hs.2.2.2.2.2.2.2.2.1; omega
  obtain ⟨S4, hS4⟩ : ∃ S4, S4 = gpush S3 (.inr (21, gdf 21)) (gdf 21).length := ⟨_, rfl⟩
  have x4 : Ext S3 S4 := by rw [hS4]; exact Ext.push _ _ _
  have c4 : Cel b S4 S3.2.1 (.inr (21, [.int (Int32.ofNat 0), .int (Int32.ofNat 0)])) := by rw [hS4]; exact Cel.push hb _ _
  have z4 : S4.2 = (S3.2.1 + 1, S3.2.2.1 + 1, S3.2.2.2 + 2) := by rw [hS4]; rfl
  have z41 : S4.2.2.1 = S3.2.2.1 + 1 := by rw [z4]
  have z42 : S4.2.2.2 = S3.2.2.2 + 2 := by rw [z4]
  obtain ⟨M4, hM4⟩ : ∃ M4, M4 = mF M3 55 (Int32.ofNat 1) := ⟨_, rfl⟩
  have s4 : SnM M4 cs st (on + 1) true := by rw [hM4]; exact hs.wh (by omega)
  have sm4 : mSm sk M0 M4 := by rw [hM4]; exact sm.tr (mSm.rf.mF _ (by decide))
  have h4 : Rd b A S4 M4 q 18 (sEx a (on + 1) (wi + 1)) n lim fr3 t3 := by rw [hM4]; exact (h3.ext x4).mm (fun k hk => mF_ne _ _ (by rintro rfl; revert hk; decide)) rfl rfl
  have x04 := x3.tr x4
  have r97 := fun {β : Type} (K : Option Nat → Option β) => sr_97 h4 K
  have r25 := fun {β : Type} (K : Option Nat → Option β) => r1_25 (ha.ext x04) A K
  have hl4 : NmL b S4 M4 l0 nl 0 f0 := hl.ext x04 (fun k _ => by rw [sm4.1])
  have hr4 : ResR M4 := fun k w hk => by rw [sm4.1]; exact hr k w hk
  have v6 : M4.2.2.1 6 0 = Int32.ofNat nl := by rw [(sm4.2 6 (by decide)).2]; exact h6
  obtain ⟨w, hw5, hwl⟩ : ∃ w, x5t i = Int32.ofNat w ∧ i = 2 + w ∧ w < 3 := by
    rcases hi with rfl | rfl | rfl
    · exact ⟨0, rfl, rfl, by omega⟩
    · exact ⟨1, rfl, rfl, by omega⟩
    · exact ⟨2, rfl, rfl, by omega⟩
  have preC : oc = gnw (put b A S3) 21 (fun a_11 S_10 => bX25_says_211 E N ρ0 ρ1 ρ2 ρ3 q S_10 (Int32.ofNat w) (some a_11)) := by
    rw [hc, ← hw5]
    rcases hi with rfl | rfl | rfl <;> rfl
  have preM : fX5_operand N M = mrd (M4.2.2.1 6) 319 (Int32.ofNat 0) (fun v_29 => mbd (fX5_looksAt N M4 (Int32.ofNat 0) v_29) (fun r_31 S_32 => if r_31 = Int32.ofNat 0 then mzt (Int32.ofNat 0) (some (Int32.ofNat 0, S_32)) else mbd (fX5_code N S_32 (Int32.ofNat i) (Int32.ofNat 0) (S_32.1 18)) (fun _ S_36 => mbd (fX5_next N S_36) (fun _ S_39 => mzt (Int32.ofNat 1) (some (Int32.ofNat 1, S_39)))))) := by
    rw [hm, hM4]
    rcases hi with rfl | rfl | rfl <;> rfl
  rw [mrd_n (by omega) (by omega), v6] at preM
  rw [gnw_n hb, ← hS4] at preC
  rcases j_hold (N := N) (S0 := S0) (kok.ext x04) x04 hr4 h4 hl4 (by omega) with ⟨S5, k, hkc, ht, hC, hM, x5, y1, y2⟩ | jf
  · left
    obtain ⟨M5, hM5⟩ : ∃ M5, M5 = mF M4 18 (Int32.ofNat k) := ⟨_, rfl⟩
    rw [← hM5] at hM
    have s5 : SnM M5 cs st (on + 1) true := by rw [hM5]; exact s4.mm (fun k hk => mF_ne _ _ (by rintro rfl; revert hk; decide)) rfl rfl
    have sm5 : mSm sk M0 M5 := by rw [hM5]; exact sm4.tr (mSm.rf.mF _ (by decide))
    have h5 : Rd b A S5 M5 q 18 (sEx a (on + 1) (wi + 1)) n lim fr3 t3 := by rw [hM5]; exact (h4.ext x5).mm (fun k hk => mF_ne _ _ (by rintro rfl; revert hk; decide)) rfl rfl
    obtain ⟨M6, m1, m2, m3, m4, m5⟩ := m_code (N := N) (M := M5) s5.1 s5.2.1 (by omega) (i, 0, k)
    have h56 : Rd b A S5 M6 q 18 (sEx a (on + 1) (wi + 1)) n lim fr3 t3 := h5.mm (fun k hk => (m1.2 k (fun q => by
      simp only [List.mem_cons, List.not_mem_nil, or_false] at hk q; omega)).1) (m1.2 1 (by decide)).2 m2
    have x05 := x04.tr x5
    obtain ⟨S7, M7, fr7, t7, gc, gm, h7, hf7, xo7, fx7, sm7, p1, p2⟩ := j_gw (E := E) (N := N) hE hbq (Nat.le_trans hb0 x05.1) (by omega) h56 (by omega)
    have s6 : SnM M6 (cs ++ [(i, 0, k)]) st (on + 1) true := s5.cd m1 m3 m4 (by show cs.length + st.length + 1 + 1 ≤ _; omega)
    have s7 : SnM M7 (cs ++ [(i, 0, k)]) st (on + 1) true := s6.sm sm7 (by decide)
    have c7 : Cel b S7 S3.2.1 (.inr (21, [.int (Int32.ofNat 0), .int (Int32.ofNat 0)])) := xo7.cel (c4.ext x5) (by omega)
    obtain ⟨S8, hS8⟩ : ∃ S8, S8 = gup S7 S3.2.1 (.inr (21, [.int (Int32.ofNat w), .int (Int32.ofNat k)])) := ⟨_, rfl⟩
    have c8 : Cel b S8 S3.2.1 (.inr (21, [.int (Int32.ofNat w), .int (Int32.ofNat k)])) := by rw [hS8]; exact c7.up _
    have h8 : Rd b A S8 M7 q 18 (sEx a (on + 1) (wi + 1)) n lim fr7 t7 := by rw [hS8]; exact h7.up c7.1 rfl (by omega) _
    have xo8 : Xo q S S8 := by rw [hS8]; exact (((xo.tr x4.xo).tr x5.xo).tr xo7).gu xo.1 _
    obtain ⟨hk, fs, cq⟩ := h4.cl
    have cq5 := cq.ext x5
    have on1 : fX6_one E N (put b A S4) q (some l0) = some (Sum.inl (Int32.ofNat k), put b A S7) := by
      simp only [fX6_one, bX6_one_0, bX6_one_5, bX6_one_10, pq_lit]
      simp (disch := omega) only [rv_hold hk cq, ↓gbx_h hC, rv_go hk cq5, ↓gbd_h (gc), gc, ↓gbd_s, gbd_s, ↓gbx_s, gbx_s, ↓gnn_s, ↓grf_s, eq_self, ↓reduceIte, Nat.reduceEqDiff, Nat.reduceLeDiff, Nat.reduceLT, Nat.reduceMul, Nat.reduceAdd, not_true_eq_false, not_false_eq_true, Bool.false_eq_true, pq_lit, pq_add, pq_le, pq_lt, pq_eq, pq_en, pq_ne, pq_nle, pq_nlt, pq_len, pq_ltn, pB_z, pB_o, mzt_0, mzt_1, mzt_B]
    have hg : E.1 ≤ S3.2.1 := by omega
    have cc : oc = bX25_says_237 E N ρ0 ρ1 ρ2 ρ3 q (put b A S8) (some S3.2.1) := by
      rw [preC]
      simp only [bX25_says_211, bX25_says_225, bX25_says_228, bX29_init_0, fX29_init, bX26_init_0, fX26_init, pq_lit]
      simp (disch := omega) only [↓r97, ↓r25, v_one h4, ↓gbx_h on1, ↓w21_102 c7 hg, ↓w21_103 (c7.up _) hg, gup_gup, ← hS8, ↓gbd_s, gbd_s, ↓gbx_s, gbx_s, ↓gnn_s, ↓grf_s, eq_self, ↓reduceIte, Nat.reduceEqDiff, Nat.reduceLeDiff, Nat.reduceLT, Nat.reduceMul, Nat.reduceAdd, not_true_eq_false, not_false_eq_true, Bool.false_eq_true, pq_lit, pq_add, pq_le, pq_lt, pq_eq, pq_en, pq_ne, pq_nle, pq_nlt, pq_len, pq_ltn, pB_z, pB_o, mzt_0, mzt_1, mzt_B]
    have mm : fX5_operand N M = some (Int32.ofNat 1, M7) := by
      have e18 : M5.1 18 = Int32.ofNat k := by rw [hM5]; exact mF_e _ _ _
      rw [preM, mbd_h hM, if_neg (by decide), e18, mbd_h m5, mbd_h gm]
      exact mzt_1 _
    have m18 : mSm sk M0 M7 := (sm5.tr (m1.su (by decide))).tr (sm7.su (by decide))
    refine s_fin (c := [(i, 0, k)]) (cs' := cs ++ [(i, 0, k)]) (st' := st) (j := 1) hEq hq hw h8 cc (fun k => sL_o h55 mm) s7 rfl ?_ (Nat.le_refl _) xo8 x m18 (by omega) ?_ ?_
    · show CndAt b S8 nl 1 S3.2.1 [(i, 0, k)]
      rw [hwl.1]
      exact Or.inr (Or.inr (Or.inr (Or.inr (Or.inr (Or.inl ⟨w, k, hwl.2, hkc, c8, rfl⟩)))))
    · rw [hS8]; show S7.2.2.1 + _ ≤ _; omega
    · rw [hS8]; show S7.2.2.2 + _ ≤ _; omega
  · right
    obtain ⟨fa, kd, pl, S', M', e1, e2, e3, e4, e5, e6, e7, e8, e9⟩ := jf
    obtain ⟨hk, fs, cq⟩ := h4.cl
    have on1 : fX6_one E N (put b A S4) q (some l0) = some (Sum.inr fa, put b A S') := by
      simp only [fX6_one, bX6_one_0, pq_lit]
      simp (disch := omega) only [rv_hold hk cq, ↓gbx_x e1, ↓gbd_s, gbd_s, ↓gbx_s, gbx_s, ↓gnn_s, ↓grf_s, eq_self, ↓reduceIte, Nat.reduceEqDiff, Nat.reduceLeDiff, Nat.reduceLT, Nat.reduceMul, Nat.reduceAdd, not_true_eq_false, not_false_eq_true, Bool.false_eq_true, pq_lit, pq_add, pq_le, pq_lt, pq_eq, pq_en, pq_ne, pq_nle, pq_nlt, pq_len, pq_ltn, pB_z, pB_o, mzt_0, mzt_1, mzt_B]
    have mm : fX5_operand N M = some (Int32.ofNat 0, M') := by
      rw [preM, mbd_h e2, if_pos rfl]
      exact mzt_0 _
    refine ⟨fa, kd, pl, S', M', 1, ?_, fun k => ?_, e3, e4, e5, e6, (sm4.su (by decide)).sn.tr e7, by omega, by omega, by omega⟩
    · rw [preC]
      simp only [bX25_says_211, pq_lit]
      simp (disch := omega) only [↓r97, ↓r25, v_one h4, ↓gbx_x on1, ↓gbd_s, gbd_s, ↓gbx_s, gbx_s, ↓gnn_s, ↓grf_s, eq_self, ↓reduceIte, Nat.reduceEqDiff, Nat.reduceLeDiff, Nat.reduceLT, Nat.reduceMul, Nat.reduceAdd, not_true_eq_false, not_false_eq_true, Bool.false_eq_true, pq_lit, pq_add, pq_le, pq_lt, pq_eq, pq_en, pq_ne, pq_nle, pq_nlt, pq_len, pq_ltn, pB_z, pB_o, mzt_0, mzt_1, mzt_B]
    · rw [sL_ox h55 mm, e6]
theorem y_th (cx : SCx E N b A S0 M0 q a nl l0 f0) (x : Ext S0 S) {S3 : GS} {M3 : MS} {fr3 i : Nat} {t3 : Tk} {oc : Option ((Option Nat ⊕ Nat) × GS)} (hi : i = 5 ∨ i = 6 ∨ i = 7 ∨ i = 8) (hw : wi < 8) (h55 : M.1 55 = Int32.ofNat 0) (hc : oc = bX25_says_157 E N ρ0 ρ1 ρ2 ρ3 q (put b A S3) (bI (decide (i = 12))) (bI (decide (i = 9))) (bI (decide (i = 0))) (bI (decide (i = 0) || decide (i = 1))) (x5t i) (x6t i)) (hm : fX5_operand N M = opT N M3 (bI (decide (i = 9))) (bI (decide (i = 12))) (x7t i)) (h3 : Rd b A S3 M3 q 18 (sEx a (on + 1) (wi + 1)) n lim fr3 t3) (hs : SnM M3 cs st (on + 1) false) (hb2 : cs.length + st.length + 2 ≤ 2 * (on + 1)) (xo : Xo q S S3) (sm : mSm sk M0 M3) (hf : fr + 1 ≤ fr3) (k1 : S3.2.2.1 ≤ S.2.2.1 + 4) (k2 : S3.2.2.2 ≤ S.2.2.2 + 40)  : SP N b A S0 M0 q a nl n lim wi Rs (fun _ => True) S M fr cs st oc := by
  have cx' := cx
  obtain ⟨kok, hN, hq, hr, hl, ⟨ln, y2, y3, ha⟩, h6⟩ := cx
  have hE := kok.1
  have hb0 := kok.2.1
  have x3 := xo.ext x hq
  have hb : b + 111 ≤ S3.2.1 := Nat.le_trans hb0 x3.1
  have hEq : E.1 ≤ q := by omega
  have hbq : b ≤ q := by omega
  have hq3 := h3.lt
  have hfl : fr3 ≤ lim := by
    obtain ⟨p, kd, nu, sg, wr, c, _, _, _, _, _, _, _, _, _, h10, _⟩ := h3
    exact h10
  have hlen : cs.length + st.length ≤ 40 := by have := hs.2.2.2.2.2.2.2.2.1; omega
  obtain ⟨M4, hM4⟩ : ∃ M4, M4 = mF M3 55 (Int32.ofNat 1) := ⟨_, rfl⟩
  have s4 : SnM M4 cs st (on + 1) true := by rw [hM4]; exact hs.wh (by omega)
  have sm4 : mSm sk M0 M4 := by rw [hM4]; exact sm.tr (mSm.rf.mF _ (by decide))
  have h4 : Rd b A S3 M4 q 18 (sEx a (on + 1) (wi + 1)) n lim fr3 t3 := by rw [hM4]; exact h3.mm (fun k hk => mF_ne _ _ (by rintro rfl; revert hk; decide)) rfl rfl
  obtain ⟨w, hw5, hwl⟩ : ∃ w, x6t i = Int32.ofNat w ∧ i = 5 + w ∧ w < 4 := by
    rcases hi with rfl | rfl | rfl | rfl
    · exact ⟨0, rfl, rfl, by omega⟩
    · exact ⟨1, rfl, rfl, by omega⟩
    · exact ⟨2, rfl, rfl, by omega⟩
    · exact ⟨3, rfl, rfl, by omega⟩
  have preC : oc = gbx (vInchBorders_SentenceReader_than__I_LInchBorders_Cond_ E N (put b A S3) (some q) (Int32.ofNat w)) (fun r_5 S_6 => bX25_says_237 E N ρ0 ρ1 ρ2 ρ3 q S_6 r_5) := by
    rw [hc, ← hw5]
    rcases hi with rfl | rfl | rfl | rfl <;> rfl
  rw [v_than h4] at preC
  have preM : fX5_operand N M = (if M4.1 11 = Int32.ofNat 3 then
                if M4.1 14 < Int32.ofNat 60 then
                  bX5_operand_208 N M4
                else
                  if M4.1 14 ≤ Int32.ofNat 62 then
                    mbd (fX5_next N M4) (fun _ S_17 =>
                    if (S_17.1 11) = Int32.ofNat 2 then
                      mbd (fX5_code N S_17 (Int32.ofNat i) (M4.1 14) (S_17.1 14)) (fun _ S_21 =>
                      mbd (fX5_next N S_21) (fun _ S_24 =>
                      mzt (Int32.ofNat 1) (some (Int32.ofNat 1, S_24))))
                    else
                      mbd (fX5_bad N S_17 (Int32.ofNat 1)) (fun r_26 S_27 =>
                      mzt r_26 (some (r_26, S_27))))
                  else
                    bX5_operand_208 N M4
              else
                bX5_operand_208 N M4) := by
    rw [hm, hM4]
    rcases hi with rfl | rfl | rfl | rfl <;> rfl
  have hh4 := h4
  obtain ⟨p, kd, nu, sg, wr, c, g1, g2, g3, g4, g5, g6, g7, hk, g9, g10, g11, g12⟩ := h4
  have r47 := fun {β : Type} (K : Int32 → Option β) => rd_47 hk c A K
  have r50 := fun {β : Type} (K : Int32 → Option β) => rd_50 hk c A K
  have n1 := c_need1 (E := E) (N := N) (b := b) (A := A) (S := S3) (q := q) (Int32.ofNat 1)
  by_cases e : t3.1 = 6 ∧ t3.2.2 ≠ 40 ∧ t3.2.2 ≠ 41
  · obtain ⟨e6, e40, e41⟩ := e
    have hw6 : kd = Int32.ofNat 6 ∧ M4.1 11 = Int32.ofNat 3 ∧ sgOk t3.2.2 ∧ sg = Int32.ofNat t3.2.2 ∧ M4.1 14 = Int32.ofNat t3.2.2 := by
      rcases g12 with h | h | h | h | h | h
      · omega
      · omega
      · omega
      · omega
      · omega
      · exact ⟨h.2.1, h.2.2⟩
    obtain ⟨w1, w2, w3, w4, w5⟩ := hw6
    have hg : t3.2.2 = 60 ∨ t3.2.2 = 61 ∨ t3.2.2 = 62 := by unfold sgOk at w3; omega
    obtain ⟨S5, M5, fr5, t5, gc, gm, h5, hf5, xo5, fx5, sm5, p1, p2⟩ := j_gw (E := E) (N := N) hE hbq hb (by omega) hh4 (by omega)
    have sm05 : mSm sk M0 M5 := sm4.tr (sm5.su (by decide))
    have xo05 := xo.tr xo5
    have x05 := xo05.ext x hq
    have hb5 : b + 111 ≤ S5.2.1 := Nat.le_trans hb0 x05.1
    obtain ⟨S6, hS6⟩ : ∃ S6, S6 = gpush S5 (.inr (22, gdf 22)) (gdf 22).length := ⟨_, rfl⟩
    have x6 : Ext S5 S6 := by rw [hS6]; exact Ext.push _ _ _
    have c6 : Cel b S6 S5.2.1 (.inr (22, [.int (Int32.ofNat 0), .int (Int32.ofNat 0), .int (Int32.ofNat 0)])) := by rw [hS6]; exact Cel.push hb5 _ _
    have z6 : S6.2 = (S5.2.1 + 1, S5.2.2.1 + 1, S5.2.2.2 + 3) := by rw [hS6]; rfl
    have z61 : S6.2.2.1 = S5.2.2.1 + 1 := by rw [z6]
    have z62 : S6.2.2.2 = S5.2.2.2 + 3 := by rw [z6]
    have h6' := h5.ext x6
    have hq5 := h5.lt
    have preC2 : fX25_than E N (put b A S3) q (Int32.ofNat w) = bX25_than_49 E N q (put b A S6) (Int32.ofNat w) (Int32.ofNat t3.2.2) (some S5.2.1) := by
      simp only [fX25_than, bX25_than_0, bX25_than_33, bX25_than_37, bX25_than_46, pq_lit]
      simp (disch := omega) only [↓r47, w1, ↓r50, w4, e40, e41, v_need hh4, ↓gbx_h n1, v_go hh4, ↓gbd_h (gc), gc, ↓gnw_n hb5, ← hS6, ↓gbd_s, gbd_s, ↓gbx_s, gbx_s, ↓gnn_s, ↓grf_s, eq_self, ↓reduceIte, Nat.reduceEqDiff, Nat.reduceLeDiff, Nat.reduceLT, Nat.reduceMul, Nat.reduceAdd, not_true_eq_false, not_false_eq_true, Bool.false_eq_true, pq_lit, pq_add, pq_le, pq_lt, pq_eq, pq_en, pq_ne, pq_nle, pq_nlt, pq_len, pq_ltn, pB_z, pB_o, mzt_0, mzt_1, mzt_B]
    have z60 : ¬ t3.2.2 < 60 := by omega
    have z62' : t3.2.2 ≤ 62 := by omega
    rw [if_pos w2, w5, if_neg (by rw [pq_lt (by omega) (by omega)]; exact z60), if_pos (by rw [pq_le (by omega) (by omega)]; exact z62'), mbd_h gm] at preM
    have hfl5 : fr5 ≤ lim := by
      obtain ⟨p, kd, nu, sg, wr, c, _, _, _, _, _, _, _, _, _, h10, _⟩ := h5
      exact h10
    have hh6 := h6'
    obtain ⟨pp, kd6, nu6, sg6, wr6, cq6, _, _, _, _, _, _, _, hk6, _, _, _, f12⟩ := h6'
    have u47 := fun {β : Type} (K : Int32 → Option β) => rd_47 hk6 cq6 A K
    have u49 := fun {β : Type} (K : Int32 → Option β) => rd_49 hk6 cq6 A K
    have n16 := c_need1 (E := E) (N := N) (b := b) (A := A) (S := S6) (q := q) (Int32.ofNat 1)
    have n26 := c_need1 (E := E) (N := N) (b := b) (A := A) (S := S6) (q := q) (Int32.ofNat 2)
    by_cases e3 : t5.1 = 3
    · left
      have hv : kd6 = Int32.ofNat 3 ∧ M5.1 11 = Int32.ofNat 2 ∧ t5.2.2 < 1000 ∧ nu6 = Int32.ofNat t5.2.2 ∧ M5.1 14 = Int32.ofNat t5.2.2 := by
        rcases f12 with h | h | h | h | h | h
        · omega
        · omega
        · omega
        · exact h.2
        · omega
        · omega
      obtain ⟨v1, v2, v3, v4, v5⟩ := hv
      have s5 : SnM M5 cs st (on + 1) true := s4.sm sm5 (by decide)
      obtain ⟨M6, m1, m2, m3, m4, m5⟩ := m_code (N := N) (M := M5) s5.1 s5.2.1 (by omega) (i, t3.2.2, t5.2.2)
      have h66 : Rd b A S6 M6 q 18 (sEx a (on + 1) (wi + 1)) n lim fr5 t5 := hh6.mm (fun k hk => (m1.2 k (fun q => by
        simp only [List.mem_cons, List.not_mem_nil, or_false] at hk q; omega)).1) (m1.2 1 (by decide)).2 m2
      obtain ⟨S7, M7, fr7, t7, gc7, gm7, h7, hf7, xo7, fx7, sm7, r1, r2⟩ := j_gw (E := E) (N := N) hE hbq (Nat.le_trans hb5 x6.1) (by omega) h66 (by omega)
      have s6 : SnM M6 (cs ++ [(i, t3.2.2, t5.2.2)]) st (on + 1) true := s5.cd m1 m3 m4 (by show cs.length + st.length + 1 + 1 ≤ _; omega)
      have s7 : SnM M7 (cs ++ [(i, t3.2.2, t5.2.2)]) st (on + 1) true := s6.sm sm7 (by decide)
      have c7 : Cel b S7 S5.2.1 (.inr (22, [.int (Int32.ofNat 0), .int (Int32.ofNat 0), .int (Int32.ofNat 0)])) := xo7.cel c6 (by omega)
      obtain ⟨S8, hS8⟩ : ∃ S8, S8 = gup S7 S5.2.1 (.inr (22, [.int (Int32.ofNat w), .int (Int32.ofNat t3.2.2), .int (Int32.ofNat t5.2.2)])) := ⟨_, rfl⟩
      have c8 : Cel b S8 S5.2.1 (.inr (22, [.int (Int32.ofNat w), .int (Int32.ofNat t3.2.2), .int (Int32.ofNat t5.2.2)])) := by rw [hS8]; exact c7.up _
      have h8 : Rd b A S8 M7 q 18 (sEx a (on + 1) (wi + 1)) n lim fr7 t7 := by rw [hS8]; exact h7.up c7.1 rfl (by omega) _
      have xo8 : Xo q S S8 := by rw [hS8]; exact ((xo05.tr x6.xo).tr xo7).gu xo05.1 _
      have ii := c_isIn (E := E) (N := N) (S := put b A S6) (Int32.ofNat t5.2.2) (Int32.ofNat 0) (Int32.ofNat 999)
      have eB : pB (Int32.ofNat 0 ≤ Int32.ofNat t5.2.2 ∧ Int32.ofNat t5.2.2 ≤ Int32.ofNat 999) = Int32.ofNat 1 := pB_t (by rw [pq_le (by omega) (by omega), pq_le (by omega) (by omega)]; omega)
      rw [eB] at ii
      have nm : fX6_number E N (put b A S6) q (Int32.ofNat 0) (Int32.ofNat 999) = some (Sum.inl (Int32.ofNat t5.2.2), put b A S7) := by
        simp only [fX6_number, bX6_number_0, bX6_number_14, bX6_number_18, bX6_number_28, bX6_number_32, bX6_number_41, pq_lit]
        simp (disch := omega) only [↓u47, v1, rv_need hk6 cq6, ↓gbx_h n16, ↓u49, v4, ↓gbd_h (ii), ii, ↓gbx_h n26, rv_go hk6 cq6, ↓gbd_h (gc7), gc7, ↓gbd_s, gbd_s, ↓gbx_s, gbx_s, ↓gnn_s, ↓grf_s, eq_self, ↓reduceIte, Nat.reduceEqDiff, Nat.reduceLeDiff, Nat.reduceLT, Nat.reduceMul, Nat.reduceAdd, not_true_eq_false, not_false_eq_true, Bool.false_eq_true, pq_lit, pq_add, pq_le, pq_lt, pq_eq, pq_en, pq_ne, pq_nle, pq_nlt, pq_len, pq_ltn, pB_z, pB_o, mzt_0, mzt_1, mzt_B]
      have hg5 : E.1 ≤ S5.2.1 := by omega
      have cc : oc = bX25_says_237 E N ρ0 ρ1 ρ2 ρ3 q (put b A S8) (some S5.2.1) := by
        have th : fX25_than E N (put b A S3) q (Int32.ofNat w) = some (Sum.inl (some S5.2.1), put b A S8) := by
          rw [preC2]
          simp only [bX25_than_49, bX25_than_60, bX25_than_63, bX30_init_0, fX30_init, bX26_init_0, fX26_init, pq_lit]
          simp (disch := omega) only [v_num hh6, ↓gbx_h nm, ↓w22_104 c7 hg5, ↓w22_105 (c7.up _) hg5, ↓w22_106 (c7.up _) hg5, gup_gup, ← hS8, ↓gbd_s, gbd_s, ↓gbx_s, gbx_s, ↓gnn_s, ↓grf_s, eq_self, ↓reduceIte, Nat.reduceEqDiff, Nat.reduceLeDiff, Nat.reduceLT, Nat.reduceMul, Nat.reduceAdd, not_true_eq_false, not_false_eq_true, Bool.false_eq_true, pq_lit, pq_add, pq_le, pq_lt, pq_eq, pq_en, pq_ne, pq_nle, pq_nlt, pq_len, pq_ltn, pB_z, pB_o, mzt_0, mzt_1, mzt_B]
        rw [preC, gbx_h th]
      have mm : fX5_operand N M = some (Int32.ofNat 1, M7) := by
        rw [preM, if_pos v2, v5, mbd_h m5, mbd_h gm7]
        exact mzt_1 _
      refine s_fin (c := [(i, t3.2.2, t5.2.2)]) (cs' := cs ++ [(i, t3.2.2, t5.2.2)]) (st' := st) (j := 1) hEq hq hw h8 cc (fun k => sL_o h55 mm) s7 rfl ?_ (Nat.le_refl _) xo8 x ((sm05.tr (m1.su (by decide))).tr (sm7.su (by decide))) (by omega) ?_ ?_
      · show CndAt b S8 nl 1 S5.2.1 [(i, t3.2.2, t5.2.2)]
        rw [hwl.1]
        exact Or.inr (Or.inr (Or.inr (Or.inr (Or.inr (Or.inr ⟨w, t3.2.2, t5.2.2, hwl.2, hg, v3, c8, rfl⟩)))))
      · rw [hS8]; show S7.2.2.1 + _ ≤ _; omega
      · rw [hS8]; show S7.2.2.2 + _ ≤ _; omega
    · right
      have hv : ¬ kd6 = Int32.ofNat 3 ∧ ¬ M5.1 11 = Int32.ofNat 2 := by
        rcases f12 with h | h | h | h | h | h
        · rw [h.2.1, h.2.2]; decide
        · rw [h.2.2]; exact ⟨by rcases h.2.1 with q | q <;> rw [q] <;> decide, by decide⟩
        · rw [h.2.1, h.2.2.1]; decide
        · exact absurd h.1 e3
        · rw [h.2.1, h.2.2.1]; decide
        · rw [h.2.1, h.2.2.1]; decide
      obtain ⟨S7, b1, b2, x7, f7, q1, q2⟩ := j_bad (E := E) (N := N) hE (Nat.le_trans hb5 x6.1) hh6 (k := 1) (Or.inl rfl)
      have nm : fX6_number E N (put b A S6) q (Int32.ofNat 0) (Int32.ofNat 999) = some (Sum.inr S6.2.1, put b A S7) := by
        simp only [fX6_number, bX6_number_0, bX6_number_14, pq_lit]
        simp (disch := omega) only [↓u47, hv.1, rv_need hk6 cq6, ↓gbx_x b1, ↓gbd_s, gbd_s, ↓gbx_s, gbx_s, ↓gnn_s, ↓grf_s, eq_self, ↓reduceIte, Nat.reduceEqDiff, Nat.reduceLeDiff, Nat.reduceLT, Nat.reduceMul, Nat.reduceAdd, not_true_eq_false, not_false_eq_true, Bool.false_eq_true, pq_lit, pq_add, pq_le, pq_lt, pq_eq, pq_en, pq_ne, pq_nle, pq_nlt, pq_len, pq_ltn, pB_z, pB_o, mzt_0, mzt_1, mzt_B]
      have th : fX25_than E N (put b A S3) q (Int32.ofNat w) = some (Sum.inr S6.2.1, put b A S7) := by
        rw [preC2]
        simp only [bX25_than_49, pq_lit]
        simp (disch := omega) only [v_num hh6, ↓gbx_x nm, ↓gbd_s, gbd_s, ↓gbx_s, gbx_s, ↓gnn_s, ↓grf_s, eq_self, ↓reduceIte, Nat.reduceEqDiff, Nat.reduceLeDiff, Nat.reduceLT, Nat.reduceMul, Nat.reduceAdd, not_true_eq_false, not_false_eq_true, Bool.false_eq_true, pq_lit, pq_add, pq_le, pq_lt, pq_eq, pq_en, pq_ne, pq_nle, pq_nlt, pq_len, pq_ltn, pB_z, pB_o, mzt_0, mzt_1, mzt_B]
      have mm : fX5_operand N M = some (Int32.ofNat 0, mF (mF M5 15 (Int32.ofNat 1)) 16 (Int32.ofNat fr5)) := by
        rw [preM, if_neg hv.2, mbd_h b2]
        exact mzt_0 _
      have s16 : mSm [15, 16] M5 (mF (mF M5 15 (Int32.ofNat 1)) 16 (Int32.ofNat fr5)) := (mSm.rf.mF _ (by decide)).mF _ (by decide)
      refine ⟨S6.2.1, _, _, S7, mF (mF M5 15 (Int32.ofNat 1)) 16 (Int32.ofNat fr5), 1, ?_, fun k => ?_, (x05.tr x6).tr x7, f7, ?_, mF_e _ _ _, (sm05.su (by decide)).sn.tr (s16.rd (by decide)), by omega, by omega, by omega⟩
      · rw [preC, gbx_x th]
      · rw [sL_ox h55 mm, mF_e]
      · rw [mF_ne _ _ (by omega)]; exact mF_e _ _ _
  · right
    obtain ⟨S7, b1, b2, x7, f7, q1, q2⟩ := j_bad (E := E) (N := N) hE hb hh4 (k := 1) (Or.inl rfl)
    have th : fX25_than E N (put b A S3) q (Int32.ofNat w) = some (Sum.inr S3.2.1, put b A S7) := by
      by_cases e6 : t3.1 = 6
      · have hw6 : kd = Int32.ofNat 6 ∧ sg = Int32.ofNat t3.2.2 ∧ sgOk t3.2.2 := by
          rcases g12 with h | h | h | h | h | h
          · omega
          · omega
          · omega
          · omega
          · omega
          · exact ⟨h.2.1, h.2.2.2.2.1, h.2.2.2.1⟩
        by_cases e40 : t3.2.2 = 40
        · simp only [fX25_than, bX25_than_0, bX25_than_32, bX25_than_33, pq_lit]
          simp (disch := omega) only [↓r47, hw6.1, ↓r50, hw6.2.1, e40, v_need hh4, ↓gbx_x b1, ↓gbd_s, gbd_s, ↓gbx_s, gbx_s, ↓gnn_s, ↓grf_s, eq_self, ↓reduceIte, Nat.reduceEqDiff, Nat.reduceLeDiff, Nat.reduceLT, Nat.reduceMul, Nat.reduceAdd, not_true_eq_false, not_false_eq_true, Bool.false_eq_true, pq_lit, pq_add, pq_le, pq_lt, pq_eq, pq_en, pq_ne, pq_nle, pq_nlt, pq_len, pq_ltn, pB_z, pB_o, mzt_0, mzt_1, mzt_B]
        · have e41 : t3.2.2 = 41 := by
            have : ¬ (t3.2.2 ≠ 41) := fun q => e ⟨e6, e40, q⟩
            omega
          simp only [fX25_than, bX25_than_0, bX25_than_32, bX25_than_33, pq_lit]
          simp (disch := omega) only [↓r47, hw6.1, ↓r50, hw6.2.1, e41, v_need hh4, ↓gbx_x b1, ↓gbd_s, gbd_s, ↓gbx_s, gbx_s, ↓gnn_s, ↓grf_s, eq_self, ↓reduceIte, Nat.reduceEqDiff, Nat.reduceLeDiff, Nat.reduceLT, Nat.reduceMul, Nat.reduceAdd, not_true_eq_false, not_false_eq_true, Bool.false_eq_true, pq_lit, pq_add, pq_le, pq_lt, pq_eq, pq_en, pq_ne, pq_nle, pq_nlt, pq_len, pq_ltn, pB_z, pB_o, mzt_0, mzt_1, mzt_B]
      · have nk : ¬ kd = Int32.ofNat 6 := by
          rcases g12 with h | h | h | h | h | h
          · rw [h.2.1]; decide
          · rcases h.2.1 with q | q <;> rw [q] <;> decide
          · rw [h.2.1]; decide
          · rw [h.2.1]; decide
          · rw [h.2.1]; decide
          · exact absurd h.1 e6
        simp only [fX25_than, bX25_than_0, bX25_than_32, bX25_than_33, pq_lit]
        simp (disch := omega) only [↓r47, nk, v_need hh4, ↓gbx_x b1, ↓gbd_s, gbd_s, ↓gbx_s, gbx_s, ↓gnn_s, ↓grf_s, eq_self, ↓reduceIte, Nat.reduceEqDiff, Nat.reduceLeDiff, Nat.reduceLT, Nat.reduceMul, Nat.reduceAdd, not_true_eq_false, not_false_eq_true, Bool.false_eq_true, pq_lit, pq_add, pq_le, pq_lt, pq_eq, pq_en, pq_ne, pq_nle, pq_nlt, pq_len, pq_ltn, pB_z, pB_o, mzt_0, mzt_1, mzt_B]
    have m208 : bX5_operand_208 N M4 = some (Int32.ofNat 0, mF (mF M4 15 (Int32.ofNat 1)) 16 (Int32.ofNat fr3)) := by
      simp only [bX5_operand_208, pq_lit]
      simp (disch := omega) only [↓mbd_h (b2), b2, ↓mbd_s, mbd_s, eq_self, ↓reduceIte, Nat.reduceEqDiff, Nat.reduceLeDiff, Nat.reduceLT, Nat.reduceMul, Nat.reduceAdd, not_true_eq_false, not_false_eq_true, Bool.false_eq_true, pq_lit, pq_add, pq_le, pq_lt, pq_eq, pq_en, pq_ne, pq_nle, pq_nlt, pq_len, pq_ltn, pB_z, pB_o, mzt_0, mzt_1, mzt_B]
    have mm : fX5_operand N M = some (Int32.ofNat 0, mF (mF M4 15 (Int32.ofNat 1)) 16 (Int32.ofNat fr3)) := by
      rw [preM]
      by_cases e3 : M4.1 11 = Int32.ofNat 3
      · rw [if_pos e3]
        have lt : M4.1 14 < Int32.ofNat 60 := by
          rcases g12 with h | h | h | h | h | h
          · rw [h.2.2] at e3; exact absurd e3 (by decide)
          · rw [h.2.2] at e3; exact absurd e3 (by decide)
          · rw [h.2.2.1] at e3; exact absurd e3 (by decide)
          · rw [h.2.2.1] at e3; exact absurd e3 (by decide)
          · rw [h.2.2.2]; decide
          · rw [h.2.2.2.2.2]
            have h4041 : t3.2.2 = 40 ∨ t3.2.2 = 41 := by
              by_cases q : t3.2.2 = 40
              · exact Or.inl q
              · by_cases q2 : t3.2.2 = 41
                · exact Or.inr q2
                · exact absurd ⟨h.1, q, q2⟩ e
            rw [pq_lt (by omega) (by omega)]; omega
        rw [if_pos lt, m208]
      · rw [if_neg e3, m208]
    have s16 : mSm [15, 16] M4 (mF (mF M4 15 (Int32.ofNat 1)) 16 (Int32.ofNat fr3)) := (mSm.rf.mF _ (by decide)).mF _ (by decide)
    refine ⟨S3.2.1, _, _, S7, mF (mF M4 15 (Int32.ofNat 1)) 16 (Int32.ofNat fr3), 1, ?_, fun k => ?_, x3.tr x7, f7, ?_, mF_e _ _ _, (sm4.su (by decide)).sn.tr (s16.rd (by decide)), by omega, by omega, by omega⟩
    · rw [preC, gbx_x th]
    · rw [sL_ox h55 mm, mF_e]
    · rw [mF_ne _ _ (by omega)]; exact mF_e _ _ _
end SG
