/-! made: the calls -/
theorem gpush_gup {S : GS} {q : Nat} {e e' : GE} {n : Nat} (h : q < S.2.1) : gpush (gup S q e) e' n = gup (gpush S e' n) q e := by
  unfold gpush gup
  refine Prod.ext (funext fun i => ?_) rfl
  simp only [va_up]
  by_cases h1 : i = S.2.1
  · rw [if_pos h1, if_neg (by omega), if_pos h1]
  · rw [if_neg h1]
    split <;> rfl
section WN
variable {E : gE} {N b : Nat} {A : FA} {S : GS} {a : Nat} {d : AD}
theorem c_mdI (hE : E.1 ≤ b) (hb : b + 111 ≤ S.2.1) (hT : TA b S A 0 a d) {p : Nat} (hp : p < nP (tS A 0)) (tt : Int32) : ∃ S2, Ext S S2 ∧ S2.2 = (S.2.1 + 4, S.2.2.1 + 4, S.2.2.2 + 26) ∧ mPl b S2 S.2.1 ∧ fX22_init E N (put b A (gpush S (.inr (15, gdf 15)) (gdf 15).length)) S.2.1 (some (tad b 0)) (Int32.ofNat p) tt = some (Int32.ofNat 0, put b A (mS S2 S.2.1 (mOb b S.2.1 (hm (tS A 0) p) (spW (tS A 0) p) tt (Int32.ofNat 0, (fun _ => Int32.ofNat 0), Int32.ofNat 0, fun _ => Int32.ofNat 0)) (fun _ => Int32.ofNat 0) (fun _ => Int32.ofNat 0) (fun _ => Int32.ofNat 0))) := by
  obtain ⟨S1, hS1⟩ : ∃ S1, S1 = gpush (gpush S (.inr (15, gdf 15)) (gdf 15).length) (.inl (1, 5, gdfa 1)) 5 := ⟨_, rfl⟩
  have s1 : S1.2.1 = S.2.1 + 2 := by rw [hS1]; rfl
  have b1 : b + 111 ≤ S1.2.1 := by omega
  have b2 : b + 111 ≤ (gpush S1 (.inl (1, 5, gdfa 1)) 5).2.1 := by rw [gpush_2]; omega
  have hb2 : b + 111 ≤ (gpush S (.inr (15, gdf 15)) (gdf 15).length).2.1 := by rw [gpush_2]; omega
  have k0 : Cel b S1 S.2.1 (.inr (15, gdf 15)) := by rw [hS1]; exact (Cel.push hb _ _).ext (Ext.push _ _ _)
  have k1 : Cel b S1 (S.2.1 + 1) (.inl (1, 5, .inl (fun _ => Int32.ofNat 0))) := by rw [hS1]; exact Cel.push hb2 _ _
  have k2 : Cel b (gpush S1 (.inl (1, 5, gdfa 1)) 5) (S.2.1 + 2) (.inl (1, 5, .inl (fun _ => Int32.ofNat 0))) := by
    have := Cel.push b1 (.inl (1, 5, gdfa 1)) 5
    rw [s1] at this
    exact this
  have k3 : Cel b (gpush (gpush S1 (.inl (1, 5, gdfa 1)) 5) (.inl (1, 7, gdfa 1)) 7) (S.2.1 + 3) (.inl (1, 7, .inl (fun _ => Int32.ofNat 0))) := by
    have := Cel.push b2 (.inl (1, 7, gdfa 1)) 7
    rw [gpush_2] at this
    simp only [s1] at this
    exact this
  have x2 := Ext.push (gpush S1 (.inl (1, 5, gdfa 1)) 5) (.inl (1, 7, gdfa 1)) 7
  have x1 := Ext.push S1 (.inl (1, 5, gdfa 1)) 5
  have hg : E.1 ≤ S.2.1 := by omega
  refine ⟨gpush (gpush S1 (.inl (1, 5, gdfa 1)) 5) (.inl (1, 7, gdfa 1)) 7, ?_, ?_, ⟨_, _, _, _, (k0.ext x1).ext x2, (k1.ext x1).ext x2, k2.ext x2, k3⟩, ?_⟩
  · rw [hS1]
    exact (((Ext.push _ _ _).tr (Ext.push _ _ _)).tr (Ext.push _ _ _)).tr (Ext.push _ _ _)
  · rw [hS1]; rfl
  · have em : mS (gpush (gpush S1 (.inl (1, 5, gdfa 1)) 5) (.inl (1, 7, gdfa 1)) 7) S.2.1 (mOb b S.2.1 (hm (tS A 0) p) (spW (tS A 0) p) tt (Int32.ofNat 0, (fun _ => Int32.ofNat 0), Int32.ofNat 0, fun _ => Int32.ofNat 0)) (fun _ => Int32.ofNat 0) (fun _ => Int32.ofNat 0) (fun _ => Int32.ofNat 0) = gup (gpush (gpush S1 (.inl (1, 5, gdfa 1)) 5) (.inl (1, 7, gdfa 1)) 7) S.2.1 (mOb b S.2.1 (hm (tS A 0) p) (spW (tS A 0) p) tt (Int32.ofNat 0, (fun _ => Int32.ofNat 0), Int32.ofNat 0, fun _ => Int32.ofNat 0)) := by
      unfold mS
      rw [wS_i ((k1.ext x1).ext x2), gup_i ((k2.ext x2).uo (by omega) _).1, gup_i (k3.uo (by omega) _).1]
    rw [em]
    have i1 := wi_15 (E := E) (N := N) hb hE hT hp (Int32.ofNat 0)
    rw [← hS1, spW_0] at i1
    have z : ∀ e, (gup S1 S.2.1 e).2.1 = S1.2.1 := fun e => rfl
    have hbu : ∀ e, b + 111 ≤ (gup S1 S.2.1 e).2.1 := fun e => b1
    have hbv : ∀ e, b + 111 ≤ (gup (gpush S1 (.inl (1, 5, gdfa 1)) 5) S.2.1 e).2.1 := fun e => b2
    have pg : ∀ e, gpush (gup S1 S.2.1 e) (.inl (1, 5, gdfa 1)) 5 = gup (gpush S1 (.inl (1, 5, gdfa 1)) 5) S.2.1 e := fun e => gpush_gup (by omega)
    have pg2 : ∀ e, gpush (gup (gpush S1 (.inl (1, 5, gdfa 1)) 5) S.2.1 e) (.inl (1, 7, gdfa 1)) 7 = gup (gpush (gpush S1 (.inl (1, 5, gdfa 1)) 5) (.inl (1, 7, gdfa 1)) 7) S.2.1 e := fun e => gpush_gup (by rw [gpush_2]; show S.2.1 < S1.2.1 + 1; omega)
    have z2 : ∀ e, (gup (gpush S1 (.inl (1, 5, gdfa 1)) 5) S.2.1 e).2.1 = S1.2.1 + 1 := fun e => rfl
    have k0' := k0.ext x1
    have k0'' := k0'.ext x2
    simp only [bX22_init_19, bX22_init_11, bX22_init_7, bX22_init_0, fX22_init, pq_lit]
    simp (disch := omega) only [↓gbd_h (i1), i1, ↓gna_n (hbu _), pg, z, s1, ↓w15_90 (k0'.up _) hg, ↓gna_n (hbv _), pg2, z2, ↓w15_91 (k0''.up _) hg, ↓w15_89 (k0''.up _) hg, gup_gup, g_rfs, mOb]
    rfl
theorem c_lkL {S2 : GS} {g : Nat} {o : GE} {P F G : Nat → Int32} {cs : List Value} (hp : mPl b S2 g) (ho : o = .inr (15, cs)) (h91 : cs[6]? = some (.ref (g + 3))) {q : Nat → Nat} (hq : ∀ l, q l ≤ 20000) (hG : ∀ l, l < 7 → G l = Int32.ofNat (q l)) : ∀ (k l best n : Nat), best < 7 → l + k = 7 → k < n → bX22_likely_4L E N g n (put b A (mS S2 g o P F G)) (Int32.ofNat best) (Int32.ofNat l) = some (Int32.ofNat (lkS q best l k), put b A (mS S2 g o P F G))
  | k, l, best, 0, _, _, h => by omega
  | 0, l, best, n + 1, hb, hl, _ => by
    have z : 7 ≤ l := by omega
    simp only [bX22_likely_4L, bX22_likely_4, pq_lit]
    simp (disch := omega) only [z, pq_lit, pq_add, pq_le, pq_lt, pq_eq, pq_en, pq_ne, pq_nle, pq_nlt, pq_len, pq_ltn, pB_z, pB_o, mzt_0, mzt_1, mzt_B, ↓gbd_s, gbd_s, ↓gnn_s, ↓grf_s, eq_self, ↓reduceIte, Nat.reduceEqDiff, Nat.reduceLeDiff, Nat.reduceLT, Nat.reduceMul, Nat.reduceAdd, not_true_eq_false, not_false_eq_true, Bool.false_eq_true, lkS]
  | k + 1, l, best, n + 1, hb, hl, hk => by
    have z : ¬ 7 ≤ l := by omega
    have c0 : Cel b (mS S2 g o P F G) g (.inr (15, cs)) := by rw [← ho]; exact hp.c0 _ _ _ _
    have c3 := hp.c3 o P F G
    have q1 := hq l
    have q2 := hq best
    have r91 : ∀ {β : Type} (K : Option Nat → Option β), ggr (put b A (mS S2 g o P F G)) (some g) 91 K = K (some (g + 3)) := fun K => ggr_as (c0.at A) rfl h91 K
    simp only [bX22_likely_4L, bX22_likely_4, bX22_likely_27, pq_lit]
    simp (disch := omega) only [z, ↓r91, gai_at (c3.at A) (show l < 7 by omega) (show 7 ≤ 65536 by omega), gai_at (c3.at A) hb (show 7 ≤ 65536 by omega), hG l (by omega), hG best hb, pq_lit, pq_add, pq_le, pq_lt, pq_eq, pq_en, pq_ne, pq_nle, pq_nlt, pq_len, pq_ltn, pB_z, pB_o, mzt_0, mzt_1, mzt_B, ↓gbd_s, gbd_s, ↓gnn_s, ↓grf_s, eq_self, ↓reduceIte, Nat.reduceEqDiff, Nat.reduceLeDiff, Nat.reduceLT, Nat.reduceMul, Nat.reduceAdd, not_true_eq_false, not_false_eq_true, Bool.false_eq_true, lkS]
    by_cases w : q best < q l
    · rw [if_neg (by omega), if_pos w]
      exact c_lkL hp ho h91 hq hG k (l + 1) l n (by omega) (by omega) (by omega)
    · rw [if_pos (by omega), if_neg w]
      exact c_lkL hp ho h91 hq hG k (l + 1) best n hb (by omega) (by omega)
theorem lkS_z {q : Nat → Nat} : ∀ (k l best : Nat), (∀ x, l ≤ x → x < l + k → q x = 0) → lkS q best l k = best
  | 0, _, _, _ => rfl
  | k + 1, l, best, h => by
    show lkS q (if q best < q l then l else best) (l + 1) k = best
    rw [if_neg (by rw [h l (by omega) (by omega)]; omega)]
    exact lkS_z k (l + 1) best (fun x h1 h2 => h x (by omega) (by omega))
theorem lkS_add {q : Nat → Nat} : ∀ (k m l best : Nat), lkS q best l (k + m) = lkS q (lkS q best l k) (l + k) m
  | 0, m, l, best => by simp [lkS]
  | k + 1, m, l, best => by
    rw [show k + 1 + m = (k + m) + 1 by omega]
    show lkS q (if q best < q l then l else best) (l + 1) (k + m) = lkS q (lkS q (if q best < q l then l else best) (l + 1) k) (l + (k + 1)) m
    rw [lkS_add k m (l + 1), show l + 1 + k = l + (k + 1) by omega]
theorem mdF_z {tt : Int32} {n : Nat} : ∀ (L : List Row) (q : MdS), (∀ r, r ∈ L → ∃ l, l < n ∧ r.2.1 = Int32.ofNat l) → n ≤ 7 → (∀ l, n ≤ l → q.2.2 l = 0) → ∀ l, n ≤ l → (mdF tt L q).2.2 l = 0
  | [], _, _, _, h => h
  | r :: L, q, hR, hn, h => by
    refine mdF_z L (md1 tt q r) (fun r' hr' => hR r' (List.mem_cons_of_mem _ hr')) hn (fun l hl => ?_)
    obtain ⟨l', l1, l2⟩ := hR r (List.mem_cons_self ..)
    have tl : r.2.1.toNatClampNeg = l' := by rw [l2]; exact pq_tn (by omega)
    unfold md1
    split
    · show (if l = r.2.1.toNatClampNeg then _ else _) = 0
      rw [tl, if_neg (by omega)]
      exact h l hl
    · exact h l hl
theorem mdF_c {tt : Int32} : ∀ (L : List Row) (q : MdS), (mdF tt L q).1 ≤ q.1 + L.length
  | [], _ => Nat.le_refl _
  | r :: L, q => by
    have h1 := mdF_c (tt := tt) L (md1 tt q r)
    have h2 := md1_cnt tt q r
    show (mdF tt L (md1 tt q r)).1 ≤ _
    simp only [List.length_cons]
    omega
theorem mdF_ok {tt : Int32} : ∀ (L : List Row) (q : MdS), mdOk q → q.1 + L.length ≤ 20000 → (∀ r, r ∈ L → r.1.length ≤ 4 ∧ 1 ≤ r.1.length ∧ ∀ l, l ∈ r.1 → l < 7) → mdOk (mdF tt L q)
  | [], _, h, _, _ => h
  | r :: L, q, h, hc, hR => by
    simp only [List.length_cons] at hc
    have cn := md1_cnt tt q r
    exact mdF_ok L (md1 tt q r) (md1_ok h (by omega) (hR r (List.mem_cons_self ..))) (by omega) (fun r' hr' => hR r' (List.mem_cons_of_mem _ hr'))
/-- what is known of what was made so far -/
def mdA (n k : Nat) (q : MdS) : Prop := mdOk q ∧ q.1 ≤ (k - 1) * 2401 ∧ ∀ l, n ≤ l → q.2.2 l = 0
theorem mdA_s {s : St} {h : Nat} {sp w t x tt : Int32} {k : Nat} {q : MdS} (h7 : nL s ≤ 7) (hk : 1 ≤ k ∧ k ≤ 4) (hq : mdA (nL s) k q) : mdA (nL s) (k + 1) (mdF tt (rows s h sp k w t x) q) := by
  obtain ⟨q1, q2, q3⟩ := hq
  have hc := rows_cnt (s := s) (h := h) (sp := sp) h7 k w t x
  have h74 : 7 ^ k ≤ 7 ^ 4 := Nat.pow_le_pow_right (by omega) hk.2
  have hl := fun r hr => rows_len (s := s) (h := h) (sp := sp) k w t x r hr
  have q2' : q.1 ≤ 3 * 2401 := Nat.le_trans q2 (Nat.mul_le_mul_right _ (by omega))
  have e : (k + 1 - 1) * 2401 = (k - 1) * 2401 + 2401 := by
    rw [show k + 1 - 1 = (k - 1) + 1 by omega, Nat.add_mul, Nat.one_mul]
  refine ⟨mdF_ok _ _ q1 (by omega) (fun r hr => ⟨by have := (hl r hr).1; omega, by have := (hl r hr).1; omega, fun l hl' => by have := (hl r hr).2.1 l hl'; omega⟩), ?_, mdF_z _ _ (fun r hr => (hl r hr).2.2 (by omega)) h7 q3⟩
  have := mdF_c (tt := tt) (rows s h sp k w t x) q
  omega
theorem c_mdL {S2 : GS} {g h : Nat} {sp tt : Int32} (hN : 100 ≤ N) {p : Nat} (H : Wlk E N b A a d g 15 h sp (fun P w => mS S2 g (mOb b g h sp tt w) P w.2.1 w.2.2.2) (mEn tt)) (hh : h < nL (tS A 0)) (hp : p < nP (tS A 0)) (ht : aV A 0 0 &&& Int32.ofNat 255 = Int32.ofNat p) : ∀ (m k n : Nat) (P : Nat → Int32) (w : MdQ) (q : MdS), MdC w q → mdA (nL (tS A 0)) k q → k + m = 5 → 1 ≤ k → m < n → ∃ P' w', MdC w' (mdR (tS A 0) h sp (tS A 0 (108 + p)) (tS A 0 (114 + p)) (tS A 0 (94 + h)) tt k m q) ∧ mdA (nL (tS A 0)) 5 (mdR (tS A 0) h sp (tS A 0 (108 + p)) (tS A 0 (114 + p)) (tS A 0 (94 + h)) tt k m q) ∧ bX1_made_46L E N b n (put b A (mS S2 g (mOb b g h sp tt w) P w.2.1 w.2.2.2)) (some g) (Int32.ofNat k) = bX1_made_46L E N b 1 (put b A (mS S2 g (mOb b g h sp tt w') P' w'.2.1 w'.2.2.2)) (some g) (Int32.ofNat 5)
  | m, k, 0, P, w, q, _, _, _, _, h => by omega
  | 0, k, n + 1, P, w, q, hC, hA, hk, _, _ => by
    have e : k = 5 := by omega
    subst e
    refine ⟨P, w, hC, hA, ?_⟩
    simp only [bX1_made_46L, bX1_made_46, pq_lit]
    simp (disch := omega) only [pq_lit, pq_add, pq_le, pq_lt, pq_eq, pq_en, pq_ne, pq_nle, pq_nlt, pq_len, pq_ltn, pB_z, pB_o, mzt_0, mzt_1, mzt_B, ↓gbd_s, gbd_s, ↓gnn_s, ↓grf_s, eq_self, ↓reduceIte, Nat.reduceEqDiff, Nat.reduceLeDiff, Nat.reduceLT, Nat.reduceMul, Nat.reduceAdd, not_true_eq_false, not_false_eq_true, Bool.false_eq_true]
  | m + 1, k, n + 1, P, w, q, hC, hA, hk, hk1, hn => by
    have hI := (H.2.2.1 P w).2.2.2
    have h7 := hI.l7
    have z : ¬ 4 < k := by omega
    obtain ⟨P1, r1, r2, r3⟩ := c_starts H hN hh hp (j := k) (by omega) P w
    have hl := fun r hr => rows_len (s := tS A 0) (h := h) (sp := sp) k (tS A 0 (108 + p)) (tS A 0 (114 + p)) (tS A 0 (94 + h)) r hr
    have hc := rows_cnt (s := tS A 0) (h := h) (sp := sp) h7 k (tS A 0 (108 + p)) (tS A 0 (114 + p)) (tS A 0 (94 + h))
    have h74 : 7 ^ k ≤ 7 ^ 4 := Nat.pow_le_pow_right (by omega) (by omega)
    have q2 : q.1 ≤ 3 * 2401 := Nat.le_trans hA.2.1 (Nat.mul_le_mul_right _ (by omega))
    obtain ⟨m1, m2⟩ := run_m (tt := tt) (rows (tS A 0) h sp k (tS A 0 (108 + p)) (tS A 0 (114 + p)) (tS A 0 (94 + h))) w q hC (by omega) (fun r hr => by
      obtain ⟨l, l1, l2⟩ := (hl r hr).2.2 hk1
      exact ⟨l, by omega, l2⟩)
    rw [m1] at r1
    obtain ⟨xs, hx⟩ := H.2.2.2.1 P w
    obtain ⟨P2, w2, j1, j2, j3⟩ := c_mdL hN H hh hp ht m (k + 1) n P1 _ _ m2 (mdA_s h7 ⟨hk1, by omega⟩ hA) (by omega) (by omega) (by omega)
    refine ⟨P2, w2, j1, j2, ?_⟩
    rw [← j3]
    simp only [bX1_made_46L, bX1_made_46, bX1_made_57, bX1_made_61, vInchBorders_onTape__I_I, bX1_onTape_0, fX1_onTape, vInchBorders_Made_starts__II_Z, pq_lit]
    simp (disch := omega) only [z, ↓f_cls, ↓f_0, ↓f_g0, f_g0, ht, ↓kc hx, ↓gbd_h (r1), r1, pq_lit, pq_add, pq_le, pq_lt, pq_eq, pq_en, pq_ne, pq_nle, pq_nlt, pq_len, pq_ltn, pB_z, pB_o, mzt_0, mzt_1, mzt_B, ↓gbd_s, gbd_s, ↓gnn_s, ↓grf_s, eq_self, ↓reduceIte, Nat.reduceEqDiff, Nat.reduceLeDiff, Nat.reduceLT, Nat.reduceMul, Nat.reduceAdd, not_true_eq_false, not_false_eq_true, Bool.false_eq_true]
end WN
