/-! reading: one of those told, a number, a line's end -/
def NmL (b : Nat) (S : GS) (M : MS) (l cnt o : Nat) (f : Nat → Nat) : Prop := LsAt b S l cnt f ∧ cnt ≤ 7 ∧ o + cnt ≤ 26 ∧ ∀ k, k < cnt → ∃ nm w ci fs, (ci = 6 ∨ ci = 8) ∧ Cel b S (f k) (.inr (ci, .ref nm :: fs)) ∧ StrAt b S nm w ∧ Wd w ∧ M.2.2.2 9 (o + k) = enc w
theorem NmL.ext {b : Nat} {S S' : GS} {M M' : MS} {l cnt o : Nat} {f : Nat → Nat} (h : NmL b S M l cnt o f) (x : Ext S S') (e : ∀ k, k < cnt → M'.2.2.2 9 (o + k) = M.2.2.2 9 (o + k)) : NmL b S' M' l cnt o f := by
  obtain ⟨h1, h2, h3, h4⟩ := h
  refine ⟨h1.ext x, h2, h3, fun k hk => ?_⟩
  obtain ⟨nm, w, ci, fs, g1, g2, g3, g4, g5⟩ := h4 k hk
  exact ⟨nm, w, ci, fs, g1, g2.ext x, g3.ext x, g4, (e k hk).trans g5⟩
def nmF (M : MS) (o : Nat) : Nat → Nat → Option Nat
  | 0, _ => none
  | k + 1, i => if M.2.2.2 9 (o + i) = M.2.1 then some i else nmF M o k (i + 1)
theorem nmF_lt {M : MS} {o : Nat} : ∀ (k i j : Nat), nmF M o k i = some j → j < i + k
  | 0, i, j, h => by cases h
  | k + 1, i, j, h => by
    unfold nmF at h
    split at h
    · injection h with h; omega
    · have := nmF_lt k _ _ h; omega
section RJ
variable {E : gE} {N b : Nat} {A : FA} {S0 S : GS} {M : MS} {q ci n lim fr : Nat} {ex : List Value} {t : Tk} {l cnt o : Nat} {f : Nat → Nat}
theorem c_fnL (h : Rd b A S M q ci ex n lim fr t) (ht : t.1 = 2) (hl : NmL b S M l cnt o f) (hN : 2000 ≤ N) : ∀ (k i m : Nat), i + k = cnt → k < m → bX6_find_2L E N q m (put b A S) (some l) (Int32.ofNat i) = some (oI (nmF M o k i), put b A S)
  | k, i, 0, h1, h2 => by omega
  | 0, i, m + 1, h1, h2 => by
    have sz := l_size (E := E) (N := N) (A := A) hl.1
    have e1 : cnt ≤ i := by omega
    have h7 := hl.2.1
    simp only [bX6_find_2L, bX6_find_2, nmF, oI, pq_lit]
    simp (disch := omega) only [↓gbd_h (sz), sz, e1, pq_lit, pq_add, pq_le, pq_lt, pq_eq, pq_en, pq_ne, pq_nle, pq_nlt, pq_len, pq_ltn, pB_z, pB_o, mzt_0, mzt_1, mzt_B, ↓gbd_s, gbd_s, ↓gnn_s, ↓grf_s, eq_self, ↓reduceIte, Nat.reduceEqDiff, Nat.reduceLeDiff, Nat.reduceLT, Nat.reduceMul, Nat.reduceAdd, not_true_eq_false, not_false_eq_true, Bool.false_eq_true]
  | k + 1, i, m + 1, h1, h2 => by
    have ih := c_fnL h ht hl hN k (i + 1) m (by omega) (by omega)
    have hw := h.wd ht
    obtain ⟨p, kd, nu, sg, wr, c, _, _, _, _, _, _, _, hk, _, _, _, h12⟩ := h
    have sw : StrAt b S wr t.2.1 := by
      rcases h12 with h | h | h | h | h | h
      · omega
      · omega
      · exact h.2.2.2.2.1
      · omega
      · omega
      · omega
    have sz := l_size (E := E) (N := N) (A := A) hl.1
    have gt := l_get (E := E) (N := N) (A := A) hl.1 (show i < cnt by omega)
    have h7 := hl.2.1
    obtain ⟨nm, w, cj, fs, g1, g2, g3, g4, g5⟩ := hl.2.2.2 i (by omega)
    have cc : ∀ {β : Type} (K : Option β), gcc (put b A S) (some (f i)) [6, 8] K = K := fun K => gcc_at (g2.at A) (by rcases g1 with rfl | rfl <;> decide) K
    have r61 : ∀ {β : Type} (K : Option Nat → Option β), ggr (put b A S) (some (f i)) 61 K = K (some nm) := fun K => ggr_as (g2.at A) (k := 0) (by rcases g1 with rfl | rfl <;> rfl) rfl K
    have r51 := fun {β : Type} (K : Option Nat → Option β) => rd_51 hk c A K
    have se := c_seq (E := E) (N := N) (A := A) g3 sw hN
    have e1 : ¬ cnt ≤ i := by omega
    unfold nmF
    by_cases e : w = t.2.1
    · have e2 : M.2.2.2 9 (o + i) = M.2.1 := by rw [g5, hw.2, e]
      rw [decide_eq_true e] at se
      rw [if_pos e2]
      simp only [bX6_find_2L, bX6_find_2, oI, pq_lit]
      simp (disch := omega) only [↓gbd_h (sz), sz, e1, ↓gbd_h (gt), gt, ↓cc, ↓r61, ↓r51, ↓gbd_h (se), se, bI_t, pq_lit, pq_add, pq_le, pq_lt, pq_eq, pq_en, pq_ne, pq_nle, pq_nlt, pq_len, pq_ltn, pB_z, pB_o, mzt_0, mzt_1, mzt_B, ↓gbd_s, gbd_s, ↓gnn_s, ↓grf_s, eq_self, ↓reduceIte, Nat.reduceEqDiff, Nat.reduceLeDiff, Nat.reduceLT, Nat.reduceMul, Nat.reduceAdd, not_true_eq_false, not_false_eq_true, Bool.false_eq_true]
    · have e2 : ¬ M.2.2.2 9 (o + i) = M.2.1 := by rw [g5, hw.2]; exact fun q => e (enc_inj g4 hw.1 q)
      rw [decide_eq_false e] at se
      rw [if_neg e2, ← ih]
      simp only [bX6_find_2L, bX6_find_2, pq_lit]
      simp (disch := omega) only [↓gbd_h (sz), sz, e1, ↓gbd_h (gt), gt, ↓cc, ↓r61, ↓r51, ↓gbd_h (se), se, bI_f, pq_lit, pq_add, pq_le, pq_lt, pq_eq, pq_en, pq_ne, pq_nle, pq_nlt, pq_len, pq_ltn, pB_z, pB_o, mzt_0, mzt_1, mzt_B, ↓gbd_s, gbd_s, ↓gnn_s, ↓grf_s, eq_self, ↓reduceIte, Nat.reduceEqDiff, Nat.reduceLeDiff, Nat.reduceLT, Nat.reduceMul, Nat.reduceAdd, not_true_eq_false, not_false_eq_true, Bool.false_eq_true]
theorem m_fnL (h7 : cnt ≤ 7) (h26 : o + cnt ≤ 26) : ∀ (k i m : Nat), i + k = cnt → k < m → bX5_find_2L N m M (Int32.ofNat o) (Int32.ofNat cnt) (Int32.ofNat i) = some (oI (nmF M o k i), M)
  | k, i, 0, h1, h2 => by omega
  | 0, i, m + 1, h1, h2 => by
    have e1 : cnt ≤ i := by omega
    simp only [bX5_find_2L, bX5_find_2, nmF, oI, pq_lit]
    simp (disch := omega) only [e1, ↓mbd_s, mbd_s, eq_self, ↓reduceIte, Nat.reduceEqDiff, Nat.reduceLeDiff, Nat.reduceLT, Nat.reduceMul, Nat.reduceAdd, not_true_eq_false, not_false_eq_true, Bool.false_eq_true, pq_lit, pq_add, pq_le, pq_lt, pq_eq, pq_en, pq_ne, pq_nle, pq_nlt, pq_len, pq_ltn, pB_z, pB_o, mzt_0, mzt_1, mzt_B]
  | k + 1, i, m + 1, h1, h2 => by
    have ih := m_fnL h7 h26 k (i + 1) m (by omega) (by omega)
    have e1 : ¬ cnt ≤ i := by omega
    unfold nmF
    by_cases e : M.2.2.2 9 (o + i) = M.2.1
    · have lz : lg_cmp (M.2.2.2 9 (o + i)) M.2.1 = Int32.ofNat 0 := by rw [lg_z]; exact e
      rw [if_pos e]
      simp only [bX5_find_2L, bX5_find_2, oI, pq_lit]
      simp (disch := omega) only [e1, pq_add, ↓mrdL_n, mrdL_n, lz, ↓mbd_s, mbd_s, eq_self, ↓reduceIte, Nat.reduceEqDiff, Nat.reduceLeDiff, Nat.reduceLT, Nat.reduceMul, Nat.reduceAdd, not_true_eq_false, not_false_eq_true, Bool.false_eq_true, pq_lit, pq_add, pq_le, pq_lt, pq_eq, pq_en, pq_ne, pq_nle, pq_nlt, pq_len, pq_ltn, pB_z, pB_o, mzt_0, mzt_1, mzt_B]
    · have lz : ¬ lg_cmp (M.2.2.2 9 (o + i)) M.2.1 = Int32.ofNat 0 := by rw [lg_z]; exact e
      rw [if_neg e, ← ih]
      simp only [bX5_find_2L, bX5_find_2, pq_lit]
      simp (disch := omega) only [e1, pq_add, ↓mrdL_n, mrdL_n, lz, ↓mbd_s, mbd_s, eq_self, ↓reduceIte, Nat.reduceEqDiff, Nat.reduceLeDiff, Nat.reduceLT, Nat.reduceMul, Nat.reduceAdd, not_true_eq_false, not_false_eq_true, Bool.false_eq_true, pq_lit, pq_add, pq_le, pq_lt, pq_eq, pq_en, pq_ne, pq_nle, pq_nlt, pq_len, pq_ltn, pB_z, pB_o, mzt_0, mzt_1, mzt_B]
theorem j_fnd (h : Rd b A S M q ci ex n lim fr t) (ht : t.1 = 2) (hl : NmL b S M l cnt o f) (hN : 2000 ≤ N) : fX6_find E N (put b A S) q (some l) = some (oI (nmF M o cnt 0), put b A S) ∧ fX5_find N M (Int32.ofNat o) (Int32.ofNat cnt) = some (oI (nmF M o cnt 0), M) := by
  have h7 := hl.2.1
  exact ⟨c_fnL h ht hl hN cnt 0 N (by omega) (by omega), m_fnL h7 hl.2.2.1 cnt 0 N (by omega) (by omega)⟩
theorem oI_m (o : Option Nat) : (∀ k, o = some k → k < 2000) → ((oI o = -Int32.ofNat 1) ↔ o = none) ∧ ((Int32.ofNat 0 ≤ oI o) ↔ o ≠ none) := by
  intro h
  cases o with
  | none => exact ⟨⟨fun _ => rfl, fun _ => rfl⟩, by simp [oI]⟩
  | some k =>
    have hk := h k rfl
    refine ⟨⟨fun e => ?_, fun e => by cases e⟩, ⟨fun _ e => (by cases e), fun _ => ?_⟩⟩
    · have : (Int32.ofNat k = -Int32.ofNat 1) = False := pq_en (by omega)
      exact absurd e (by rw [show oI (some k) = Int32.ofNat k from rfl, this]; exact id)
    · show Int32.ofNat 0 ≤ Int32.ofNat k
      rw [pq_le (by omega) (by omega)]; omega
theorem JF.bad {α : Type} {C T : Nat} {oc : Option ((α ⊕ Nat) × GS)} {om : Option (Int32 × MS)} {S1 S' : GS} {M1 : MS} {k : Nat} {fa : Nat} (x0 : Ext S0 S1) (x : Ext S1 S') (fl : FltAt b S' fa (Int32.ofNat k) (Int32.ofNat fr)) (hm : mSn rdk M M1) (ec : oc = some (Sum.inr fa, put b A S')) (em : om = some (Int32.ofNat 0, mF (mF M1 15 (Int32.ofNat k)) 16 (Int32.ofNat fr))) (h1 : S'.2.2.1 ≤ C) (h2 : S'.2.2.2 ≤ T) : JF b A S0 M C T oc om :=
  ⟨fa, _, _, S', _, ec, em, x0.tr x, fl, by rw [mF_ne _ _ (by omega)]; exact mF_e _ _ _, mF_e _ _ _, hm.tr (mSm.rd ((mSm.rf.mF _ (by decide)).mF _ (by decide)) (ks := [15, 16]) (by decide)), h1, h2⟩
theorem JF.mo {α β : Type} {C T C' T' : Nat} {oc : Option ((α ⊕ Nat) × GS)} {om : Option (Int32 × MS)} {oc' : Option ((β ⊕ Nat) × GS)} {om' : Option (Int32 × MS)} {M1 : MS} (h : JF b A S0 M1 C T oc om) (hm : mSn rdk M M1) (ec : ∀ fa S', oc = some (.inr fa, S') → oc' = some (.inr fa, S')) (em : ∀ M', om = some (Int32.ofNat 0, M') → om' = some (Int32.ofNat 0, M')) (hC : C ≤ C') (hT : T ≤ T') : JF b A S0 M C' T' oc' om' := by
  obtain ⟨fa, kd, pl, S', M', e1, e2, e3, e4, e5, e6, e7, e8, e9⟩ := h
  exact ⟨fa, kd, pl, S', M', ec _ _ e1, em _ e2, e3, e4, e5, e6, hm.tr e7, Nat.le_trans e8 hC, Nat.le_trans e9 hT⟩
theorem j_hold (kok : KOk E b S) (x0 : Ext S0 S) (hr : ResR M) (h : Rd b A S M q ci ex n lim fr t) (hl : NmL b S M l cnt o f) (hN : 2000 ≤ N) : (∃ S' k, k < cnt ∧ t.1 = 2 ∧ fX6_hold E N (put b A S) q (some l) = some (Sum.inl (Int32.ofNat k), put b A S') ∧ fX5_looksAt N M (Int32.ofNat o) (Int32.ofNat cnt) = some (Int32.ofNat 1, mF M 18 (Int32.ofNat k)) ∧ Ext S S' ∧ S'.2.2.1 ≤ S.2.2.1 + 7 ∧ S'.2.2.2 ≤ S.2.2.2 + 90) ∨ JF b A S0 M (S.2.2.1 + 8) (S.2.2.2 + 98) (fX6_hold E N (put b A S) q (some l)) (fX5_looksAt N M (Int32.ofNat o) (Int32.ofNat cnt)) := by
  have hE := kok.1
  have hb := kok.2.1
  obtain ⟨hk, fs, c⟩ := h.cl
  obtain ⟨S1, nc, x1, k1, k2⟩ := j_nmC (N := N) kok h hN
  have nm := j_nmM (N := N) hr h hN
  have h1 := h.ext x1
  have c1 := c.ext x1
  have hb1 : b + 111 ≤ S1.2.1 := Nat.le_trans hb x1.1
  cases en : isNm t with
  | false =>
    rw [en] at nc nm
    obtain ⟨S2, b1, b2, x2, fl, z1, z2⟩ := j_bad (E := E) (N := N) hE hb1 h1 (k := 1) (Or.inl rfl)
    refine Or.inr (JF.bad (M1 := M) (x0.tr x1) x2 fl mSn.rf ?_ ?_ (by omega) (by omega))
    · simp only [fX6_hold, bX6_hold_0, bX6_hold_5, pq_lit]
      simp (disch := omega) only [rv_nm hk c, ↓gbd_h (nc), nc, bI_f, rv_need hk c1, ↓gbx_x b1, pq_lit, pq_add, pq_le, pq_lt, pq_eq, pq_en, pq_ne, pq_nle, pq_nlt, pq_len, pq_ltn, pB_z, pB_o, mzt_0, mzt_1, mzt_B, ↓gbd_s, gbd_s, ↓gnn_s, ↓grf_s, eq_self, ↓reduceIte, Nat.reduceEqDiff, Nat.reduceLeDiff, Nat.reduceLT, Nat.reduceMul, Nat.reduceAdd, not_true_eq_false, not_false_eq_true, Bool.false_eq_true]
    · simp only [fX5_looksAt, bX5_looksAt_0, pq_lit]
      simp (disch := omega) only [↓mbd_h (nm), nm, bI_f, ↓mbd_h (b2), b2, ↓mbd_s, mbd_s, eq_self, ↓reduceIte, Nat.reduceEqDiff, Nat.reduceLeDiff, Nat.reduceLT, Nat.reduceMul, Nat.reduceAdd, not_true_eq_false, not_false_eq_true, Bool.false_eq_true, pq_lit, pq_add, pq_le, pq_lt, pq_eq, pq_en, pq_ne, pq_nle, pq_nlt, pq_len, pq_ltn, pB_z, pB_o, mzt_0, mzt_1, mzt_B]
  | true =>
    rw [en] at nc nm
    have ht : t.1 = 2 := (of_decide_eq_true en).1
    have hl1 : NmL b S1 M l cnt o f := hl.ext x1 (fun _ _ => rfl)
    obtain ⟨fc, fm⟩ := j_fnd (E := E) (N := N) h1 ht hl1 hN
    have h7 := hl.2.1
    have rl : ∀ k, nmF M o cnt 0 = some k → k < 2000 := fun k e => by have := nmF_lt _ _ _ e; omega
    obtain ⟨o1, o2⟩ := oI_m (nmF M o cnt 0) rl
    have n1 := c_need1 (E := E) (N := N) (b := b) (A := A) (S := S1) (q := q) (Int32.ofNat 1)
    cases er : nmF M o cnt 0 with
    | none =>
      rw [er] at fc fm
      have z0 : ¬ Int32.ofNat 0 ≤ -Int32.ofNat 1 := by simp
      obtain ⟨S2, b1, b2, x2, fl, y1, y2⟩ := j_bad (E := E) (N := N) hE hb1 (M := mF M 18 (-Int32.ofNat 1)) (h1.mm (fun k hk => mF_ne _ _ (by rintro rfl; revert hk; decide)) rfl rfl) (k := 3) (Or.inr (by omega))
      refine Or.inr (JF.bad (M1 := mF M 18 (-Int32.ofNat 1)) (x0.tr x1) x2 fl (mSm.rd (ks := [18]) (mSm.rf.mF _ (by decide)) (by decide)) ?_ ?_ (by omega) (by omega))
      · simp only [fX6_hold, bX6_hold_0, bX6_hold_5, bX6_hold_9, bX6_hold_14, bX6_hold_26, pq_lit]
        simp (disch := omega) only [rv_nm hk c, ↓gbd_h (nc), nc, bI_t, rv_need hk c1, ↓gbx_h n1, rv_fnd hk c1, ↓gbd_h (fc), fc, oI, ↓gbx_x b1, pq_lit, pq_add, pq_le, pq_lt, pq_eq, pq_en, pq_ne, pq_nle, pq_nlt, pq_len, pq_ltn, pB_z, pB_o, mzt_0, mzt_1, mzt_B, ↓gbd_s, gbd_s, ↓gnn_s, ↓grf_s, eq_self, ↓reduceIte, Nat.reduceEqDiff, Nat.reduceLeDiff, Nat.reduceLT, Nat.reduceMul, Nat.reduceAdd, not_true_eq_false, not_false_eq_true, Bool.false_eq_true]
      · simp only [fX5_looksAt, bX5_looksAt_0, bX5_looksAt_43, pq_lit]
        simp (disch := omega) only [↓mbd_h (nm), nm, bI_t, ↓mbd_h (fm), fm, oI, ↓mpt, mF_e, z0, ↓mbd_h (b2), b2, ↓mbd_s, mbd_s, eq_self, ↓reduceIte, Nat.reduceEqDiff, Nat.reduceLeDiff, Nat.reduceLT, Nat.reduceMul, Nat.reduceAdd, not_true_eq_false, not_false_eq_true, Bool.false_eq_true, pq_lit, pq_add, pq_le, pq_lt, pq_eq, pq_en, pq_ne, pq_nle, pq_nlt, pq_len, pq_ltn, pB_z, pB_o, mzt_0, mzt_1, mzt_B]
    | some k =>
      rw [er] at fc fm
      have hkc : k < cnt := by have := nmF_lt _ _ _ er; omega
      have n3 := c_need1 (E := E) (N := N) (b := b) (A := A) (S := S1) (q := q) (Int32.ofNat 3)
      have z0 : 0 ≤ k := by omega
      refine Or.inl ⟨S1, k, hkc, ht, ?_, ?_, x1, k1, k2⟩
      · simp only [fX6_hold, bX6_hold_0, bX6_hold_5, bX6_hold_9, bX6_hold_14, bX6_hold_26, bX6_hold_30, pq_lit]
        simp (disch := omega) only [rv_nm hk c, ↓gbd_h (nc), nc, bI_t, rv_need hk c1, ↓gbx_h n1, rv_fnd hk c1, ↓gbd_h (fc), fc, oI, ↓gbx_h n3, pq_lit, pq_add, pq_le, pq_lt, pq_eq, pq_en, pq_ne, pq_nle, pq_nlt, pq_len, pq_ltn, pB_z, pB_o, mzt_0, mzt_1, mzt_B, ↓gbd_s, gbd_s, ↓gnn_s, ↓grf_s, eq_self, ↓reduceIte, Nat.reduceEqDiff, Nat.reduceLeDiff, Nat.reduceLT, Nat.reduceMul, Nat.reduceAdd, not_true_eq_false, not_false_eq_true, Bool.false_eq_true]
      · simp only [fX5_looksAt, bX5_looksAt_0, bX5_looksAt_38, bX5_looksAt_43, pq_lit]
        simp (disch := omega) only [↓mbd_h (nm), nm, bI_t, ↓mbd_h (fm), fm, oI, ↓mpt, mF_e, z0, ↓mbd_s, mbd_s, eq_self, ↓reduceIte, Nat.reduceEqDiff, Nat.reduceLeDiff, Nat.reduceLT, Nat.reduceMul, Nat.reduceAdd, not_true_eq_false, not_false_eq_true, Bool.false_eq_true, pq_lit, pq_add, pq_le, pq_lt, pq_eq, pq_en, pq_ne, pq_nle, pq_nlt, pq_len, pq_ltn, pB_z, pB_o, mzt_0, mzt_1, mzt_B]
theorem j_one (kok : KOk E b S) (x0 : Ext S0 S) (hq : b ≤ q) (hr : ResR M) (h : Rd b A S M q ci ex n lim fr t) (hl : NmL b S M l cnt o f) (hN : 2000 ≤ N) : (∃ S' M' k fr' t', k < cnt ∧ t.1 = 2 ∧ fX6_one E N (put b A S) q (some l) = some (Sum.inl (Int32.ofNat k), put b A S') ∧ fX5_takesName N M (Int32.ofNat o) (Int32.ofNat cnt) = some (Int32.ofNat 1, M') ∧ M'.1 18 = Int32.ofNat k ∧ Rd b A S' M' q ci ex n lim fr' t' ∧ fr + 1 ≤ fr' ∧ Xo q S S' ∧ Fx S S' ∧ mSm [4, 11, 12, 13, 14, 18] M M' ∧ S'.2.2.1 ≤ S.2.2.1 + 11 ∧ S'.2.2.2 ≤ S.2.2.2 + 130) ∨ JF b A S0 M (S.2.2.1 + 8) (S.2.2.2 + 98) (fX6_one E N (put b A S) q (some l)) (fX5_takesName N M (Int32.ofNat o) (Int32.ofNat cnt)) := by
  have hE := kok.1
  have hb := kok.2.1
  obtain ⟨hk, fs, c⟩ := h.cl
  rcases j_hold (N := N) kok x0 hr h hl hN with ⟨S1, k, hkc, ht, hc, hm, x1, k1, k2⟩ | jf
  · have h1 : Rd b A S1 (mF M 18 (Int32.ofNat k)) q ci ex n lim fr t := (h.ext x1).mm (fun k hk => mF_ne _ _ (by rintro rfl; revert hk; decide)) rfl rfl
    obtain ⟨S2, M2, fr', t', gc, gm, h2, hf, xo, fx, sm, y1, y2⟩ := j_gw (E := E) (N := N) hE hq (Nat.le_trans hb x1.1) (by omega) h1 (by omega)
    have c1 := c.ext x1
    refine Or.inl ⟨S2, M2, k, fr', t', hkc, ht, ?_, ?_, (sm.2 18 (by decide)).1.trans (mF_e _ _ _), h2, hf, x1.xo.tr xo, x1.fx.tr fx, (mSm.rf.mF _ (by decide)).tr (sm.su (by decide)), by omega, by omega⟩
    · simp only [fX6_one, bX6_one_0, bX6_one_5, bX6_one_10, pq_lit]
      simp (disch := omega) only [rv_hold hk c, ↓gbx_h hc, rv_go hk c1, ↓gbd_h (gc), gc, pq_lit, pq_add, pq_le, pq_lt, pq_eq, pq_en, pq_ne, pq_nle, pq_nlt, pq_len, pq_ltn, pB_z, pB_o, mzt_0, mzt_1, mzt_B, ↓gbd_s, gbd_s, ↓gnn_s, ↓grf_s, eq_self, ↓reduceIte, Nat.reduceEqDiff, Nat.reduceLeDiff, Nat.reduceLT, Nat.reduceMul, Nat.reduceAdd, not_true_eq_false, not_false_eq_true, Bool.false_eq_true]
    · simp only [fX5_takesName, bX5_takesName_0, pq_lit]
      simp (disch := omega) only [↓mbd_h (hm), hm, ↓mbd_h (gm), gm, ↓mbd_s, mbd_s, eq_self, ↓reduceIte, Nat.reduceEqDiff, Nat.reduceLeDiff, Nat.reduceLT, Nat.reduceMul, Nat.reduceAdd, not_true_eq_false, not_false_eq_true, Bool.false_eq_true, pq_lit, pq_add, pq_le, pq_lt, pq_eq, pq_en, pq_ne, pq_nle, pq_nlt, pq_len, pq_ltn, pB_z, pB_o, mzt_0, mzt_1, mzt_B]
  · refine Or.inr (jf.mo mSn.rf (fun fa S' e => ?_) (fun M' e => ?_) (Nat.le_refl _) (Nat.le_refl _))
    · simp only [fX6_one, bX6_one_0, bX6_one_5, pq_lit]
      simp (disch := omega) only [rv_hold hk c, ↓gbx_x e, pq_lit, pq_add, pq_le, pq_lt, pq_eq, pq_en, pq_ne, pq_nle, pq_nlt, pq_len, pq_ltn, pB_z, pB_o, mzt_0, mzt_1, mzt_B, ↓gbd_s, gbd_s, ↓gnn_s, ↓grf_s, eq_self, ↓reduceIte, Nat.reduceEqDiff, Nat.reduceLeDiff, Nat.reduceLT, Nat.reduceMul, Nat.reduceAdd, not_true_eq_false, not_false_eq_true, Bool.false_eq_true]
    · simp only [fX5_takesName, bX5_takesName_0, pq_lit]
      simp (disch := omega) only [↓mbd_h (e), e, ↓mbd_s, mbd_s, eq_self, ↓reduceIte, Nat.reduceEqDiff, Nat.reduceLeDiff, Nat.reduceLT, Nat.reduceMul, Nat.reduceAdd, not_true_eq_false, not_false_eq_true, Bool.false_eq_true, pq_lit, pq_add, pq_le, pq_lt, pq_eq, pq_en, pq_ne, pq_nle, pq_nlt, pq_len, pq_ltn, pB_z, pB_o, mzt_0, mzt_1, mzt_B]
theorem j_num (hE : E.1 ≤ b) (hb : b + 111 ≤ S.2.1) (x0 : Ext S0 S) (hq : b ≤ q) (h : Rd b A S M q ci ex n lim fr t) (hN : 2000 ≤ N) {lo hi : Nat} (hlo : lo < 2000) (hhi : hi < 2000) : (∃ S' M' k fr' t', lo ≤ k ∧ k ≤ hi ∧ k < 1000 ∧ t.1 = 3 ∧ fX6_number E N (put b A S) q (Int32.ofNat lo) (Int32.ofNat hi) = some (Sum.inl (Int32.ofNat k), put b A S') ∧ fX5_takes N M (Int32.ofNat lo) (Int32.ofNat hi) = some (Int32.ofNat 1, M') ∧ M'.1 18 = Int32.ofNat k ∧ Rd b A S' M' q ci ex n lim fr' t' ∧ fr + 1 ≤ fr' ∧ Xo q S S' ∧ Fx S S' ∧ mSm [4, 11, 12, 13, 14, 18] M M' ∧ S'.2.2.1 ≤ S.2.2.1 + 4 ∧ S'.2.2.2 ≤ S.2.2.2 + 40) ∨ JF b A S0 M (S.2.2.1 + 8) (S.2.2.2 + 98) (fX6_number E N (put b A S) q (Int32.ofNat lo) (Int32.ofNat hi)) (fX5_takes N M (Int32.ofNat lo) (Int32.ofNat hi)) := by
  have hh := h
  obtain ⟨p, kd, nu, sg, wr, c, h1, h2, h3, h4, h5, h6, h7, hk, h9, h10, h11, h12⟩ := h
  have r47 := fun {β : Type} (K : Int32 → Option β) => rd_47 hk c A K
  have r49 := fun {β : Type} (K : Int32 → Option β) => rd_49 hk c A K
  have n1 := c_need1 (E := E) (N := N) (b := b) (A := A) (S := S) (q := q) (Int32.ofNat 1)
  have n2 := c_need1 (E := E) (N := N) (b := b) (A := A) (S := S) (q := q) (Int32.ofNat 2)
  by_cases e : t.1 = 3
  · have hw : kd = Int32.ofNat 3 ∧ M.1 11 = Int32.ofNat 2 ∧ t.2.2 < 1000 ∧ nu = Int32.ofNat t.2.2 ∧ M.1 14 = Int32.ofNat t.2.2 := by
      rcases h12 with h | h | h | h | h | h
      · omega
      · omega
      · omega
      · exact h.2
      · omega
      · omega
    obtain ⟨w1, w2, w3, w4, w5⟩ := hw
    by_cases ei : lo ≤ t.2.2 ∧ t.2.2 ≤ hi
    · have h1 : Rd b A S (mF M 18 (Int32.ofNat t.2.2)) q ci ex n lim fr t := hh.mm (fun k hk => mF_ne _ _ (by rintro rfl; revert hk; decide)) rfl rfl
      obtain ⟨S2, M2, fr', t', gc, gm, h2, hf, xo, fx, sm, y1, y2⟩ := j_gw (E := E) (N := N) hE hq hb (by omega) h1 (by omega)
      have ii := c_isIn (E := E) (N := N) (S := put b A S) (Int32.ofNat t.2.2) (Int32.ofNat lo) (Int32.ofNat hi)
      have mi := m_isIn (N := N) (S := M) (Int32.ofNat t.2.2) (Int32.ofNat lo) (Int32.ofNat hi)
      have eB : pB (Int32.ofNat lo ≤ Int32.ofNat t.2.2 ∧ Int32.ofNat t.2.2 ≤ Int32.ofNat hi) = Int32.ofNat 1 := pB_t (by rw [pq_le (by omega) (by omega), pq_le (by omega) (by omega)]; exact ei)
      rw [eB] at ii mi
      refine Or.inl ⟨S2, M2, t.2.2, fr', t', ei.1, ei.2, w3, e, ?_, ?_, (sm.2 18 (by decide)).1.trans (mF_e _ _ _), h2, hf, xo, fx, (mSm.rf.mF _ (by decide)).tr (sm.su (by decide)), y1, y2⟩
      · simp only [fX6_number, bX6_number_0, bX6_number_14, bX6_number_18, bX6_number_28, bX6_number_32, bX6_number_41, pq_lit]
        simp (disch := omega) only [↓r47, w1, rv_need hk c, ↓gbx_h n1, ↓r49, w4, ↓gbd_h (ii), ii, ↓gbx_h n2, rv_go hk c, ↓gbd_h (gc), gc, pq_lit, pq_add, pq_le, pq_lt, pq_eq, pq_en, pq_ne, pq_nle, pq_nlt, pq_len, pq_ltn, pB_z, pB_o, mzt_0, mzt_1, mzt_B, ↓gbd_s, gbd_s, ↓gnn_s, ↓grf_s, eq_self, ↓reduceIte, Nat.reduceEqDiff, Nat.reduceLeDiff, Nat.reduceLT, Nat.reduceMul, Nat.reduceAdd, not_true_eq_false, not_false_eq_true, Bool.false_eq_true]
      · simp only [fX5_takes, bX5_takes_0, pq_lit]
        simp (disch := omega) only [w2, w5, ↓mbd_h (mi), mi, ↓mpt, ↓mbd_h (gm), gm, ↓mbd_s, mbd_s, eq_self, ↓reduceIte, Nat.reduceEqDiff, Nat.reduceLeDiff, Nat.reduceLT, Nat.reduceMul, Nat.reduceAdd, not_true_eq_false, not_false_eq_true, Bool.false_eq_true, pq_lit, pq_add, pq_le, pq_lt, pq_eq, pq_en, pq_ne, pq_nle, pq_nlt, pq_len, pq_ltn, pB_z, pB_o, mzt_0, mzt_1, mzt_B]
    · have ii := c_isIn (E := E) (N := N) (S := put b A S) (Int32.ofNat t.2.2) (Int32.ofNat lo) (Int32.ofNat hi)
      have mi := m_isIn (N := N) (S := M) (Int32.ofNat t.2.2) (Int32.ofNat lo) (Int32.ofNat hi)
      have eB : pB (Int32.ofNat lo ≤ Int32.ofNat t.2.2 ∧ Int32.ofNat t.2.2 ≤ Int32.ofNat hi) = Int32.ofNat 0 := pB_f (by rw [pq_le (by omega) (by omega), pq_le (by omega) (by omega)]; exact ei)
      rw [eB] at ii mi
      obtain ⟨S2, b1, b2, x2, fl, y1, y2⟩ := j_bad (E := E) (N := N) hE hb hh (k := 2) (Or.inr (by omega))
      refine Or.inr (JF.bad (M1 := M) x0 x2 fl mSn.rf ?_ ?_ (by omega) (by omega))
      · simp only [fX6_number, bX6_number_0, bX6_number_14, bX6_number_18, bX6_number_28, pq_lit]
        simp (disch := omega) only [↓r47, w1, rv_need hk c, ↓gbx_h n1, ↓r49, w4, ↓gbd_h (ii), ii, ↓gbx_x b1, pq_lit, pq_add, pq_le, pq_lt, pq_eq, pq_en, pq_ne, pq_nle, pq_nlt, pq_len, pq_ltn, pB_z, pB_o, mzt_0, mzt_1, mzt_B, ↓gbd_s, gbd_s, ↓gnn_s, ↓grf_s, eq_self, ↓reduceIte, Nat.reduceEqDiff, Nat.reduceLeDiff, Nat.reduceLT, Nat.reduceMul, Nat.reduceAdd, not_true_eq_false, not_false_eq_true, Bool.false_eq_true]
      · simp only [fX5_takes, bX5_takes_0, pq_lit]
        simp (disch := omega) only [w2, w5, ↓mbd_h (mi), mi, ↓mbd_h (b2), b2, ↓mbd_s, mbd_s, eq_self, ↓reduceIte, Nat.reduceEqDiff, Nat.reduceLeDiff, Nat.reduceLT, Nat.reduceMul, Nat.reduceAdd, not_true_eq_false, not_false_eq_true, Bool.false_eq_true, pq_lit, pq_add, pq_le, pq_lt, pq_eq, pq_en, pq_ne, pq_nle, pq_nlt, pq_len, pq_ltn, pB_z, pB_o, mzt_0, mzt_1, mzt_B]
  · have hw : ¬ kd = Int32.ofNat 3 ∧ ¬ M.1 11 = Int32.ofNat 2 := by
      rcases h12 with h | h | h | h | h | h
      · rw [h.2.1, h.2.2]; decide
      · rw [h.2.2]; exact ⟨by rcases h.2.1 with q | q <;> rw [q] <;> decide, by decide⟩
      · rw [h.2.1, h.2.2.1]; decide
      · exact absurd h.1 e
      · rw [h.2.1, h.2.2.1]; decide
      · rw [h.2.1, h.2.2.1]; decide
    obtain ⟨S2, b1, b2, x2, fl, y1, y2⟩ := j_bad (E := E) (N := N) hE hb hh (k := 1) (Or.inl rfl)
    refine Or.inr (JF.bad (M1 := M) x0 x2 fl mSn.rf ?_ ?_ (by omega) (by omega))
    · simp only [fX6_number, bX6_number_0, bX6_number_14, pq_lit]
      simp (disch := omega) only [↓r47, hw.1, rv_need hk c, ↓gbx_x b1, pq_lit, pq_add, pq_le, pq_lt, pq_eq, pq_en, pq_ne, pq_nle, pq_nlt, pq_len, pq_ltn, pB_z, pB_o, mzt_0, mzt_1, mzt_B, ↓gbd_s, gbd_s, ↓gnn_s, ↓grf_s, eq_self, ↓reduceIte, Nat.reduceEqDiff, Nat.reduceLeDiff, Nat.reduceLT, Nat.reduceMul, Nat.reduceAdd, not_true_eq_false, not_false_eq_true, Bool.false_eq_true]
    · simp only [fX5_takes, bX5_takes_0, pq_lit]
      simp (disch := omega) only [hw.2, ↓mbd_h (b2), b2, ↓mbd_s, mbd_s, eq_self, ↓reduceIte, Nat.reduceEqDiff, Nat.reduceLeDiff, Nat.reduceLT, Nat.reduceMul, Nat.reduceAdd, not_true_eq_false, not_false_eq_true, Bool.false_eq_true, pq_lit, pq_add, pq_le, pq_lt, pq_eq, pq_en, pq_ne, pq_nle, pq_nlt, pq_len, pq_ltn, pB_z, pB_o, mzt_0, mzt_1, mzt_B]
theorem j_end (hE : E.1 ≤ b) (hb : b + 111 ≤ S.2.1) (x0 : Ext S0 S) (hq : b ≤ q) (h : Rd b A S M q ci ex n lim fr t) (hN : 2000 ≤ N) : (∃ S' M' fr' t', t.1 = 4 ∧ fX6_end E N (put b A S) q = some (Sum.inl (Int32.ofNat 0), put b A S') ∧ fX5_sign N M (Int32.ofNat 59) = some (Int32.ofNat 1, M') ∧ Rd b A S' M' q ci ex n lim fr' t' ∧ fr + 1 ≤ fr' ∧ Xo q S S' ∧ Fx S S' ∧ mSm [4, 11, 12, 13, 14] M M' ∧ S'.2.2.1 ≤ S.2.2.1 + 4 ∧ S'.2.2.2 ≤ S.2.2.2 + 40) ∨ JF b A S0 M (S.2.2.1 + 8) (S.2.2.2 + 98) (fX6_end E N (put b A S) q) (fX5_sign N M (Int32.ofNat 59)) := by
  have hh := h
  obtain ⟨p, kd, nu, sg, wr, c, h1, h2, h3, h4, h5, h6, h7, hk, h9, h10, h11, h12⟩ := h
  have r47 := fun {β : Type} (K : Int32 → Option β) => rd_47 hk c A K
  have n1 := c_need1 (E := E) (N := N) (b := b) (A := A) (S := S) (q := q) (Int32.ofNat 1)
  by_cases e : t.1 = 4
  · have hw : kd = Int32.ofNat 4 ∧ M.1 11 = Int32.ofNat 3 ∧ M.1 14 = Int32.ofNat 59 := by
      rcases h12 with h | h | h | h | h | h
      · omega
      · omega
      · omega
      · omega
      · exact h.2
      · omega
    obtain ⟨w1, w2, w3⟩ := hw
    obtain ⟨S2, M2, fr', t', gc, gm, h2, hf, xo, fx, sm, y1, y2⟩ := j_gw (E := E) (N := N) hE hq hb (by omega) hh (by omega)
    refine Or.inl ⟨S2, M2, fr', t', e, ?_, ?_, h2, hf, xo, fx, sm, y1, y2⟩
    · simp only [fX6_end, bX6_end_0, bX6_end_14, bX6_end_18, bX6_end_22, pq_lit]
      simp (disch := omega) only [↓r47, w1, rv_need hk c, ↓gbx_h n1, rv_go hk c, ↓gbd_h (gc), gc, pq_lit, pq_add, pq_le, pq_lt, pq_eq, pq_en, pq_ne, pq_nle, pq_nlt, pq_len, pq_ltn, pB_z, pB_o, mzt_0, mzt_1, mzt_B, ↓gbd_s, gbd_s, ↓gnn_s, ↓grf_s, eq_self, ↓reduceIte, Nat.reduceEqDiff, Nat.reduceLeDiff, Nat.reduceLT, Nat.reduceMul, Nat.reduceAdd, not_true_eq_false, not_false_eq_true, Bool.false_eq_true]
    · simp only [fX5_sign, bX5_sign_0, bX5_isSign_21, bX5_isSign_20, bX5_isSign_0, fX5_isSign, pq_lit]
      simp (disch := omega) only [w2, w3, ↓mbd_h (gm), gm, ↓mbd_s, mbd_s, eq_self, ↓reduceIte, Nat.reduceEqDiff, Nat.reduceLeDiff, Nat.reduceLT, Nat.reduceMul, Nat.reduceAdd, not_true_eq_false, not_false_eq_true, Bool.false_eq_true, pq_lit, pq_add, pq_le, pq_lt, pq_eq, pq_en, pq_ne, pq_nle, pq_nlt, pq_len, pq_ltn, pB_z, pB_o, mzt_0, mzt_1, mzt_B]
  · have hw : ¬ kd = Int32.ofNat 4 ∧ (M.1 11 = Int32.ofNat 3 → ¬ M.1 14 = Int32.ofNat 59) := by
      rcases h12 with h | h | h | h | h | h
      · rw [h.2.1, h.2.2]; exact ⟨by decide, fun q => absurd q (by decide)⟩
      · rw [h.2.2]; exact ⟨by rcases h.2.1 with q | q <;> rw [q] <;> decide, fun q => absurd q (by decide)⟩
      · rw [h.2.1, h.2.2.1]; exact ⟨by decide, fun q => absurd q (by decide)⟩
      · rw [h.2.1, h.2.2.1]; exact ⟨by decide, fun q => absurd q (by decide)⟩
      · exact absurd h.1 e
      · rw [h.2.1, h.2.2.2.2.2]
        refine ⟨by decide, fun _ => ?_⟩
        have := h.2.2.2.1
        unfold sgOk at this
        rw [pq_eq (by omega) (by omega)]
        omega
    obtain ⟨S2, b1, b2, x2, fl, y1, y2⟩ := j_bad (E := E) (N := N) hE hb hh (k := 1) (Or.inl rfl)
    refine Or.inr (JF.bad (M1 := M) x0 x2 fl mSn.rf ?_ ?_ (by omega) (by omega))
    · simp only [fX6_end, bX6_end_0, bX6_end_14, pq_lit]
      simp (disch := omega) only [↓r47, hw.1, rv_need hk c, ↓gbx_x b1, pq_lit, pq_add, pq_le, pq_lt, pq_eq, pq_en, pq_ne, pq_nle, pq_nlt, pq_len, pq_ltn, pB_z, pB_o, mzt_0, mzt_1, mzt_B, ↓gbd_s, gbd_s, ↓gnn_s, ↓grf_s, eq_self, ↓reduceIte, Nat.reduceEqDiff, Nat.reduceLeDiff, Nat.reduceLT, Nat.reduceMul, Nat.reduceAdd, not_true_eq_false, not_false_eq_true, Bool.false_eq_true]
    · by_cases e3 : M.1 11 = Int32.ofNat 3
      · have e14 := hw.2 e3
        simp only [fX5_sign, bX5_sign_0, bX5_isSign_21, bX5_isSign_20, bX5_isSign_0, fX5_isSign, pq_lit]
        simp (disch := omega) only [e3, e14, ↓mbd_h (b2), b2, ↓mbd_s, mbd_s, eq_self, ↓reduceIte, Nat.reduceEqDiff, Nat.reduceLeDiff, Nat.reduceLT, Nat.reduceMul, Nat.reduceAdd, not_true_eq_false, not_false_eq_true, Bool.false_eq_true, pq_lit, pq_add, pq_le, pq_lt, pq_eq, pq_en, pq_ne, pq_nle, pq_nlt, pq_len, pq_ltn, pB_z, pB_o, mzt_0, mzt_1, mzt_B]
      · simp only [fX5_sign, bX5_sign_0, bX5_isSign_21, bX5_isSign_20, bX5_isSign_0, fX5_isSign, pq_lit]
        simp (disch := omega) only [e3, ↓mbd_h (b2), b2, ↓mbd_s, mbd_s, eq_self, ↓reduceIte, Nat.reduceEqDiff, Nat.reduceLeDiff, Nat.reduceLT, Nat.reduceMul, Nat.reduceAdd, not_true_eq_false, not_false_eq_true, Bool.false_eq_true, pq_lit, pq_add, pq_le, pq_lt, pq_eq, pq_en, pq_ne, pq_nle, pq_nlt, pq_len, pq_ltn, pB_z, pB_o, mzt_0, mzt_1, mzt_B]
end RJ
