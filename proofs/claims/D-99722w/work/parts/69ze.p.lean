/-! books: reading a line -/
def BW : List (List Nat) := ["pact", "break", "close", "open", "lend", "day", "crosses"].map sBytes
abbrev bw (j : Nat) : List Nat := BW.getD j []
theorem bwd : ∀ i, i < 7 → ∀ j, j < 7 → decide (bw i = bw j) = decide (i = j) := by decide +kernel
theorem bww : ∀ j, j < 7 → Wd (bw j) := by
  have : (List.range 7).all (fun j => decide (1 ≤ (bw j).length) && decide ((bw j).length ≤ 7) && (bw j).all (fun c => decide (97 ≤ c ∧ c ≤ 122))) = true := by decide +kernel
  intro j hj
  have h := List.all_eq_true.mp this j (List.mem_range.mpr hj)
  rw [Bool.and_eq_true, Bool.and_eq_true] at h
  exact ⟨of_decide_eq_true h.1.1, of_decide_eq_true h.1.2, fun c hc => of_decide_eq_true (List.all_eq_true.mp h.2 c hc)⟩
theorem bwe : (1885430644 : Int64) = enc (bw 0) ∧ (422826041707 : Int64) = enc (bw 1) ∧ (427021005669 : Int64) = enc (bw 2) ∧ (1869636974 : Int64) = enc (bw 3) ∧ (1818586724 : Int64) = enc (bw 4) ∧ (6578553 : Int64) = enc (bw 5) ∧ (27991845698233715 : Int64) = enc (bw 6) := by decide +kernel
theorem tk_b (t : Tk) : ∃ i, i ≤ 6 ∧ (i < 6 → t.1 = 2) ∧ ∀ j, j < 6 → twd t (bw j) = decide (i = j) := by
  by_cases e : ∃ i, i < 6 ∧ t.1 = 2 ∧ t.2.1 = bw i
  · obtain ⟨i, hi, h1, h2⟩ := e
    refine ⟨i, by omega, fun _ => h1, fun j hj => ?_⟩
    rw [← bwd i (by omega) j (by omega)]
    show decide (t.1 = 2 ∧ t.2.1 = bw j) = _
    rw [decide_eq_decide, h2]
    exact ⟨fun h => h.2, fun h => ⟨h1, h⟩⟩
  · refine ⟨6, Nat.le_refl _, fun h => by omega, fun j hj => ?_⟩
    rw [show decide (6 = j) = false from decide_eq_false (by omega)]
    exact decide_eq_false (fun h => e ⟨j, hj, h.1, h.2⟩)
abbrev bkk : List Nat := [4, 8, 11, 12, 13, 14, 18, 47]
abbrev bEx (a l : Nat) : List Value := [.ref a, .ref l]
def BCx (E : gE) (N b : Nat) (S0 : GS) (M0 : MS) (q a l0 lp : Nat) (f0 fp : Nat → Nat) : Prop := KOk E b S0 ∧ 3000 ≤ N ∧ S0.2.1 ≤ q ∧ ResR M0 ∧ NmL b S0 M0 l0 (nL (M0.2.2.1 6)) 0 f0 ∧ NmL b S0 M0 lp (nP (M0.2.2.1 6)) 7 fp ∧ (∃ ln x2, Cel b S0 a (.inr (1, [.int ln, .ref l0, x2, .ref lp]))) ∧ IvS (M0.2.2.1 6)
def RowIs (g : St) (o k x y z : Nat) : Prop := g o = Int32.ofNat k ∧ g (o + 1) = Int32.ofNat x ∧ (k ≠ 3 ∧ k ≠ 4 ∧ k ≠ 6 → g (o + 2) = Int32.ofNat y) ∧ (k = 5 → g (o + 3) = Int32.ofNat z)
/-- a line was read -/
def BS (b : Nat) (A : FA) (S0 : GS) (M0 : MS) (q a l n lim cnt dc dt df : Nat) (S : GS) (M : MS) (fr : Nat) (oc : Option ((Option Nat ⊕ Nat) × GS)) (om : Option (Int32 × MS)) : Prop := ∃ v S' M' fr' t' k x y z, oc = some (.inl (some v), put b A S') ∧ om = some (Int32.ofNat 1, M') ∧ Rd b A S' M' q 16 (bEx a l) n lim fr' t' ∧ ActAt b S' v k x y z ∧ ActOk (M0.2.2.1 6) k x y z ∧ RowIs (M'.2.2.1 8) (4 * cnt) k x y z ∧ (∀ j, j < 4 * cnt → M'.2.2.1 8 j = M.2.2.1 8 j) ∧ S.2.1 ≤ v ∧ Xo q S S' ∧ Ext S0 S' ∧ mSm bkk M0 M' ∧ M'.1 47 = M.1 47 ∧ fr + df ≤ fr' ∧ S'.2.2.1 ≤ S.2.2.1 + dc ∧ S'.2.2.2 ≤ S.2.2.2 + dt
section BA
variable {E : gE} {N b : Nat} {A : FA} {S0 S : GS} {M0 M : MS} {q a l l0 lp n lim fr cnt : Nat} {f0 fp : Nat → Nat} {t : Tk}
theorem b_is (h : Rd b A S M q 16 (bEx a l) n lim fr t) (x : Option Nat) : vInchBorders_BookReader_is__Ljava_lang_String__Z E N (put b A S) (some q) x = fX6_is E N (put b A S) q x := by
  obtain ⟨hk, fs, c⟩ := h.cl
  simp only [vInchBorders_BookReader_is__Ljava_lang_String__Z]; rw [kc c]; rfl
theorem b_go (h : Rd b A S M q 16 (bEx a l) n lim fr t)  : vInchBorders_BookReader_go___V E N (put b A S) (some q)  = fX6_go E N (put b A S) q  := by
  obtain ⟨hk, fs, c⟩ := h.cl
  simp only [vInchBorders_BookReader_go___V]; rw [kc c]; rfl
theorem b_need (h : Rd b A S M q 16 (bEx a l) n lim fr t) (x y : Int32) : vInchBorders_BookReader_need__ZI_V E N (put b A S) (some q) x y = fX6_need E N (put b A S) q x y := by
  obtain ⟨hk, fs, c⟩ := h.cl
  simp only [vInchBorders_BookReader_need__ZI_V]; rw [kc c]; rfl
theorem b_number (h : Rd b A S M q 16 (bEx a l) n lim fr t) (x y : Int32) : vInchBorders_BookReader_number__II_I E N (put b A S) (some q) x y = fX6_number E N (put b A S) q x y := by
  obtain ⟨hk, fs, c⟩ := h.cl
  simp only [vInchBorders_BookReader_number__II_I]; rw [kc c]; rfl
theorem b_one (h : Rd b A S M q 16 (bEx a l) n lim fr t) (x : Option Nat) : vInchBorders_BookReader_one__Ljava_util_ArrayList__I E N (put b A S) (some q) x = fX6_one E N (put b A S) q x := by
  obtain ⟨hk, fs, c⟩ := h.cl
  simp only [vInchBorders_BookReader_one__Ljava_util_ArrayList__I]; rw [kc c]; rfl
theorem b_hold (h : Rd b A S M q 16 (bEx a l) n lim fr t) (x : Option Nat) : vInchBorders_BookReader_hold__Ljava_util_ArrayList__I E N (put b A S) (some q) x = fX6_hold E N (put b A S) q x := by
  obtain ⟨hk, fs, c⟩ := h.cl
  simp only [vInchBorders_BookReader_hold__Ljava_util_ArrayList__I]; rw [kc c]; rfl
theorem b_end (h : Rd b A S M q 16 (bEx a l) n lim fr t)  : vInchBorders_BookReader_end___V E N (put b A S) (some q)  = fX6_end E N (put b A S) q  := by
  obtain ⟨hk, fs, c⟩ := h.cl
  simp only [vInchBorders_BookReader_end___V]; rw [kc c]; rfl
theorem b_crosses (h : Rd b A S M q 16 (bEx a l) n lim fr t) (x : Int32) : vInchBorders_BookReader_crosses__I_LInchBorders_Act_ E N (put b A S) (some q) x = fX23_crosses E N (put b A S) q x := by
  obtain ⟨hk, fs, c⟩ := h.cl
  simp only [vInchBorders_BookReader_crosses__I_LInchBorders_Act_]; rw [kc c]; rfl
theorem b_lends (h : Rd b A S M q 16 (bEx a l) n lim fr t)  : vInchBorders_BookReader_lends___LInchBorders_Act_ E N (put b A S) (some q)  = fX23_lends E N (put b A S) q  := by
  obtain ⟨hk, fs, c⟩ := h.cl
  simp only [vInchBorders_BookReader_lends___LInchBorders_Act_]; rw [kc c]; rfl
theorem b_treaty (h : Rd b A S M q 16 (bEx a l) n lim fr t) (x : Int32) : vInchBorders_BookReader_treaty__Z_LInchBorders_Act_ E N (put b A S) (some q) x = fX23_treaty E N (put b A S) q x := by
  obtain ⟨hk, fs, c⟩ := h.cl
  simp only [vInchBorders_BookReader_treaty__Z_LInchBorders_Act_]; rw [kc c]; rfl
theorem b_act (h : Rd b A S M q 16 (bEx a l) n lim fr t)  : vInchBorders_BookReader_act___LInchBorders_Act_ E N (put b A S) (some q)  = fX23_act E N (put b A S) q  := by
  obtain ⟨hk, fs, c⟩ := h.cl
  simp only [vInchBorders_BookReader_act___LInchBorders_Act_]; rw [kc c]; rfl
theorem br_94 (h : Rd b A S M q 16 (bEx a l) n lim fr t) {β : Type} (K : Option Nat → Option β) : ggr (put b A S) (some q) 94 K = K (some a) := by
  obtain ⟨p, kd, nu, sg, wr, c, _⟩ := h
  exact ggr_as (k := 9) (c.at A) rfl rfl K
theorem br_95 (h : Rd b A S M q 16 (bEx a l) n lim fr t) {β : Type} (K : Option Nat → Option β) : ggr (put b A S) (some q) 95 K = K (some l) := by
  obtain ⟨p, kd, nu, sg, wr, c, _⟩ := h
  exact ggr_as (k := 10) (c.at A) rfl rfl K
/-- one of the map's lands -/
theorem b_ol (cx : BCx E N b S0 M0 q a l0 lp f0 fp) (x : Ext S0 S) (sm : mSm bkk M0 M) (h : Rd b A S M q 16 (bEx a l) n lim fr t) : (∃ S' M' k fr' t', k < nL (M0.2.2.1 6) ∧ fX6_one E N (put b A S) q (some l0) = some (Sum.inl (Int32.ofNat k), put b A S') ∧ fX5_takesName N M (Int32.ofNat 0) (Int32.ofNat (nL (M0.2.2.1 6))) = some (Int32.ofNat 1, M') ∧ M'.1 18 = Int32.ofNat k ∧ Rd b A S' M' q 16 (bEx a l) n lim fr' t' ∧ fr + 1 ≤ fr' ∧ Xo q S S' ∧ Ext S0 S' ∧ mSm bkk M0 M' ∧ M'.2.2.1 8 = M.2.2.1 8 ∧ M'.1 47 = M.1 47 ∧ S'.2.2.1 ≤ S.2.2.1 + 11 ∧ S'.2.2.2 ≤ S.2.2.2 + 130) ∨ JF b A S0 M (S.2.2.1 + 8) (S.2.2.2 + 98) (fX6_one E N (put b A S) q (some l0)) (fX5_takesName N M (Int32.ofNat 0) (Int32.ofNat (nL (M0.2.2.1 6)))) := by
  obtain ⟨kok, hN, hq, hr, hl, hp, ha, hI⟩ := cx
  have hb0 := kok.2.1
  have hr' : ResR M := fun k w hk => by rw [sm.1]; exact hr k w hk
  have hl' : NmL b S M l0 (nL (M0.2.2.1 6)) 0 f0 := hl.ext x (fun k _ => by rw [sm.1])
  rcases j_one (N := N) (S0 := S0) (kok.ext x) x (by omega) hr' h hl' (by omega) with ⟨S', M', k, fr', t', h1, h2, h3, h4, h5, h6, h7, h8, h9, h10, h11, h12⟩ | jf
  · exact Or.inl ⟨S', M', k, fr', t', h1, h3, h4, h5, h6, h7, h8, h8.ext x hq, sm.tr (h10.su (by decide)), (h10.2 8 (by decide)).2, (h10.2 47 (by decide)).1, h11, h12⟩
  · exact Or.inr jf
theorem b_nu (cx : BCx E N b S0 M0 q a l0 lp f0 fp) (x : Ext S0 S) (sm : mSm bkk M0 M) (h : Rd b A S M q 16 (bEx a l) n lim fr t) {lo hi : Nat} (hlo : lo < 2000) (hhi : hi < 2000) : (∃ S' M' k fr' t', lo ≤ k ∧ k ≤ hi ∧ k < 1000 ∧ fX6_number E N (put b A S) q (Int32.ofNat lo) (Int32.ofNat hi) = some (Sum.inl (Int32.ofNat k), put b A S') ∧ fX5_takes N M (Int32.ofNat lo) (Int32.ofNat hi) = some (Int32.ofNat 1, M') ∧ M'.1 18 = Int32.ofNat k ∧ Rd b A S' M' q 16 (bEx a l) n lim fr' t' ∧ fr + 1 ≤ fr' ∧ Xo q S S' ∧ Ext S0 S' ∧ mSm bkk M0 M' ∧ M'.2.2.1 8 = M.2.2.1 8 ∧ M'.1 47 = M.1 47 ∧ S'.2.2.1 ≤ S.2.2.1 + 4 ∧ S'.2.2.2 ≤ S.2.2.2 + 40) ∨ JF b A S0 M (S.2.2.1 + 8) (S.2.2.2 + 98) (fX6_number E N (put b A S) q (Int32.ofNat lo) (Int32.ofNat hi)) (fX5_takes N M (Int32.ofNat lo) (Int32.ofNat hi)) := by
  obtain ⟨kok, hN, hq, hr, hl, hp, ha, hI⟩ := cx
  have hE := kok.1
  have hb0 := kok.2.1
  rcases j_num (E := E) (N := N) (S0 := S0) hE (Nat.le_trans hb0 x.1) x (by omega) h (by omega) hlo hhi with ⟨S', M', k, fr', t', h1, h2, h3, h4, h5, h6, h7, h8, h9, h10, h11, h12, h13, h14⟩ | jf
  · exact Or.inl ⟨S', M', k, fr', t', h1, h2, h3, h5, h6, h7, h8, h9, h10, h10.ext x hq, sm.tr (h12.su (by decide)), (h12.2 8 (by decide)).2, (h12.2 47 (by decide)).1, h13, h14⟩
  · exact Or.inr jf
theorem mSm.vs {ks : List Nat} {M0 M M1 : MS} (h : mSm ks M0 M) (h1 : mSm ks M0 M1) : mSm ks M M1 := ⟨h1.1.trans h.1.symm, fun k hk => ⟨(h1.2 k hk).1.trans (h.2 k hk).1.symm, (h1.2 k hk).2.trans (h.2 k hk).2.symm⟩⟩
/-- a word is written into the rows read -/
theorem Rd.r8 {ex : List Value} {ci : Nat} (h : Rd b A S M q ci ex n lim fr t) (g : St) : Rd b A S (mR M 8 g) q ci ex n lim fr t := h.mm (fun _ _ => rfl) (mA_n _ _ (by omega)) rfl
theorem b_day (cx : BCx E N b S0 M0 q a l0 lp f0 fp) (x : Ext S0 S) (sm : mSm bkk M0 M) (h : Rd b A S M q 16 (bEx a l) n lim fr t) (hcnt : cnt < 40)  (hw : M.2.2.1 8 (4 * cnt) = Int32.ofNat 6) : BS b A S0 M0 q a l n lim cnt 5 45 1 S M fr (bX23_act_139 E N q (put b A S) (Int32.ofNat 0) (Int32.ofNat 0) (Int32.ofNat 0) (Int32.ofNat 0) (Int32.ofNat 1)) (mbd (fX5_takes N M (Int32.ofNat 1) (Int32.ofNat 60)) (fun r_16 S_17 => bX5_bookLine_229 N S_17 (Int32.ofNat (4 * cnt)) (Int32.ofNat 6) r_16)) ∨ JF b A S0 M (S.2.2.1 + 60) (S.2.2.2 + 700) (bX23_act_139 E N q (put b A S) (Int32.ofNat 0) (Int32.ofNat 0) (Int32.ofNat 0) (Int32.ofNat 0) (Int32.ofNat 1)) (mbd (fX5_takes N M (Int32.ofNat 1) (Int32.ofNat 60)) (fun r_16 S_17 => bX5_bookLine_229 N S_17 (Int32.ofNat (4 * cnt)) (Int32.ofNat 6) r_16)) := by
  have cx' := cx
  obtain ⟨kok, hN, hq, hr, hl, hp, ⟨ln, y2, ha⟩, hI⟩ := cx
  have hE := kok.1
  have hb0 := kok.2.1
  have hb : b + 111 ≤ S.2.1 := Nat.le_trans hb0 x.1
  have hEq : E.1 ≤ q := by omega
  have hqS := h.lt
  have hl7 := hI.l7
  obtain ⟨S1, hS1⟩ : ∃ S1, S1 = gpush S (.inr (17, gdf 17)) (gdf 17).length := ⟨_, rfl⟩
  have x1 : Ext S S1 := by rw [hS1]; exact Ext.push _ _ _
  have c1 : Cel b S1 S.2.1 (.inr (17, [.int (Int32.ofNat 0)])) := by rw [hS1]; exact Cel.push hb _ _
  have z1 : S1.2 = (S.2.1 + 1, S.2.2.1 + 1, S.2.2.2 + 1) := by rw [hS1]; rfl
  have z11 : S1.2.2.1 = S.2.2.1 + 1 := by rw [z1]
  have z12 : S1.2.2.2 = S.2.2.2 + 1 := by rw [z1]
  have h1 := h.ext x1
  rcases b_nu (E := E) (lo := 1) (hi := 60) cx' (x.tr x1) sm h1 (by omega) (by omega) with ⟨S2, M2, k, fr2, t2, g1, g2, g3, gc, gm, g18, h2, hf, xo, x02, sm2, e8, e47, p1, p2⟩ | jf
  · left
    have c2 : Cel b S2 S.2.1 (.inr (17, [.int (Int32.ofNat 0)])) := xo.cel c1 (by omega)
    obtain ⟨S3, hS3⟩ : ∃ S3, S3 = gup S2 S.2.1 (.inr (17, [.int (Int32.ofNat k)])) := ⟨_, rfl⟩
    have c3 : Cel b S3 S.2.1 (.inr (17, [.int (Int32.ofNat k)])) := by rw [hS3]; exact c2.up _
    have h3 : Rd b A S3 M2 q 16 (bEx a l) n lim fr2 t2 := by rw [hS3]; exact h2.up c2.1 rfl (by omega) _
    have hg : E.1 ≤ S.2.1 := by omega
    have xo3 : Xo q S S3 := by rw [hS3]; exact (x1.xo.tr xo).gu (Nat.le_refl _) _
    refine ⟨S.2.1, S3, mR M2 8 (upd (M2.2.2.1 8) (4 * cnt + 1) (Int32.ofNat k)), fr2, t2, 6, k, 0, 0, ?_, ?_, h3.r8 _, ?_, ⟨by omega, fun q => by omega, fun q => by omega, fun q => by omega, fun _ => by omega, by omega⟩, ⟨?_, ?_, fun q => by omega, fun q => by omega⟩, fun j hj => ?_, Nat.le_refl _, xo3, xo3.ext x hq, sm2.mR _ (by decide), ?_, hf, ?_, ?_⟩
    · simp only [bX23_act_139, bX23_act_147, bX23_act_155, bX23_act_158, bX24_init_0, fX24_init, bX13_init_0, fX13_init, pq_lit]
      simp (disch := omega) only [↓gnw_n hb, ← hS1, b_number h1, ↓gbx_h gc, ↓w17_96 c2 hg, ← hS3, ↓gbd_s, gbd_s, ↓gbx_s, gbx_s, ↓gnn_s, ↓grf_s, eq_self, ↓reduceIte, Nat.reduceEqDiff, Nat.reduceLeDiff, Nat.reduceLT, Nat.reduceMul, Nat.reduceAdd, not_true_eq_false, not_false_eq_true, Bool.false_eq_true, pq_lit, pq_add, pq_le, pq_lt, pq_eq, pq_en, pq_ne, pq_nle, pq_nlt, pq_len, pq_ltn, pB_z, pB_o, mzt_0, mzt_1, mzt_B]
    · simp only [bX5_bookLine_229, bX5_bookLine_250, bX5_bookLine_266, pq_lit]
      simp (disch := omega) only [↓mbd_h (gm), gm, ↓mwr_n, mwr_n, g18, ma_s, ↓mbd_s, mbd_s, eq_self, ↓reduceIte, Nat.reduceEqDiff, Nat.reduceLeDiff, Nat.reduceLT, Nat.reduceMul, Nat.reduceAdd, not_true_eq_false, not_false_eq_true, Bool.false_eq_true, pq_lit, pq_add, pq_le, pq_lt, pq_eq, pq_en, pq_ne, pq_nle, pq_nlt, pq_len, pq_ltn, pB_z, pB_o, mzt_0, mzt_1, mzt_B]
    · exact c3
    · rw [mA_e, upd_o _ _ (by omega), e8]; exact hw
    · rw [mA_e, upd_s]
    · rw [mA_e, upd_o _ _ (by omega), e8]
    · rw [mA_i]; exact e47
    · rw [hS3]; show S2.2.2.1 ≤ _; omega
    · rw [hS3]; show S2.2.2.2 ≤ _; omega
  · right
    refine jf.mo mSn.rf (fun fa S' e => ?_) (fun M' e => ?_) (by omega) (by omega)
    · simp only [bX23_act_139, bX23_act_147, pq_lit]
      simp (disch := omega) only [↓gnw_n hb, ← hS1, b_number h1, ↓gbx_x e, ↓gbd_s, gbd_s, ↓gbx_s, gbx_s, ↓gnn_s, ↓grf_s, eq_self, ↓reduceIte, Nat.reduceEqDiff, Nat.reduceLeDiff, Nat.reduceLT, Nat.reduceMul, Nat.reduceAdd, not_true_eq_false, not_false_eq_true, Bool.false_eq_true, pq_lit, pq_add, pq_le, pq_lt, pq_eq, pq_en, pq_ne, pq_nle, pq_nlt, pq_len, pq_ltn, pB_z, pB_o, mzt_0, mzt_1, mzt_B]
    · simp only [bX5_bookLine_229, pq_lit]
      simp (disch := omega) only [↓mbd_h (e), e, ↓mbd_s, mbd_s, eq_self, ↓reduceIte, Nat.reduceEqDiff, Nat.reduceLeDiff, Nat.reduceLT, Nat.reduceMul, Nat.reduceAdd, not_true_eq_false, not_false_eq_true, Bool.false_eq_true, pq_lit, pq_add, pq_le, pq_lt, pq_eq, pq_en, pq_ne, pq_nle, pq_nlt, pq_len, pq_ltn, pB_z, pB_o, mzt_0, mzt_1, mzt_B]
theorem b_clo (cx : BCx E N b S0 M0 q a l0 lp f0 fp) (x : Ext S0 S) (sm : mSm bkk M0 M) (h : Rd b A S M q 16 (bEx a l) n lim fr t) (hcnt : cnt < 40) {w : Nat} (hw34 : w = 3 ∨ w = 4) (hw : M.2.2.1 8 (4 * cnt) = Int32.ofNat w) : BS b A S0 M0 q a l n lim cnt 5 45 1 S M fr (bX23_act_139 E N q (put b A S) (Int32.ofNat 0) (Int32.ofNat 0) (bI (decide (w = 3))) (Int32.ofNat 0) (Int32.ofNat 0)) (bX5_bookLine_208 N M (Int32.ofNat (4 * cnt)) (Int32.ofNat w)) ∨ JF b A S0 M (S.2.2.1 + 60) (S.2.2.2 + 700) (bX23_act_139 E N q (put b A S) (Int32.ofNat 0) (Int32.ofNat 0) (bI (decide (w = 3))) (Int32.ofNat 0) (Int32.ofNat 0)) (bX5_bookLine_208 N M (Int32.ofNat (4 * cnt)) (Int32.ofNat w)) := by
  have cx' := cx
  obtain ⟨kok, hN, hq, hr, hl, hp, ⟨ln, y2, ha⟩, hI⟩ := cx
  have hE := kok.1
  have hb0 := kok.2.1
  have hb : b + 111 ≤ S.2.1 := Nat.le_trans hb0 x.1
  have hEq : E.1 ≤ q := by omega
  have hqS := h.lt
  have hl7 := hI.l7
  obtain ⟨S1, hS1⟩ : ∃ S1, S1 = gpush S (.inr (10, gdf 10)) (gdf 10).length := ⟨_, rfl⟩
  have x1 : Ext S S1 := by rw [hS1]; exact Ext.push _ _ _
  have c1 : Cel b S1 S.2.1 (.inr (10, [.int (Int32.ofNat 0), .int (Int32.ofNat 0)])) := by rw [hS1]; exact Cel.push hb _ _
  have z1 : S1.2 = (S.2.1 + 1, S.2.2.1 + 1, S.2.2.2 + 2) := by rw [hS1]; rfl
  have z11 : S1.2.2.1 = S.2.2.1 + 1 := by rw [z1]
  have z12 : S1.2.2.2 = S.2.2.2 + 2 := by rw [z1]
  have h1 := h.ext x1
  have mz : mzt (bI (decide (w = 3))) = fun (K : Option (Int32 × GS)) => K := by
    funext K
    cases decide (w = 3)
    · exact mzt_0 K
    · exact mzt_1 K
  rcases b_nu (E := E) (lo := 0) (hi := 11) cx' (x.tr x1) sm h1 (by omega) (by omega) with ⟨S2, M2, k, fr2, t2, g1, g2, g3, gc, gm, g18, h2, hf, xo, x02, sm2, e8, e47, p1, p2⟩ | jf
  · left
    have c2 : Cel b S2 S.2.1 (.inr (10, [.int (Int32.ofNat 0), .int (Int32.ofNat 0)])) := xo.cel c1 (by omega)
    obtain ⟨S3, hS3⟩ : ∃ S3, S3 = gup S2 S.2.1 (.inr (10, [.int (Int32.ofNat k), .int (bI (decide (w = 3)))])) := ⟨_, rfl⟩
    have c3 : Cel b S3 S.2.1 (.inr (10, [.int (Int32.ofNat k), .int (bI (decide (w = 3)))])) := by rw [hS3]; exact c2.up _
    have h3 : Rd b A S3 M2 q 16 (bEx a l) n lim fr2 t2 := by rw [hS3]; exact h2.up c2.1 rfl (by omega) _
    have hg : E.1 ≤ S.2.1 := by omega
    have xo3 : Xo q S S3 := by rw [hS3]; exact (x1.xo.tr xo).gu (Nat.le_refl _) _
    refine ⟨S.2.1, S3, mR M2 8 (upd (M2.2.2.1 8) (4 * cnt + 1) (Int32.ofNat k)), fr2, t2, w, k, 0, 0, ?_, ?_, h3.r8 _, ?_, ⟨by omega, fun q => by omega, fun q => by omega, fun _ => by omega, fun q => by omega, by omega⟩, ⟨?_, ?_, fun q => by omega, fun q => by omega⟩, fun j hj => ?_, Nat.le_refl _, xo3, xo3.ext x hq, sm2.mR _ (by decide), ?_, hf, ?_, ?_⟩
    · simp only [bX23_act_139, bX23_act_188, bX23_act_196, bX23_act_200, bX15_init_0, fX15_init, bX13_init_0, fX13_init, pq_lit]
      simp (disch := omega) only [↓gnw_n hb, ← hS1, b_number h1, ↓gbx_h gc, mz, ↓w10_75 c2 hg, ↓w10_76 (c2.up _) hg, gup_gup, ← hS3, ↓gbd_s, gbd_s, ↓gbx_s, gbx_s, ↓gnn_s, ↓grf_s, eq_self, ↓reduceIte, Nat.reduceEqDiff, Nat.reduceLeDiff, Nat.reduceLT, Nat.reduceMul, Nat.reduceAdd, not_true_eq_false, not_false_eq_true, Bool.false_eq_true, pq_lit, pq_add, pq_le, pq_lt, pq_eq, pq_en, pq_ne, pq_nle, pq_nlt, pq_len, pq_ltn, pB_z, pB_o, mzt_0, mzt_1, mzt_B]
    · simp only [bX5_bookLine_208, bX5_bookLine_229, bX5_bookLine_250, bX5_bookLine_266, pq_lit]
      rcases hw34 with rfl | rfl
      · simp (disch := omega) only [↓mbd_h (gm), gm, ↓mwr_n, mwr_n, g18, ma_s, ↓mbd_s, mbd_s, eq_self, ↓reduceIte, Nat.reduceEqDiff, Nat.reduceLeDiff, Nat.reduceLT, Nat.reduceMul, Nat.reduceAdd, not_true_eq_false, not_false_eq_true, Bool.false_eq_true, pq_lit, pq_add, pq_le, pq_lt, pq_eq, pq_en, pq_ne, pq_nle, pq_nlt, pq_len, pq_ltn, pB_z, pB_o, mzt_0, mzt_1, mzt_B]
      · simp (disch := omega) only [↓mbd_h (gm), gm, ↓mwr_n, mwr_n, g18, ma_s, ↓mbd_s, mbd_s, eq_self, ↓reduceIte, Nat.reduceEqDiff, Nat.reduceLeDiff, Nat.reduceLT, Nat.reduceMul, Nat.reduceAdd, not_true_eq_false, not_false_eq_true, Bool.false_eq_true, pq_lit, pq_add, pq_le, pq_lt, pq_eq, pq_en, pq_ne, pq_nle, pq_nlt, pq_len, pq_ltn, pB_z, pB_o, mzt_0, mzt_1, mzt_B]
    · rcases hw34 with rfl | rfl <;> exact c3
    · rw [mA_e, upd_o _ _ (by omega), e8]; exact hw
    · rw [mA_e, upd_s]
    · rw [mA_e, upd_o _ _ (by omega), e8]
    · rw [mA_i]; exact e47
    · rw [hS3]; show S2.2.2.1 ≤ _; omega
    · rw [hS3]; show S2.2.2.2 ≤ _; omega
  · right
    refine jf.mo mSn.rf (fun fa S' e => ?_) (fun M' e => ?_) (by omega) (by omega)
    · simp only [bX23_act_139, bX23_act_188, pq_lit]
      simp (disch := omega) only [↓gnw_n hb, ← hS1, b_number h1, ↓gbx_x e, ↓gbd_s, gbd_s, ↓gbx_s, gbx_s, ↓gnn_s, ↓grf_s, eq_self, ↓reduceIte, Nat.reduceEqDiff, Nat.reduceLeDiff, Nat.reduceLT, Nat.reduceMul, Nat.reduceAdd, not_true_eq_false, not_false_eq_true, Bool.false_eq_true, pq_lit, pq_add, pq_le, pq_lt, pq_eq, pq_en, pq_ne, pq_nle, pq_nlt, pq_len, pq_ltn, pB_z, pB_o, mzt_0, mzt_1, mzt_B]
    · simp only [bX5_bookLine_208, bX5_bookLine_229, pq_lit]
      simp (disch := omega) only [↓mbd_h (e), e, ↓mbd_s, mbd_s, eq_self, ↓reduceIte, Nat.reduceEqDiff, Nat.reduceLeDiff, Nat.reduceLT, Nat.reduceMul, Nat.reduceAdd, not_true_eq_false, not_false_eq_true, Bool.false_eq_true, pq_lit, pq_add, pq_le, pq_lt, pq_eq, pq_en, pq_ne, pq_nle, pq_nlt, pq_len, pq_ltn, pB_z, pB_o, mzt_0, mzt_1, mzt_B]
theorem b_tre (cx : BCx E N b S0 M0 q a l0 lp f0 fp) (x : Ext S0 S) (sm : mSm bkk M0 M) (h : Rd b A S M q 16 (bEx a l) n lim fr t) (hcnt : cnt < 40) {w : Nat} (hw12 : w = 1 ∨ w = 2) (hw : M.2.2.1 8 (4 * cnt) = Int32.ofNat w) : BS b A S0 M0 q a l n lim cnt 23 263 2 S M fr (fX23_treaty E N (put b A S) q (bI (decide (w = 1)))) (mbd (fX5_takesName N M (Int32.ofNat 0) (Int32.ofNat (nL (M0.2.2.1 6)))) (fun r_13 S_14 => bX5_bookLine_229 N S_14 (Int32.ofNat (4 * cnt)) (Int32.ofNat w) r_13)) ∨ JF b A S0 M (S.2.2.1 + 60) (S.2.2.2 + 700) (fX23_treaty E N (put b A S) q (bI (decide (w = 1)))) (mbd (fX5_takesName N M (Int32.ofNat 0) (Int32.ofNat (nL (M0.2.2.1 6)))) (fun r_13 S_14 => bX5_bookLine_229 N S_14 (Int32.ofNat (4 * cnt)) (Int32.ofNat w) r_13)) := by
  have cx' := cx
  obtain ⟨kok, hN, hq, hr, hl, hp, ⟨ln, y2, ha⟩, hI⟩ := cx
  have hE := kok.1
  have hb0 := kok.2.1
  have hb : b + 111 ≤ S.2.1 := Nat.le_trans hb0 x.1
  have hEq : E.1 ≤ q := by omega
  have hqS := h.lt
  have hl7 := hI.l7
  have r94 := fun {β : Type} (K : Option Nat → Option β) => br_94 h K
  have r25 := fun {β : Type} (K : Option Nat → Option β) => r1_25 (ha.ext x) A K
  have mz : mzt (bI (decide (w = 1))) = fun (K : Option (Int32 × GS)) => K := by
    funext K
    cases decide (w = 1)
    · exact mzt_0 K
    · exact mzt_1 K
  rcases b_ol cx' x sm h with ⟨S1, M1, k, fr1, t1, hk, gc, gm, g18, h1, hf1, xo1, x01, sm1, e8, e47, p1, p2⟩ | jf
  · obtain ⟨S2, hS2⟩ : ∃ S2, S2 = gpush S1 (.inr (12, gdf 12)) (gdf 12).length := ⟨_, rfl⟩
    have hb1 : b + 111 ≤ S1.2.1 := Nat.le_trans hb0 x01.1
    have x2 : Ext S1 S2 := by rw [hS2]; exact Ext.push _ _ _
    have c2 : Cel b S2 S1.2.1 (.inr (12, [.int (Int32.ofNat 0), .int (Int32.ofNat 0), .int (Int32.ofNat 0)])) := by rw [hS2]; exact Cel.push hb1 _ _
    have z2 : S2.2 = (S1.2.1 + 1, S1.2.2.1 + 1, S1.2.2.2 + 3) := by rw [hS2]; rfl
    have z21 : S2.2.2.1 = S1.2.2.1 + 1 := by rw [z2]
    have z22 : S2.2.2.2 = S1.2.2.2 + 3 := by rw [z2]
    obtain ⟨M2, hM2⟩ : ∃ M2, M2 = mR M1 8 (upd (M1.2.2.1 8) (4 * cnt + 1) (Int32.ofNat k)) := ⟨_, rfl⟩
    have h2 : Rd b A S2 M2 q 16 (bEx a l) n lim fr1 t1 := by rw [hM2]; exact (h1.ext x2).r8 _
    have sm2 : mSm bkk M0 M2 := by rw [hM2]; exact sm1.mR _ (by decide)
    have q94 := fun {β : Type} (K : Option Nat → Option β) => br_94 h2 K
    have q25 := fun {β : Type} (K : Option Nat → Option β) => r1_25 (ha.ext (x01.tr x2)) A K
    have h1lt := h1.lt
    have v6 : M2.2.2.1 6 0 = Int32.ofNat (nL (M0.2.2.1 6)) := by rw [(sm2.2 6 (by decide)).2]; exact hI.c0
    have pm : (mbd (fX5_takesName N M (Int32.ofNat 0) (Int32.ofNat (nL (M0.2.2.1 6)))) (fun r_13 S_14 => bX5_bookLine_229 N S_14 (Int32.ofNat (4 * cnt)) (Int32.ofNat w) r_13)) = mbd (fX5_takesName N M2 (Int32.ofNat 0) (Int32.ofNat (nL (M0.2.2.1 6)))) (fun r_6 S_7 => if r_6 = Int32.ofNat 0 then mzt (Int32.ofNat 0) (some (Int32.ofNat 0, S_7)) else mwr S_7 8 160 (Int32.ofNat (4 * cnt) + Int32.ofNat 2) (S_7.1 18) (fun S_10 => mzt (Int32.ofNat 1) (some (Int32.ofNat 1, S_10)))) := by
      rw [mbd_h gm, hM2]
      rw [hM2] at v6
      simp only [bX5_bookLine_229, bX5_bookLine_250, pq_lit]
      rcases hw12 with rfl | rfl
      · simp (disch := omega) only [↓mwr_n, mwr_n, g18, ma_s, ↓mrd_n, mrd_n, v6, ↓mbd_s, mbd_s, eq_self, ↓reduceIte, Nat.reduceEqDiff, Nat.reduceLeDiff, Nat.reduceLT, Nat.reduceMul, Nat.reduceAdd, not_true_eq_false, not_false_eq_true, Bool.false_eq_true, pq_lit, pq_add, pq_le, pq_lt, pq_eq, pq_en, pq_ne, pq_nle, pq_nlt, pq_len, pq_ltn, pB_z, pB_o, mzt_0, mzt_1, mzt_B]
      · simp (disch := omega) only [↓mwr_n, mwr_n, g18, ma_s, ↓mrd_n, mrd_n, v6, ↓mbd_s, mbd_s, eq_self, ↓reduceIte, Nat.reduceEqDiff, Nat.reduceLeDiff, Nat.reduceLT, Nat.reduceMul, Nat.reduceAdd, not_true_eq_false, not_false_eq_true, Bool.false_eq_true, pq_lit, pq_add, pq_le, pq_lt, pq_eq, pq_en, pq_ne, pq_nle, pq_nlt, pq_len, pq_ltn, pB_z, pB_o, mzt_0, mzt_1, mzt_B]
    rw [pm]
    rcases b_ol cx' (x01.tr x2) sm2 h2 with ⟨S3, M3, k3, fr3, t3, hk3, gc3, gm3, g183, h3, hf3, xo3, x03, sm3, e83, e473, r1, r2⟩ | jf
    · left
      have c3 : Cel b S3 S1.2.1 (.inr (12, [.int (Int32.ofNat 0), .int (Int32.ofNat 0), .int (Int32.ofNat 0)])) := xo3.cel c2 (by omega)
      obtain ⟨S4, hS4⟩ : ∃ S4, S4 = gup S3 S1.2.1 (.inr (12, [.int (Int32.ofNat k), .int (Int32.ofNat k3), .int (bI (decide (w = 1)))])) := ⟨_, rfl⟩
      have c4 : Cel b S4 S1.2.1 (.inr (12, [.int (Int32.ofNat k), .int (Int32.ofNat k3), .int (bI (decide (w = 1)))])) := by rw [hS4]; exact c3.up _
      have h4 : Rd b A S4 M3 q 16 (bEx a l) n lim fr3 t3 := by rw [hS4]; exact h3.up c3.1 rfl (by omega) _
      have hg : E.1 ≤ S1.2.1 := by omega
      have xo4 : Xo q S S4 := by rw [hS4]; exact ((xo1.tr x2.xo).tr xo3).gu xo1.1 _
      have m8 : M3.2.2.1 8 = upd (M.2.2.1 8) (4 * cnt + 1) (Int32.ofNat k) := by rw [e83, hM2, mA_e, e8]
      refine ⟨S1.2.1, S4, mR M3 8 (upd (M3.2.2.1 8) (4 * cnt + 2) (Int32.ofNat k3)), fr3, t3, w, k, k3, 0, ?_, ?_, h4.r8 _, ?_, ⟨by omega, fun q => by omega, fun _ => ⟨hk, hk3⟩, fun q => by omega, fun q => by omega, by omega⟩, ⟨?_, ?_, fun _ => ?_, fun q => by omega⟩, fun j hj => ?_, xo1.1, xo4, xo4.ext x hq, sm3.mR _ (by decide), ?_, by omega, ?_, ?_⟩
      · simp only [fX23_treaty, bX23_treaty_0, bX23_treaty_11, bX23_treaty_15, bX23_treaty_28, bX23_treaty_32, bX18_init_0, fX18_init, bX16_init_0, fX16_init, bX13_init_0, fX13_init, pq_lit]
        simp (disch := omega) only [↓r94, ↓r25, b_one h, ↓gbx_h gc, ↓gnw_n hb1, ← hS2, ↓q94, ↓q25, b_one h2, ↓gbx_h gc3, mz, ↓w12_77 c3 hg, ↓w12_78 (c3.up _) hg, ↓w12_80 (c3.up _) hg, gup_gup, ← hS4, ↓gbd_s, gbd_s, ↓gbx_s, gbx_s, ↓gnn_s, ↓grf_s, eq_self, ↓reduceIte, Nat.reduceEqDiff, Nat.reduceLeDiff, Nat.reduceLT, Nat.reduceMul, Nat.reduceAdd, not_true_eq_false, not_false_eq_true, Bool.false_eq_true, pq_lit, pq_add, pq_le, pq_lt, pq_eq, pq_en, pq_ne, pq_nle, pq_nlt, pq_len, pq_ltn, pB_z, pB_o, mzt_0, mzt_1, mzt_B]
      · rw [mbd_h gm3, if_neg (by decide), pq_add]
        simp (disch := omega) only [↓mwr_n, mwr_n, g183, ma_s, ↓mbd_s, mbd_s, eq_self, ↓reduceIte, Nat.reduceEqDiff, Nat.reduceLeDiff, Nat.reduceLT, Nat.reduceMul, Nat.reduceAdd, not_true_eq_false, not_false_eq_true, Bool.false_eq_true, pq_lit, pq_add, pq_le, pq_lt, pq_eq, pq_en, pq_ne, pq_nle, pq_nlt, pq_len, pq_ltn, pB_z, pB_o, mzt_0, mzt_1, mzt_B]
      · rcases hw12 with rfl | rfl <;> exact c4
      · rw [mA_e, upd_o _ _ (by omega), m8, upd_o _ _ (by omega)]; exact hw
      · rw [mA_e, upd_o _ _ (by omega), m8, upd_s]
      · rw [mA_e, upd_s]
      · rw [mA_e, upd_o _ _ (by omega), m8, upd_o _ _ (by omega)]
      · rw [mA_i, e473, hM2, mA_i]; exact e47
      · rw [hS4]; show S3.2.2.1 ≤ _; omega
      · rw [hS4]; show S3.2.2.2 ≤ _; omega
    · right
      have sn : mSn rdk M M2 := by
        rw [hM2]
        have s1 : mSm rdk M M1 := (sm.vs sm1).su (by decide)
        exact (s1.mR _ (by decide)).sn
      refine jf.mo sn (fun fa S' e => ?_) (fun M' e => ?_) (by omega) (by omega)
      · simp only [fX23_treaty, bX23_treaty_0, bX23_treaty_11, bX23_treaty_15, pq_lit]
        simp (disch := omega) only [↓r94, ↓r25, b_one h, ↓gbx_h gc, ↓gnw_n hb1, ← hS2, ↓q94, ↓q25, b_one h2, ↓gbx_x e, ↓gbd_s, gbd_s, ↓gbx_s, gbx_s, ↓gnn_s, ↓grf_s, eq_self, ↓reduceIte, Nat.reduceEqDiff, Nat.reduceLeDiff, Nat.reduceLT, Nat.reduceMul, Nat.reduceAdd, not_true_eq_false, not_false_eq_true, Bool.false_eq_true, pq_lit, pq_add, pq_le, pq_lt, pq_eq, pq_en, pq_ne, pq_nle, pq_nlt, pq_len, pq_ltn, pB_z, pB_o, mzt_0, mzt_1, mzt_B]
      · rw [mbd_h e, if_pos rfl]
        exact mzt_0 _
  · right
    refine jf.mo mSn.rf (fun fa S' e => ?_) (fun M' e => ?_) (by omega) (by omega)
    · simp only [fX23_treaty, bX23_treaty_0, pq_lit]
      simp (disch := omega) only [↓r94, ↓r25, b_one h, ↓gbx_x e, ↓gbd_s, gbd_s, ↓gbx_s, gbx_s, ↓gnn_s, ↓grf_s, eq_self, ↓reduceIte, Nat.reduceEqDiff, Nat.reduceLeDiff, Nat.reduceLT, Nat.reduceMul, Nat.reduceAdd, not_true_eq_false, not_false_eq_true, Bool.false_eq_true, pq_lit, pq_add, pq_le, pq_lt, pq_eq, pq_en, pq_ne, pq_nle, pq_nlt, pq_len, pq_ltn, pB_z, pB_o, mzt_0, mzt_1, mzt_B]
    · simp only [bX5_bookLine_229, pq_lit]
      simp (disch := omega) only [↓mbd_h (e), e, ↓mbd_s, mbd_s, eq_self, ↓reduceIte, Nat.reduceEqDiff, Nat.reduceLeDiff, Nat.reduceLT, Nat.reduceMul, Nat.reduceAdd, not_true_eq_false, not_false_eq_true, Bool.false_eq_true, pq_lit, pq_add, pq_le, pq_lt, pq_eq, pq_en, pq_ne, pq_nle, pq_nlt, pq_len, pq_ltn, pB_z, pB_o, mzt_0, mzt_1, mzt_B]
end BA
