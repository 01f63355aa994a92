/-! made -/
abbrev MdQ : Type := Int32 × (Nat → Int32) × Int32 × (Nat → Int32)
def cpP (p : List Nat) (F : Nat → Int32) : Nat → Int32 := fun i => match p[i]? with
  | some l => Int32.ofNat l
  | none => F i
def mEn (tt : Int32) (p : List Nat) (w : MdQ) (x t : Int32) : Bool × MdQ := (false, if t = tt then (w.1 + Int32.ofNat 1, (if w.1 = Int32.ofNat 0 then cpP p w.2.1 else w.2.1), (if w.1 = Int32.ofNat 0 then Int32.ofNat p.length else w.2.2.1), upd w.2.2.2 x.toNatClampNeg (w.2.2.2 x.toNatClampNeg + Int32.ofNat 1)) else w)
def mOb (b g h : Nat) (sp tt : Int32) (w : MdQ) : GE := .inr (15, [.ref (tad b 0), .int (Int32.ofNat h), .int sp, .ref (g + 1), .int tt, .ref (g + 2), .ref (g + 3), .int w.1, .int w.2.2.1])
def mS (S2 : GS) (g : Nat) (o : GE) (P F G : Nat → Int32) : GS := gup (gup (wS S2 g o P) (g + 2) (.inl (1, 5, .inl F))) (g + 3) (.inl (1, 7, .inl G))
section WM
variable {E : gE} {N b : Nat} {A : FA} {S : GS} {a : Nat} {d : AD}
theorem mS_ext {S2 : GS} {g : Nat} {o : GE} {P F G : Nat → Int32} (x : Ext S S2) (hg : S.2.1 ≤ g) : Ext S (mS S2 g o P F G) := ((wS_ext x hg).gup (by omega)).gup (by omega)
theorem mS_o (S2 : GS) (g : Nat) (o o' : GE) (P F G : Nat → Int32) : gup (mS S2 g o P F G) g o' = mS S2 g o' P F G := by
  unfold mS
  rw [gup_cm _ _ _ (by omega), gup_cm _ (p := g + 2) _ _ (by omega), wS_o]
theorem mS_P (S2 : GS) (g : Nat) (o : GE) (P P' F G : Nat → Int32) : gup (mS S2 g o P F G) (g + 1) (.inl (1, 5, .inl P')) = mS S2 g o P' F G := by
  unfold mS
  rw [gup_cm _ _ _ (by omega), gup_cm _ (p := g + 2) _ _ (by omega), wS_u]
theorem mS_F (S2 : GS) (g : Nat) (o : GE) (P F F' G : Nat → Int32) : gup (mS S2 g o P F G) (g + 2) (.inl (1, 5, .inl F')) = mS S2 g o P F' G := by
  unfold mS
  rw [gup_cm _ _ _ (by omega), gup_gup]
theorem mS_G (S2 : GS) (g : Nat) (o : GE) (P F G G' : Nat → Int32) : gup (mS S2 g o P F G) (g + 3) (.inl (1, 7, .inl G')) = mS S2 g o P F G' := gup_gup _ _ _ _
/-- the four places are there -/
def mPl (b : Nat) (S2 : GS) (g : Nat) : Prop := ∃ e0 e1 e2 e3, Cel b S2 g e0 ∧ Cel b S2 (g + 1) e1 ∧ Cel b S2 (g + 2) e2 ∧ Cel b S2 (g + 3) e3
theorem mPl.c0 {S2 : GS} {g : Nat} (h : mPl b S2 g) (o : GE) (P F G : Nat → Int32) : Cel b (mS S2 g o P F G) g o := by
  obtain ⟨e0, e1, e2, e3, h0, h1, h2, h3⟩ := h
  exact ((wS_g h0).uo (by omega) _).uo (by omega) _
theorem mPl.c1 {S2 : GS} {g : Nat} (h : mPl b S2 g) (o : GE) (P F G : Nat → Int32) : Cel b (mS S2 g o P F G) (g + 1) (.inl (1, 5, .inl P)) := by
  obtain ⟨e0, e1, e2, e3, h0, h1, h2, h3⟩ := h
  exact ((wS_p h1).uo (by omega) _).uo (by omega) _
theorem mPl.c2 {S2 : GS} {g : Nat} (h : mPl b S2 g) (o : GE) (P F G : Nat → Int32) : Cel b (mS S2 g o P F G) (g + 2) (.inl (1, 5, .inl F)) := by
  obtain ⟨e0, e1, e2, e3, h0, h1, h2, h3⟩ := h
  exact ((((h2.uo (by omega) _).uo (by omega) _)).up _).uo (by omega) _
theorem mPl.c3 {S2 : GS} {g : Nat} (h : mPl b S2 g) (o : GE) (P F G : Nat → Int32) : Cel b (mS S2 g o P F G) (g + 3) (.inl (1, 7, .inl G)) := by
  obtain ⟨e0, e1, e2, e3, h0, h1, h2, h3⟩ := h
  exact (((h3.uo (by omega) _).uo (by omega) _).uo (by omega) _).up _
theorem cpP_e {P F : Nat → Int32} {p : List Nat} (h : Pth P p) : va_cpy P F 0 0 p.length = cpP p F := by
  funext i
  unfold va_cpy cpP
  by_cases hi : i < p.length
  · rw [if_pos (by omega), List.getElem?_eq_getElem hi]
    have := h i p[i] (List.getElem?_eq_getElem hi)
    rw [Nat.zero_add, Nat.sub_zero]
    exact this
  · rw [if_neg (by omega), List.getElem?_eq_none (by omega)]
theorem mWlk {S2 : GS} {g h : Nat} {sp tt : Int32} (hE : E.1 ≤ b) (hb : b ≤ g) (hT : TA b S A 0 a d) (x : Ext S S2) (hg : S.2.1 ≤ g) (hp : mPl b S2 g) : Wlk E N b A a d g 15 h sp (fun P w => mS S2 g (mOb b g h sp tt w) P w.2.1 w.2.2.2) (mEn tt) := by
  refine ⟨Or.inr (Or.inr rfl), by omega, fun P w => ⟨hT.1, hT.2.1, hT.2.2.1.ext (mS_ext x hg), hT.2.2.2⟩, fun P w => ⟨_, hp.c0 _ _ _ _⟩, fun P w => hp.c1 _ _ _ _, fun P w k v => mS_P _ _ _ _ _ _ _, fun P w p x t hl _ hP hx => ?_⟩
  obtain ⟨l, hl7, rfl⟩ := hx
  have tl : (Int32.ofNat l).toNatClampNeg = l := pq_tn (by omega)
  have hg2 : E.1 ≤ g := by omega
  have c : ∀ (c fi : Int32) (F G : Nat → Int32), Cel b (mS S2 g (mOb b g h sp tt (c, F, fi, G)) P F G) g (.inr (15, [.ref (tad b 0), .int (Int32.ofNat h), .int sp, .ref (g + 1), .int tt, .ref (g + 2), .ref (g + 3), .int c, .int fi])) := fun c fi F G => hp.c0 _ _ _ _
  obtain ⟨c0, F, fi, G⟩ := w
  -- the end of it: one more, and where it ends
  have tail : ∀ (c fi : Int32) (F : Nat → Int32), bX22_ends_36 E N g (put b A (mS S2 g (mOb b g h sp tt (c, F, fi, G)) P F G)) (Int32.ofNat l) = some (Int32.ofNat 0, put b A (mS S2 g (mOb b g h sp tt (c + Int32.ofNat 1, F, fi, upd G l (G l + Int32.ofNat 1))) P F (upd G l (G l + Int32.ofNat 1)))) := by
    intro c1 fi1 F1
    have u1 : gup (mS S2 g (mOb b g h sp tt (c1, F1, fi1, G)) P F1 G) g (.inr (15, [.ref (tad b 0), .int (Int32.ofNat h), .int sp, .ref (g + 1), .int tt, .ref (g + 2), .ref (g + 3), .int (c1 + Int32.ofNat 1), .int fi1])) = mS S2 g (mOb b g h sp tt (c1 + Int32.ofNat 1, F1, fi1, G)) P F1 G := mS_o _ _ _ _ _ _ _
    have c3 := hp.c3 (mOb b g h sp tt (c1 + Int32.ofNat 1, F1, fi1, G)) P F1 G
    simp only [bX22_ends_36, pq_lit]
    simp (disch := omega) only [↓r15_92 (c _ _ _ _), ↓w15_92 (c _ _ _ _) hg2, u1, ↓r15_91 (c _ _ _ _), gai_at (c3.at A) hl7 (show 7 ≤ 65536 by omega), gaw_at (c3.at A) hl7 (show 7 ≤ 65536 by omega) (show E.1 ≤ g + 3 by omega), gup_o c3.2.1, mS_G, pq_lit, pq_add, pq_le, pq_lt, pq_eq, pq_en, pq_ne, pq_nle, pq_nlt, pq_len, pq_ltn, pB_z, pB_o, mzt_0, mzt_1, mzt_B, ↓gbd_s, gbd_s, ↓gnn_s, ↓grf_s, eq_self, ↓reduceIte, Nat.reduceEqDiff, Nat.reduceLeDiff, Nat.reduceLT, Nat.reduceMul, Nat.reduceAdd, not_true_eq_false, not_false_eq_true, Bool.false_eq_true]
    rfl
  have c2 := hp.c2 (mOb b g h sp tt (c0, F, fi, G)) P F G
  have cP := hp.c1 (mOb b g h sp tt (c0, F, fi, G)) P F G
  simp only [vInchBorders_Walk_ends__III_Z, fX22_ends, bX22_ends_0, pq_lit]
  simp only [↓kc (c _ _ _ _), ↓r15_89 (c _ _ _ _), ↓r15_92 (c _ _ _ _), ↓r15_84 (c _ _ _ _), ↓r15_90 (c _ _ _ _), mEn, tl]
  by_cases q1 : t = tt
  · by_cases q2 : c0 = Int32.ofNat 0
    · have u2 : gup (mS S2 g (mOb b g h sp tt (c0, F, fi, G)) P F G) (g + 2) (.inl (1, 5, .inl (va_cpy P F 0 0 p.length))) = mS S2 g (mOb b g h sp tt (c0, F, fi, G)) P (cpP p F) G := by rw [cpP_e hP]; exact mS_F _ _ _ _ _ _ _
      have u3 : gup (mS S2 g (mOb b g h sp tt (c0, F, fi, G)) P (cpP p F) G) g (.inr (15, [.ref (tad b 0), .int (Int32.ofNat h), .int sp, .ref (g + 1), .int tt, .ref (g + 2), .ref (g + 3), .int c0, .int (Int32.ofNat p.length)])) = mS S2 g (mOb b g h sp tt (c0, cpP p F, Int32.ofNat p.length, G)) P (cpP p F) G := mS_o _ _ _ _ _ _ _
      have cq : Cel b (mS S2 g (mOb b g h sp tt (c0, F, fi, G)) P (cpP p F) G) g (.inr (15, [.ref (tad b 0), .int (Int32.ofNat h), .int sp, .ref (g + 1), .int tt, .ref (g + 2), .ref (g + 3), .int c0, .int fi])) := hp.c0 _ _ _ _
      subst q2
      simp (disch := omega) only [q1, gcp_at (cP.at A) (c2.at A) (show E.1 ≤ g + 2 by omega) hl hl (show 5 ≤ 65536 by omega) (show 5 ≤ 65536 by omega), gup_o c2.2.1, u2, w15_93 cq hg2, u3, tail, pB_F, pq_lit, pq_add, pq_le, pq_lt, pq_eq, pq_en, pq_ne, pq_nle, pq_nlt, pq_len, pq_ltn, pB_z, pB_o, mzt_0, mzt_1, mzt_B, ↓gbd_s, gbd_s, ↓gnn_s, ↓grf_s, eq_self, ↓reduceIte, Nat.reduceEqDiff, Nat.reduceLeDiff, Nat.reduceLT, Nat.reduceMul, Nat.reduceAdd, not_true_eq_false, not_false_eq_true, Bool.false_eq_true]
    · simp (disch := omega) only [q1, q2, pB_F, pq_lit, pq_add, pq_le, pq_lt, pq_eq, pq_en, pq_ne, pq_nle, pq_nlt, pq_len, pq_ltn, pB_z, pB_o, mzt_0, mzt_1, mzt_B, ↓gbd_s, gbd_s, ↓gnn_s, ↓grf_s, eq_self, ↓reduceIte, Nat.reduceEqDiff, Nat.reduceLeDiff, Nat.reduceLT, Nat.reduceMul, Nat.reduceAdd, not_true_eq_false, not_false_eq_true, Bool.false_eq_true, tail]
  · simp (disch := omega) only [q1, pB_F, pq_lit, pq_add, pq_le, pq_lt, pq_eq, pq_en, pq_ne, pq_nle, pq_nlt, pq_len, pq_ltn, pB_z, pB_o, mzt_0, mzt_1, mzt_B, ↓gbd_s, gbd_s, ↓gnn_s, ↓grf_s, eq_self, ↓reduceIte, Nat.reduceEqDiff, Nat.reduceLeDiff, Nat.reduceLT, Nat.reduceMul, Nat.reduceAdd, not_true_eq_false, not_false_eq_true, Bool.false_eq_true]
def MdC (w : MdQ) (q : MdS) : Prop := w.1 = Int32.ofNat q.1 ∧ (∀ l, l < 7 → w.2.2.2 l = Int32.ofNat (q.2.2 l)) ∧ (0 < q.1 → w.2.2.1 = Int32.ofNat q.2.1.length ∧ Pth w.2.1 q.2.1)
theorem run_m {tt : Int32} : ∀ (L : List Row) (w : MdQ) (q : MdS), MdC w q → q.1 + L.length ≤ 20000 → (∀ r, r ∈ L → ∃ l, l < 7 ∧ r.2.1 = Int32.ofNat l) → (runR (mEn tt) L w).1 = none ∧ MdC (runR (mEn tt) L w).2 (mdF tt L q)
  | [], w, q, h, _, _ => ⟨rfl, h⟩
  | r :: L, w, q, h, hc, hR => by
    simp only [List.length_cons] at hc
    have e : runR (mEn tt) (r :: L) w = runR (mEn tt) L (mEn tt r.1 w r.2.1 r.2.2).2 := if_neg (show ¬ false = true by decide)
    rw [e]
    have cn := md1_cnt tt q r
    refine run_m L _ (md1 tt q r) ?_ (by omega) (fun r' hr' => hR r' (List.mem_cons_of_mem _ hr'))
    obtain ⟨l, l7, el⟩ := hR r (List.mem_cons_self ..)
    obtain ⟨h1, h2, h3⟩ := h
    have tl : r.2.1.toNatClampNeg = l := by rw [el]; exact pq_tn (by omega)
    unfold mEn md1
    rw [tl]
    by_cases y : r.2.2 = tt
    · rw [if_pos y]
      simp only [if_pos y]
      have z : (w.1 = Int32.ofNat 0) = (q.1 = 0) := by rw [h1]; exact pq_eq (by omega) (by omega)
      refine ⟨?_, fun l' hl' => ?_, fun _ => ?_⟩
      · show w.1 + Int32.ofNat 1 = _
        rw [h1, pq_add]
      · show upd w.2.2.2 l _ l' = Int32.ofNat (if l' = l then _ else _)
        by_cases y2 : l' = l
        · subst y2
          rw [upd_s, if_pos rfl, h2 l' hl', pq_add]
        · rw [upd_o _ _ y2, if_neg y2, h2 l' hl']
      · by_cases y3 : q.1 = 0
        · simp only [z, y3, if_true]
          refine ⟨trivial, fun i l' hi => ?_⟩
          unfold cpP
          rw [hi]
        · simp only [z, y3, if_false]
          exact h3 (by omega)
    · rw [if_neg y]
      simp only [if_neg y]
      exact ⟨h1, h2, h3⟩
end WM
