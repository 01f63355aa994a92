/-! sentences: the words, the loop, what is told of a parse -/
def LW : List (List Nat) := ["home", "stuck", "in", "of", "free", "length", "taken", "crossed", "number", "not", "and", "or"].map sBytes
abbrev lw (j : Nat) : List Nat := LW.getD j []
theorem lwd : ∀ i, i < 12 → ∀ j, j < 12 → decide (lw i = lw j) = decide (i = j) := by decide +kernel
theorem lww : ∀ j, j < 12 → Wd (lw j) := by
  have : (List.range 12).all (fun j => decide (1 ≤ (lw j).length) && decide ((lw j).length ≤ 7) && (lw j).all (fun c => decide (97 ≤ c ∧ c ≤ 122))) = true := by decide +kernel
  intro j hj
  have h := List.all_eq_true.mp this j (List.mem_range.mpr hj)
  rw [Bool.and_eq_true, Bool.and_eq_true] at h
  exact ⟨of_decide_eq_true h.1.1, of_decide_eq_true h.1.2, fun c hc => of_decide_eq_true (List.all_eq_true.mp h.2 c hc)⟩
theorem lwe : (1752132965 : Int64) = enc (lw 0) ∧ (495875089259 : Int64) = enc (lw 1) ∧ (26990 : Int64) = enc (lw 2) ∧ (28518 : Int64) = enc (lw 3) ∧ (1718773093 : Int64) = enc (lw 4) ∧ (119182899770472 : Int64) = enc (lw 5) ∧ (499850634606 : Int64) = enc (lw 6) ∧ (27991845698233700 : Int64) = enc (lw 7) ∧ (121450625394034 : Int64) = enc (lw 8) ∧ (7237492 : Int64) = enc (lw 9) ∧ (6385252 : Int64) = enc (lw 10) ∧ (28530 : Int64) = enc (lw 11) := by decide +kernel
def opn (t : Tk) : Bool := decide (t.1 = 6 ∧ t.2.2 = 40)
def cls (t : Tk) : Bool := decide (t.1 = 6 ∧ t.2.2 = 41)
abbrev tg (t : Tk) (j : Nat) : Bool := twd t (lw j)
/-- what a token is in a sentence: 0-8 a leaf, 9 not, 10 and, 11 or, 12 a bracket, 13 none of these -/
theorem tk_cl (t : Tk) : (∃ i, i < 12 ∧ t.1 = 2 ∧ opn t = false ∧ ∀ j, j < 12 → tg t j = decide (i = j)) ∨ (opn t = true ∧ t.1 = 6 ∧ ∀ j, j < 12 → tg t j = false) ∨ (opn t = false ∧ ∀ j, j < 12 → tg t j = false) := by
  by_cases e : ∃ i, i < 12 ∧ t.1 = 2 ∧ t.2.1 = lw i
  · obtain ⟨i, hi, h1, h2⟩ := e
    refine Or.inl ⟨i, hi, h1, decide_eq_false (fun h => by omega), fun j hj => ?_⟩
    rw [← lwd i hi j hj]
    show decide (t.1 = 2 ∧ t.2.1 = lw j) = _
    rw [decide_eq_decide, h2]
    exact ⟨fun h => h.2, fun h => ⟨h1, h⟩⟩
  · have hn : ∀ j, j < 12 → tg t j = false := fun j hj => decide_eq_false (fun h => e ⟨j, hj, h.1, h.2⟩)
    cases h : opn t with
    | true => exact Or.inr (Or.inl ⟨rfl, (of_decide_eq_true h).1, hn⟩)
    | false => exact Or.inr (Or.inr ⟨rfl, hn⟩)
/-- conditions' cells -/
def cndE (e : GE) : Prop := (∃ q, e = .inr (19, [.ref q])) ∨ (∃ q1 q2 v, e = .inr (23, [.ref q1, .ref q2, .int v])) ∨ (∃ v, e = .inr (20, [.int v])) ∨ (∃ v w, e = .inr (21, [.int v, .int w])) ∨ ∃ u v w, e = .inr (22, [.int u, .int v, .int w])
theorem CndAt.fr {b m : Nat} {S S' : GS} (H : ∀ a e, cndE e → Cel b S a e → Cel b S' a e) : ∀ (n : Nat) {r : Nat} {c : List Cd}, CndAt b S m n r c → CndAt b S' m n r c
  | 0, _, _, h => h.elim
  | n + 1, r, c, h => by
    rcases h with ⟨q, c1, h1, h2, h3⟩ | ⟨q1, q2, c1, c2, h1, h2, h3, h4⟩ | ⟨q1, q2, c1, c2, h1, h2, h3, h4⟩ | ⟨h1, h2⟩ | ⟨h1, h2⟩ | ⟨w, l, h1, h2, h3, h4⟩ | ⟨w, g, k, h1, h2, h3, h4, h5⟩
    · exact Or.inl ⟨q, c1, H _ _ (Or.inl ⟨_, rfl⟩) h1, CndAt.fr H n h2, h3⟩
    · exact Or.inr (Or.inl ⟨q1, q2, c1, c2, H _ _ (Or.inr (Or.inl ⟨_, _, _, rfl⟩)) h1, CndAt.fr H n h2, CndAt.fr H n h3, h4⟩)
    · exact Or.inr (Or.inr (Or.inl ⟨q1, q2, c1, c2, H _ _ (Or.inr (Or.inl ⟨_, _, _, rfl⟩)) h1, CndAt.fr H n h2, CndAt.fr H n h3, h4⟩))
    · exact Or.inr (Or.inr (Or.inr (Or.inl ⟨H _ _ (Or.inr (Or.inr (Or.inl ⟨_, rfl⟩))) h1, h2⟩)))
    · exact Or.inr (Or.inr (Or.inr (Or.inr (Or.inl ⟨H _ _ (Or.inr (Or.inr (Or.inl ⟨_, rfl⟩))) h1, h2⟩))))
    · exact Or.inr (Or.inr (Or.inr (Or.inr (Or.inr (Or.inl ⟨w, l, h1, h2, H _ _ (Or.inr (Or.inr (Or.inr (Or.inl ⟨_, _, rfl⟩)))) h3, h4⟩)))))
    · exact Or.inr (Or.inr (Or.inr (Or.inr (Or.inr (Or.inr ⟨w, g, k, h1, h2, h3, H _ _ (Or.inr (Or.inr (Or.inr (Or.inr ⟨_, _, _, rfl⟩)))) h4, h5⟩)))))
theorem CndAt.mo {b m : Nat} {S : GS} : ∀ (n k : Nat) {r : Nat} {c : List Cd}, n ≤ k → CndAt b S m n r c → CndAt b S m k r c
  | 0, _, _, _, _, h => h.elim
  | n + 1, 0, _, _, hk, _ => by omega
  | n + 1, k + 1, r, c, hk, h => by
    have hk' : n ≤ k := by omega
    rcases h with ⟨q, c1, h1, h2, h3⟩ | ⟨q1, q2, c1, c2, h1, h2, h3, h4⟩ | ⟨q1, q2, c1, c2, h1, h2, h3, h4⟩ | h | h | h | h
    · exact Or.inl ⟨q, c1, h1, CndAt.mo n k hk' h2, h3⟩
    · exact Or.inr (Or.inl ⟨q1, q2, c1, c2, h1, CndAt.mo n k hk' h2, CndAt.mo n k hk' h3, h4⟩)
    · exact Or.inr (Or.inr (Or.inl ⟨q1, q2, c1, c2, h1, CndAt.mo n k hk' h2, CndAt.mo n k hk' h3, h4⟩))
    · exact Or.inr (Or.inr (Or.inr (Or.inl h)))
    · exact Or.inr (Or.inr (Or.inr (Or.inr (Or.inl h))))
    · exact Or.inr (Or.inr (Or.inr (Or.inr (Or.inr (Or.inl h)))))
    · exact Or.inr (Or.inr (Or.inr (Or.inr (Or.inr (Or.inr h)))))
theorem cndE_m {e : GE} (h : cndE e) : mutE e = false := by
  rcases h with ⟨_, rfl⟩ | ⟨_, _, _, rfl⟩ | ⟨_, rfl⟩ | ⟨_, _, rfl⟩ | ⟨_, _, _, rfl⟩ <;> rfl
theorem CndAt.fx {b m : Nat} {S S' : GS} (x : Fx S S') {n r : Nat} {c : List Cd} (h : CndAt b S m n r c) : CndAt b S' m n r c := CndAt.fr (fun a e he c => x.cel c (cndE_m he)) n h
/-- a cell is filled that was none of them -/
theorem CndAt.up {b m : Nat} {S : GS} {a : Nat} {e0 : GE} (ha : S.1 a = some e0) (hn : ¬ cndE e0) (e' : GE) {n r : Nat} {c : List Cd} (h : CndAt b S m n r c) : CndAt b (gup S a e') m n r c := CndAt.fr (fun a' e he c => c.uo (fun q => by
  subst q
  rw [c.1] at ha
  injection ha with ha
  subst ha
  exact hn he) e') n h
theorem Xo.gu {q : Nat} {S S' : GS} (h : Xo q S S') {a : Nat} (ha : S.2.1 ≤ a) (e : GE) : Xo q S (gup S' a e) := ⟨h.1, fun i hi hq => by
  show va_up S'.1 a (some e) i = _
  unfold va_up
  rw [if_neg (by omega)]
  exact h.2 i hi hq⟩
/-- strings stay -/
def strE (e : GE) : Bool := match e with
  | .inr (c, _) => c == 26 || c == 27
  | .inl (k, _) => k == 0
def Fs (S S' : GS) : Prop := S.2.1 ≤ S'.2.1 ∧ ∀ a e, a < S.2.1 → S.1 a = some e → strE e = true → S'.1 a = S.1 a
theorem Fs.cel {b : Nat} {S S' : GS} (x : Fs S S') {a : Nat} {e : GE} (c : Cel b S a e) (hm : strE e = true) : Cel b S' a e := ⟨(x.2 a e c.2.2 c.1 hm).trans c.1, c.2.1, Nat.lt_of_lt_of_le c.2.2 x.1⟩
theorem StrAt.fs {b : Nat} {S S' : GS} {r : Nat} {w : List Nat} (h : StrAt b S r w) (x : Fs S S') : StrAt b S' r w := by
  obtain ⟨v, h1, h2, h3, f, h4, h5⟩ := h
  refine ⟨v, ?_, h2, h3, f, x.cel h4 rfl, h5⟩
  rcases h1 with ⟨p, q, h1⟩ | h1
  · exact Or.inl ⟨p, q, x.cel h1 rfl⟩
  · exact Or.inr (x.cel h1 rfl)
theorem Fs.up {S : GS} {a : Nat} {e0 : GE} (ha : S.1 a = some e0) (hn : strE e0 = false) (e : GE) : Fs S (gup S a e) := ⟨Nat.le_refl _, fun i e' _ he hs => by
  show va_up S.1 a (some e) i = _
  unfold va_up
  rw [if_neg]
  rintro rfl
  rw [ha] at he
  injection he with he
  rw [he, hs] at hn
  cases hn⟩
theorem Rd.up {b : Nat} {A : FA} {S : GS} {M : MS} {q ci : Nat} {ex : List Value} {n lim fr : Nat} {t : Tk} (h : Rd b A S M q ci ex n lim fr t) {a : Nat} {e0 : GE} (ha : S.1 a = some e0) (hn : strE e0 = false) (hq : q ≠ a) (e : GE) : Rd b A (gup S a e) M q ci ex n lim fr t := by
  have x := Fs.up ha hn e
  obtain ⟨p, kd, nu, sg, wr, c, h1, h2, h3, h4, h5, h6, h7, h8, h9, h10, h11, h12⟩ := h
  refine ⟨p, kd, nu, sg, wr, c.uo hq e, h1, h2, h3, h4, h5, h6, h7, h8, h9, h10, h11, ?_⟩
  rcases h12 with h | h | ⟨g1, g2, g3, g4, g5, g6⟩ | h | h | h
  · exact Or.inl h
  · exact Or.inr (Or.inl h)
  · exact Or.inr (Or.inr (Or.inl ⟨g1, g2, g3, g4, g5.fs x, g6⟩))
  · exact Or.inr (Or.inr (Or.inr (Or.inl h)))
  · exact Or.inr (Or.inr (Or.inr (Or.inr (Or.inl h))))
  · exact Or.inr (Or.inr (Or.inr (Or.inr (Or.inr h))))
/-- the model's loop -/
noncomputable def sL (N k : Nat) (M : MS) : Option (Int32 × MS) := bX5_sentence_48L N k M (Int32.ofNat 1)
section SB
variable {N k : Nat} {M M' : MS}
theorem sL_o (h : M.1 55 = Int32.ofNat 0) (e : fX5_operand N M = some (Int32.ofNat 1, M')) : sL N (k + 1) M = sL N k M' := by
  unfold sL
  simp only [bX5_sentence_48L, bX5_sentence_48, bX5_sentence_101, pq_lit]
  simp (disch := omega) only [h, ↓mbd_h (e), e, ↓mbd_s, mbd_s, eq_self, ↓reduceIte, Nat.reduceEqDiff, Nat.reduceLeDiff, Nat.reduceLT, Nat.reduceMul, Nat.reduceAdd, not_true_eq_false, not_false_eq_true, Bool.false_eq_true, pq_lit, pq_add, pq_le, pq_lt, pq_eq, pq_en, pq_ne, pq_nle, pq_nlt, pq_len, pq_ltn, pB_z, pB_o, mzt_0, mzt_1, mzt_B]
theorem sL_ox (h : M.1 55 = Int32.ofNat 0) (e : fX5_operand N M = some (Int32.ofNat 0, M')) : sL N (k + 1) M = some (-Int32.ofNat 1 - M'.1 16, M') := by
  unfold sL
  simp only [bX5_sentence_48L, bX5_sentence_48, bX5_sentence_101, bX5_sentence_125, pq_lit]
  simp (disch := omega) only [h, ↓mbd_h (e), e, ↓mbd_s, mbd_s, eq_self, ↓reduceIte, Nat.reduceEqDiff, Nat.reduceLeDiff, Nat.reduceLT, Nat.reduceMul, Nat.reduceAdd, not_true_eq_false, not_false_eq_true, Bool.false_eq_true, pq_lit, pq_add, pq_le, pq_lt, pq_eq, pq_en, pq_ne, pq_nle, pq_nlt, pq_len, pq_ltn, pB_z, pB_o, mzt_0, mzt_1, mzt_B]
theorem sL_b (h : M.1 55 = Int32.ofNat 1) (h0 : ¬ M.1 11 = Int32.ofNat 0) (e : fX5_behind N M = some (Int32.ofNat 1, M')) : sL N (k + 1) M = sL N k M' := by
  unfold sL
  simp only [bX5_sentence_48L, bX5_sentence_48, bX5_sentence_101, pq_lit]
  simp (disch := omega) only [h, h0, ↓mbd_h (e), e, ↓mbd_s, mbd_s, eq_self, ↓reduceIte, Nat.reduceEqDiff, Nat.reduceLeDiff, Nat.reduceLT, Nat.reduceMul, Nat.reduceAdd, not_true_eq_false, not_false_eq_true, Bool.false_eq_true, pq_lit, pq_add, pq_le, pq_lt, pq_eq, pq_en, pq_ne, pq_nle, pq_nlt, pq_len, pq_ltn, pB_z, pB_o, mzt_0, mzt_1, mzt_B]
theorem sL_bx (h : M.1 55 = Int32.ofNat 1) (h0 : ¬ M.1 11 = Int32.ofNat 0) (e : fX5_behind N M = some (Int32.ofNat 0, M')) : sL N (k + 1) M = some (-Int32.ofNat 1 - M'.1 16, M') := by
  unfold sL
  simp only [bX5_sentence_48L, bX5_sentence_48, bX5_sentence_101, bX5_sentence_125, pq_lit]
  simp (disch := omega) only [h, h0, ↓mbd_h (e), e, ↓mbd_s, mbd_s, eq_self, ↓reduceIte, Nat.reduceEqDiff, Nat.reduceLeDiff, Nat.reduceLT, Nat.reduceMul, Nat.reduceAdd, not_true_eq_false, not_false_eq_true, Bool.false_eq_true, pq_lit, pq_add, pq_le, pq_lt, pq_eq, pq_en, pq_ne, pq_nle, pq_nlt, pq_len, pq_ltn, pB_z, pB_o, mzt_0, mzt_1, mzt_B]
end SB
abbrev sk : List Nat := [4, 8, 11, 12, 13, 14, 18, 50, 51, 52, 53, 54, 55]
/-- the reader of a sentence -/
abbrev sEx (a on wi : Nat) : List Value := [.ref a, .int (Int32.ofNat on), .int (Int32.ofNat wi)]
def SCx (E : gE) (N b : Nat) (A : FA) (S0 : GS) (M0 : MS) (q a nl l0 : Nat) (f0 : Nat → Nat) : Prop := KOk E b S0 ∧ 3000 ≤ N ∧ S0.2.1 ≤ q ∧ ResR M0 ∧ NmL b S0 M0 l0 nl 0 f0 ∧ (∃ ln x2 x3, Cel b S0 a (.inr (1, [.int ln, .ref l0, x2, x3]))) ∧ M0.2.2.1 6 0 = Int32.ofNat nl
/-- it fails on both sides alike -/
def SF (N b : Nat) (A : FA) (S0 : GS) (M0 : MS) (lim : Nat) (S : GS) (M : MS) (fr : Nat) (oc : Option ((Option Nat ⊕ Nat) × GS)) : Prop := ∃ fa kd pl S' M' j, oc = some (.inr fa, put b A S') ∧ (∀ k, sL N (k + j) M = some (-Int32.ofNat 1 - pl, M')) ∧ Ext S0 S' ∧ FltAt b S' fa kd pl ∧ M'.1 15 = kd ∧ M'.1 16 = pl ∧ mSn rdk M0 M' ∧ j + fr ≤ lim + 3 ∧ S'.2.2.1 + 9 * fr ≤ S.2.2.1 + 9 * lim + 30 ∧ S'.2.2.2 + 110 * fr ≤ S.2.2.2 + 110 * lim + 300
/-- it goes on behind a condition -/
def SS (N b : Nat) (A : FA) (S0 : GS) (M0 : MS) (q a nl n lim wi : Nat) (R : List Cd × List Nat → List Cd × List Nat → Prop) (Q : Tk → Prop) (S : GS) (M : MS) (fr : Nat) (cs : List Cd) (st : List Nat) (oc : Option ((Option Nat ⊕ Nat) × GS)) : Prop := ∃ r S' M' c cs' st' on' fr' t' j, oc = some (.inl (some r), put b A S') ∧ (∀ k, sL N (k + j) M = sL N k M') ∧ Rd b A S' M' q 18 (sEx a on' wi) n lim fr' t' ∧ Q t' ∧ SnM M' cs' st' on' true ∧ R (cs', st') (cs ++ c, st) ∧ CndAt b S' nl c.length r c ∧ 1 ≤ c.length ∧ Xo q S S' ∧ Ext S0 S' ∧ mSm sk M0 M' ∧ fr + j ≤ fr' ∧ S'.2.2.1 + 9 * fr ≤ S.2.2.1 + 9 * fr' ∧ S'.2.2.2 + 110 * fr ≤ S.2.2.2 + 110 * fr'
def Rs (z z0 : List Cd × List Nat) : Prop := nts z.1 z.2 = nts z0.1 z0.2
def Ra (z z0 : List Cd × List Nat) : Prop := jns false (nts z.1 z.2).1 (nts z.1 z.2).2 = z0
def Ro (z z0 : List Cd × List Nat) : Prop := jns true (nts z.1 z.2).1 (nts z.1 z.2).2 = z0
def SP (N b : Nat) (A : FA) (S0 : GS) (M0 : MS) (q a nl n lim wi : Nat) (R : List Cd × List Nat → List Cd × List Nat → Prop) (Q : Tk → Prop) (S : GS) (M : MS) (fr : Nat) (cs : List Cd) (st : List Nat) (oc : Option ((Option Nat ⊕ Nat) × GS)) : Prop := SS N b A S0 M0 q a nl n lim wi R Q S M fr cs st oc ∨ SF N b A S0 M0 lim S M fr oc
section SC
variable {E : gE} {N b : Nat} {A : FA} {S0 S : GS} {M0 M : MS} {q a nl l0 n lim fr on wi : Nat} {f0 : Nat → Nat} {t : Tk}
theorem sr_97 (h : Rd b A S M q 18 (sEx a on wi) n lim fr t) {β : Type} (K : Option Nat → Option β) : ggr (put b A S) (some q) 97 K = K (some a) := by
  obtain ⟨p, kd, nu, sg, wr, c, _⟩ := h
  exact ggr_as (k := 9) (c.at A) rfl rfl K
theorem sr_98 (h : Rd b A S M q 18 (sEx a on wi) n lim fr t) {β : Type} (K : Int32 → Option β) : ggi (put b A S) (some q) 98 K = K (Int32.ofNat on) := by
  obtain ⟨p, kd, nu, sg, wr, c, _⟩ := h
  exact ggi_at (k := 10) (c.at A) rfl rfl K
theorem sr_99 (h : Rd b A S M q 18 (sEx a on wi) n lim fr t) {β : Type} (K : Int32 → Option β) : ggi (put b A S) (some q) 99 K = K (Int32.ofNat wi) := by
  obtain ⟨p, kd, nu, sg, wr, c, _⟩ := h
  exact ggi_at (k := 11) (c.at A) rfl rfl K
theorem sr_w98 (h : Rd b A S M q 18 (sEx a on wi) n lim fr t) (hE : E.1 ≤ q) (v : Nat) : ∃ S', (∀ {β : Type} (K : GS → Option β), gpv E (put b A S) (some q) 98 (.int (Int32.ofNat v)) K = K (put b A S')) ∧ Rd b A S' M q 18 (sEx a v wi) n lim fr t ∧ Xo q S S' ∧ S'.2 = S.2 := by
  have hh := h
  obtain ⟨p, kd, nu, sg, wr, c, _⟩ := h
  refine ⟨gup S q (.inr (18, (rdV b n lim (Int32.ofNat p) kd (Int32.ofNat fr) nu sg wr (sEx a on wi)).set 10 (.int (Int32.ofNat v)))), fun K => ?_, hh.ex (kk := 10) (v := .int (Int32.ofNat v)) (fun fs e => ?_) (by omega) rfl, Xo.up _, rfl⟩
  · rw [gpv_at (k := 10) (c.at A) rfl (by show 10 < 12; omega) hE, gup_o c.2.1]
  · rw [c.1] at e
    injection e with e
    injection e with e
    injection e with e1 e2
    rw [← e2]
theorem sr_w99 (h : Rd b A S M q 18 (sEx a on wi) n lim fr t) (hE : E.1 ≤ q) (v : Nat) : ∃ S', (∀ {β : Type} (K : GS → Option β), gpv E (put b A S) (some q) 99 (.int (Int32.ofNat v)) K = K (put b A S')) ∧ Rd b A S' M q 18 (sEx a on v) n lim fr t ∧ Xo q S S' ∧ S'.2 = S.2 := by
  have hh := h
  obtain ⟨p, kd, nu, sg, wr, c, _⟩ := h
  refine ⟨gup S q (.inr (18, (rdV b n lim (Int32.ofNat p) kd (Int32.ofNat fr) nu sg wr (sEx a on wi)).set 11 (.int (Int32.ofNat v)))), fun K => ?_, hh.ex (kk := 11) (v := .int (Int32.ofNat v)) (fun fs e => ?_) (by omega) rfl, Xo.up _, rfl⟩
  · rw [gpv_at (k := 11) (c.at A) rfl (by show 11 < 12; omega) hE, gup_o c.2.1]
  · rw [c.1] at e
    injection e with e
    injection e with e
    injection e with e1 e2
    rw [← e2]
theorem Rd.xf {ci : Nat} {ex : List Value} (h : Rd b A S M q ci ex n lim fr t) {S' : GS} (x : Xo q S S') : Fx S S' := by
  obtain ⟨hk, fs, c⟩ := h.cl
  exact x.fx c.1 (rd_mut hk)
theorem v_is (h : Rd b A S M q 18 (sEx a on wi) n lim fr t) (r : Option Nat) : vInchBorders_SentenceReader_is__Ljava_lang_String__Z E N (put b A S) (some q) r = fX6_is E N (put b A S) q r := by
  obtain ⟨hk, fs, c⟩ := h.cl
  simp only [vInchBorders_SentenceReader_is__Ljava_lang_String__Z]; rw [kc c]; rfl
theorem v_go (h : Rd b A S M q 18 (sEx a on wi) n lim fr t) : vInchBorders_SentenceReader_go___V E N (put b A S) (some q) = fX6_go E N (put b A S) q := by
  obtain ⟨hk, fs, c⟩ := h.cl
  simp only [vInchBorders_SentenceReader_go___V]; rw [kc c]; rfl
theorem v_need (h : Rd b A S M q 18 (sEx a on wi) n lim fr t) (x y : Int32) : vInchBorders_SentenceReader_need__ZI_V E N (put b A S) (some q) x y = fX6_need E N (put b A S) q x y := by
  obtain ⟨hk, fs, c⟩ := h.cl
  simp only [vInchBorders_SentenceReader_need__ZI_V]; rw [kc c]; rfl
theorem v_num (h : Rd b A S M q 18 (sEx a on wi) n lim fr t) (x y : Int32) : vInchBorders_SentenceReader_number__II_I E N (put b A S) (some q) x y = fX6_number E N (put b A S) q x y := by
  obtain ⟨hk, fs, c⟩ := h.cl
  simp only [vInchBorders_SentenceReader_number__II_I]; rw [kc c]; rfl
theorem v_one (h : Rd b A S M q 18 (sEx a on wi) n lim fr t) (x : Option Nat) : vInchBorders_SentenceReader_one__Ljava_util_ArrayList__I E N (put b A S) (some q) x = fX6_one E N (put b A S) q x := by
  obtain ⟨hk, fs, c⟩ := h.cl
  simp only [vInchBorders_SentenceReader_one__Ljava_util_ArrayList__I]; rw [kc c]; rfl
theorem v_than (h : Rd b A S M q 18 (sEx a on wi) n lim fr t) (x : Int32) : vInchBorders_SentenceReader_than__I_LInchBorders_Cond_ E N (put b A S) (some q) x = fX25_than E N (put b A S) q x := by
  obtain ⟨hk, fs, c⟩ := h.cl
  simp only [vInchBorders_SentenceReader_than__I_LInchBorders_Cond_]; rw [kc c]; rfl
theorem v_nam (h : Rd b A S M q 18 (sEx a on wi) n lim fr t) : vInchBorders_SentenceReader_named___I E N (put b A S) (some q) = fX25_named E N (put b A S) q := by
  obtain ⟨hk, fs, c⟩ := h.cl
  simp only [vInchBorders_SentenceReader_named___I]; rw [kc c]; rfl
theorem v_nub (h : Rd b A S M q 18 (sEx a on wi) n lim fr t) : vInchBorders_SentenceReader_numbered___I E N (put b A S) (some q) = fX25_numbered E N (put b A S) q := by
  obtain ⟨hk, fs, c⟩ := h.cl
  simp only [vInchBorders_SentenceReader_numbered___I]; rw [kc c]; rfl
/-- a word of the sentence's own -/
theorem s_is (cx : SCx E N b A S0 M0 q a nl l0 f0) (x : Ext S0 S) (h : Rd b A S M q 18 (sEx a on wi) n lim fr t) : (∀ k j, (k, j) ∈ [(11, 9), (12, 0), (13, 1), (14, 2), (15, 3), (16, 4), (17, 5), (18, 6), (19, 7), (20, 8), (21, 10), (22, 11)] → fX6_is E N (put b A S) q (some (E.2.1 k)) = some (bI (tg t j), put b A S)) ∧ ∀ j, j < 12 → fX5_isWord N M (enc (lw j)) = some (bI (tg t j), M) := by
  obtain ⟨kok, hN, hq, hr, hl, ha, h6⟩ := cx
  refine ⟨fun k j hkj => ?_, fun j hj => j_isM h (lww j hj)⟩
  have st : StrAt b S (E.2.1 k) (lw j) := by
    have k2 := kok.2.2.1
    simp only [List.mem_cons, List.not_mem_nil, or_false, Prod.mk.injEq] at hkj
    rcases hkj with ⟨rfl, rfl⟩ | ⟨rfl, rfl⟩ | ⟨rfl, rfl⟩ | ⟨rfl, rfl⟩ | ⟨rfl, rfl⟩ | ⟨rfl, rfl⟩ | ⟨rfl, rfl⟩ | ⟨rfl, rfl⟩ | ⟨rfl, rfl⟩ | ⟨rfl, rfl⟩ | ⟨rfl, rfl⟩ | ⟨rfl, rfl⟩
    · exact (k2 11 _ rfl).ext x
    · exact (k2 12 _ rfl).ext x
    · exact (k2 13 _ rfl).ext x
    · exact (k2 14 _ rfl).ext x
    · exact (k2 15 _ rfl).ext x
    · exact (k2 16 _ rfl).ext x
    · exact (k2 17 _ rfl).ext x
    · exact (k2 18 _ rfl).ext x
    · exact (k2 19 _ rfl).ext x
    · exact (k2 20 _ rfl).ext x
    · exact (k2 21 _ rfl).ext x
    · exact (k2 22 _ rfl).ext x
  exact j_isC h st (by omega)
end SC
