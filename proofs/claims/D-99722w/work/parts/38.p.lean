/-! component and model: what ties them -/
def StrAt (b : Nat) (S : GS) (r : Nat) (w : List Nat) : Prop := ∃ v, ((∃ h z, Cel b S r (.inr (26, [.ref v, .int (Int32.ofNat 0), .int h, .int z]))) ∨ Cel b S r (.inr (27, [.ref v, .int (Int32.ofNat 0)]))) ∧ w.length ≤ 1000 ∧ (∀ c, c ∈ w → c < 128) ∧ ∃ f, Cel b S v (.inl (0, w.length, .inl f)) ∧ ∀ i c, w[i]? = some c → f i = Int32.ofNat c
theorem StrAt.ext {b : Nat} {S S' : GS} {r : Nat} {w : List Nat} (h : StrAt b S r w) (x : Ext S S') : StrAt b S' r w := by
  obtain ⟨v, h1, h2, h3, f, h4, h5⟩ := h
  refine ⟨v, ?_, h2, h3, f, h4.ext x, h5⟩
  rcases h1 with ⟨p, q, h1⟩ | h1
  · exact Or.inl ⟨p, q, h1.ext x⟩
  · exact Or.inr (h1.ext x)
/-- a word of small letters, as a long -/
def enc (w : List Nat) : Int64 := w.foldl (fun a c => a <<< (8 : Int64) ||| Int64.ofNat c) 0
def Wd (w : List Nat) : Prop := 1 ≤ w.length ∧ w.length ≤ 7 ∧ ∀ c, c ∈ w → 97 ≤ c ∧ c ≤ 122
def NmR (b : Nat) (S : GS) (d : AD) (s : St) (nm : Nat → Int64) : Prop := (∀ l, l < nL s → ∃ w, StrAt b S (d.2.2.2.2.1 l) w ∧ Wd w ∧ nm l = enc w) ∧ (∀ p, p < nP s → ∃ w, StrAt b S (d.2.2.2.2.2 p) w ∧ Wd w ∧ nm (7 + p) = enc w)
/-- a condition and its codes, operands ahead -/
abbrev Cd : Type := Nat × Nat × Nat
def CndAt (b : Nat) (S : GS) (m : Nat) : Nat → Nat → List Cd → Prop
  | 0, _, _ => False
  | n + 1, r, c => (∃ q c1, Cel b S r (.inr (19, [.ref q])) ∧ CndAt b S m n q c1 ∧ c = c1 ++ [(20, 0, 0)]) ∨
    (∃ q1 q2 c1 c2, Cel b S r (.inr (23, [.ref q1, .ref q2, .int (Int32.ofNat 1)])) ∧ CndAt b S m n q1 c1 ∧ CndAt b S m n q2 c2 ∧ c = c1 ++ c2 ++ [(21, 0, 0)]) ∨
    (∃ q1 q2 c1 c2, Cel b S r (.inr (23, [.ref q1, .ref q2, .int (Int32.ofNat 0)])) ∧ CndAt b S m n q1 c1 ∧ CndAt b S m n q2 c2 ∧ c = c1 ++ c2 ++ [(22, 0, 0)]) ∨
    (Cel b S r (.inr (20, [.int (Int32.ofNat 1)])) ∧ c = [(0, 0, 0)]) ∨
    (Cel b S r (.inr (20, [.int (Int32.ofNat 0)])) ∧ c = [(1, 0, 0)]) ∨
    (∃ w l, w < 3 ∧ l < m ∧ Cel b S r (.inr (21, [.int (Int32.ofNat w), .int (Int32.ofNat l)])) ∧ c = [(2 + w, 0, l)]) ∨
    (∃ w g k, w < 4 ∧ (g = 60 ∨ g = 61 ∨ g = 62) ∧ k < 1000 ∧ Cel b S r (.inr (22, [.int (Int32.ofNat w), .int (Int32.ofNat g), .int (Int32.ofNat k)])) ∧ c = [(5 + w, g, k)])
theorem CndAt.ext {b m : Nat} {S S' : GS} (x : Ext S S') : ∀ (n : Nat) {r : Nat} {c : List Cd}, CndAt b S m n r c → CndAt b S' m n r c
  | 0, _, _, h => h.elim
  | n + 1, r, c, h => by
    rcases h with ⟨q, c1, h1, h2, h3⟩ | ⟨q1, q2, c1, c2, h1, h2, h3, h4⟩ | ⟨q1, q2, c1, c2, h1, h2, h3, h4⟩ | ⟨h1, h2⟩ | ⟨h1, h2⟩ | ⟨w, l, h1, h2, h3, h4⟩ | ⟨w, g, k, h1, h2, h3, h4, h5⟩
    · exact Or.inl ⟨q, c1, h1.ext x, CndAt.ext x n h2, h3⟩
    · exact Or.inr (Or.inl ⟨q1, q2, c1, c2, h1.ext x, CndAt.ext x n h2, CndAt.ext x n h3, h4⟩)
    · exact Or.inr (Or.inr (Or.inl ⟨q1, q2, c1, c2, h1.ext x, CndAt.ext x n h2, CndAt.ext x n h3, h4⟩))
    · exact Or.inr (Or.inr (Or.inr (Or.inl ⟨h1.ext x, h2⟩)))
    · exact Or.inr (Or.inr (Or.inr (Or.inr (Or.inl ⟨h1.ext x, h2⟩))))
    · exact Or.inr (Or.inr (Or.inr (Or.inr (Or.inr (Or.inl ⟨w, l, h1, h2, h3.ext x, h4⟩)))))
    · exact Or.inr (Or.inr (Or.inr (Or.inr (Or.inr (Or.inr ⟨w, g, k, h1, h2, h3, h4.ext x, h5⟩)))))
/-- codes as the model's row holds them from a place on -/
def CdIn (f : St) (o : Nat) (c : List Cd) : Prop := ∀ i x, c[i]? = some x → f (o + 3 * i) = Int32.ofNat x.1 ∧ f (o + 3 * i + 1) = Int32.ofNat x.2.1 ∧ f (o + 3 * i + 2) = Int32.ofNat x.2.2
def SenR (b : Nat) (S : GS) (r : Option Nat) (s : St) : Prop := (r = none ∧ s 138 = Int32.ofNat 0) ∨ ∃ q n c, r = some q ∧ n ≤ 40 ∧ CndAt b S (nL s) n q c ∧ 1 ≤ c.length ∧ c.length ≤ 45 ∧ s 138 = Int32.ofNat c.length ∧ CdIn s 139 c
def World (b : Nat) (S : GS) (a : Nat) (r : Option Nat) (s : St) (nm : Nat → Int64) (d : AD) : Prop := AtD b S a s d ∧ NmR b S d s nm ∧ SenR b S r s ∧ IvA s
theorem NmR.ext {b : Nat} {S S' : GS} {d : AD} {s : St} {nm : Nat → Int64} (h : NmR b S d s nm) (x : Ext S S') : NmR b S' d s nm := by
  refine ⟨fun l hl => ?_, fun p hp => ?_⟩
  · obtain ⟨w, h1, h2⟩ := h.1 l hl
    exact ⟨w, h1.ext x, h2⟩
  · obtain ⟨w, h1, h2⟩ := h.2 p hp
    exact ⟨w, h1.ext x, h2⟩
theorem SenR.ext {b : Nat} {S S' : GS} {r : Option Nat} {s : St} (h : SenR b S r s) (x : Ext S S') : SenR b S' r s := by
  rcases h with h | ⟨q, n, c, h1, h2, h3, h4⟩
  · exact Or.inl h
  · exact Or.inr ⟨q, n, c, h1, h2, CndAt.ext x n h3, h4⟩
theorem World.ext {b : Nat} {S S' : GS} {a : Nat} {r : Option Nat} {s : St} {nm : Nat → Int64} {d : AD} (h : World b S a r s nm d) (x : Ext S S') : World b S' a r s nm d := ⟨h.1.ext x, h.2.1.ext x, h.2.2.1.ext x, h.2.2.2⟩
theorem World.sm {b : Nat} {S : GS} {a : Nat} {r : Option Nat} {s s' : St} {nm : Nat → Int64} {d : AD} (h : World b S a r s nm d) (m : Sm s s') (i : IvA s') : World b S a r s' nm d := by
  obtain ⟨h1, h2, h3, h4⟩ := h
  have eL : nL s' = nL s := m.mp.eL
  have eP : nP s' = nP s := m.mp.eP
  refine ⟨h1.mp h4.1 m.mp, ⟨fun l hl => h2.1 l (by rw [← eL]; exact hl), fun p hp => h2.2 p (by rw [← eP]; exact hp)⟩, ?_, i⟩
  rcases h3 with ⟨e1, e2⟩ | ⟨q, n, c, e1, e2, e3, e4, e5, e6, e7⟩
  · exact Or.inl ⟨e1, (m 138 (by omega)).trans e2⟩
  · refine Or.inr ⟨q, n, c, e1, e2, by rw [eL]; exact e3, e4, e5, (m 138 (by omega)).trans e6, fun i x hx => ?_⟩
    have := e7 i x hx
    rw [m _ (by omega), m _ (by omega), m _ (by omega)]
    exact this
theorem World.cg {b : Nat} {S : GS} {a : Nat} {r : Option Nat} {s s' : St} {nm nm' : Nat → Int64} {d : AD} (h : World b S a r s nm d) (m : ∀ k, k < 319 → s' k = s k) (g : ∀ k, k < 13 → nm' k = nm k) : World b S a r s' nm' d := by
  have mp : Mp s s' := fun k hk => m k (by omega)
  obtain ⟨h1, h2, h3, h4⟩ := h
  have eL : nL s' = nL s := mp.eL
  have eP : nP s' = nP s := mp.eP
  have eR : nR s' = nR s := mp.eR
  have hl7 := h4.1.l7
  have hp6 := h4.1.p6
  refine ⟨h1.mp h4.1 mp, ⟨fun l hl => ?_, fun p hp => ?_⟩, ?_, ?_⟩
  · rw [g l (by omega)]; exact h2.1 l (by rw [← eL]; exact hl)
  · rw [g (7 + p) (by omega)]; exact h2.2 p (by rw [← eP]; exact hp)
  · rcases h3 with ⟨e1, e2⟩ | ⟨q, n, c, e1, e2, e3, e4, e5, e6, e7⟩
    · exact Or.inl ⟨e1, (m 138 (by omega)).trans e2⟩
    · refine Or.inr ⟨q, n, c, e1, e2, by rw [eL]; exact e3, e4, e5, (m 138 (by omega)).trans e6, fun i x hx => ?_⟩
      have hi : i < c.length := (List.getElem?_eq_some_iff.mp hx).1
      have := e7 i x hx
      rw [m _ (by omega), m _ (by omega), m _ (by omega)]
      exact this
  · obtain ⟨i1, i2, i3, i4, i5, i6⟩ := h4
    refine ⟨⟨?_, ?_, ?_, ?_, ?_, ?_, fun p hp => ?_⟩, i2.eq (m 91 (by omega)), i3.eq eL eP (fun l h1 h2 => ⟨m _ (by omega), m _ (by omega)⟩) (fun p h1 h2 => m _ (by omega)), i4.eq (fun i hi => m _ (by have := ix_in hi; omega)), i5.eq eR (fun l hl => m _ (by omega)) (m 93 (by omega)), i6.mp mp⟩
    · rw [m 0 (by omega), eL]; exact i1.c0
    · rw [eL]; exact i1.l7
    · rw [m 1 (by omega), eR]; exact i1.c1
    · rw [eR]; exact i1.r12
    · rw [m 2 (by omega), eP]; exact i1.c2
    · rw [eP]; exact i1.p6
    · rw [eP] at hp
      have e1 : hm s' p = hm s p := mp.eh (by omega)
      have e2 : wh s' p = wh s p := by unfold wh; rw [m _ (by omega)]
      rw [m _ (by omega), m _ (by omega), e1, e2, eL]
      exact i1.2.2.2.2.2.2 p hp
/-- what is given once and for all: constants, room -/
def sBytes (t : String) : List Nat := t.toList.map (fun c => c.toNat)
def KOk (E : gE) (b : Nat) (S : GS) : Prop := E.1 ≤ b ∧ b + 111 ≤ S.2.1 ∧ (∀ k q, gstr[k]? = some q → StrAt b S (E.2.1 k) (sBytes q.2.2)) ∧ (∃ z, E.2.2 0 = some z ∧ ∃ f, Cel b S z (.inl (2, 0, .inr (.inr (.inr (.inr f)))))) ∧ (∃ z f, E.2.2 4 = some z ∧ Cel b S z (.inl (0, 100, .inl f)) ∧ ∀ i, i < 100 → f i = Int32.ofNat (48 + i % 10)) ∧ (∃ z f, E.2.2 5 = some z ∧ Cel b S z (.inl (0, 100, .inl f)) ∧ ∀ i, i < 100 → f i = Int32.ofNat (48 + i / 10))
theorem KOk.ext {E : gE} {b : Nat} {S S' : GS} (h : KOk E b S) (x : Ext S S') : KOk E b S' := by
  obtain ⟨h1, h2, h3, ⟨z, h4, f, h5⟩, ⟨z2, f2, h6, h7, h8⟩, ⟨z3, f3, h9, h10, h11⟩⟩ := h
  exact ⟨h1, Nat.le_trans h2 x.1, fun k q hq => (h3 k q hq).ext x, ⟨z, h4, f, h5.ext x⟩, ⟨z2, f2, h6, h7.ext x, h8⟩, ⟨z3, f3, h9, h10.ext x, h11⟩⟩
def UndR (A : FA) (M : MS) (a u : Nat) : Prop := u ≤ 8 ∧ aI A 8 = Int32.ofNat u ∧ M.1 23 = Int32.ofNat u ∧ ∀ i, i < u → (aT A (bi (aC A) i)).1 = some a ∧ (∀ k, 91 ≤ k → k < 138 → tS A (bi (aC A) i) k = M.2.2.1 21 (47 * i + (k - 91))) ∧ IvA (bk (M.2.2.1 6) (M.2.2.1 21) (47 * i))
def WayR (A : FA) (M : MS) : Prop := ∃ w, w ≤ 5 ∧ aI A 11 = Int32.ofNat w ∧ (M.1 34 = Int32.ofNat w ∨ (w = 0 ∧ M.1 34 = -Int32.ofNat 1)) ∧ ∀ i, i < w → aV A 9 i = M.2.2.1 31 i
def MadR (A : FA) (M : MS) : Prop := (aI A 12 = Int32.ofNat 0 ∧ aI A 14 = -Int32.ofNat 1 ∧ M.1 35 = -Int32.ofNat 1) ∨ ∃ w, 1 ≤ w ∧ w ≤ 4 ∧ aI A 12 = Int32.ofNat w ∧ M.1 35 = Int32.ofNat w ∧ aI A 14 = M.1 36 ∧ ∀ i, i < w → aV A 10 i = M.2.2.1 32 i
def SpaR (A : FA) (M : MS) : Prop := (M.1 38 = Int32.ofNat 0 ∧ aI A 13 = -Int32.ofNat 1) ∨ (M.1 38 = Int32.ofNat 1 ∧ aI A 13 = M.1 37)
def CarR (A : FA) (M : MS) : Prop := ∃ w, w ≤ 6 ∧ aI A 18 = Int32.ofNat w ∧ (M.1 41 = Int32.ofNat w ∨ (w = 0 ∧ M.1 41 = -Int32.ofNat 1)) ∧ ∀ i, i < w → aV A 16 i = M.2.2.1 40 i
def ParR (A : FA) (M : MS) : Prop := (M.1 43 = Int32.ofNat 0 ∧ aI A 20 = -Int32.ofNat 1) ∨ (M.1 43 = Int32.ofNat 1 ∧ aI A 20 = M.1 42)
def PasR (b : Nat) (S : GS) (A : FA) (M : MS) : Prop := ∃ r w, aR A 21 = some r ∧ StrAt b S r w ∧ w.length ≤ 40 ∧ M.1 45 = Int32.ofNat w.length ∧ ∀ i c, w[i]? = some c → M.2.2.1 44 i = Int32.ofNat c
def TolR (A : FA) (M : MS) : Prop := (M.1 49 = Int32.ofNat 0 ∧ ∀ i, i < 4 → aV A 22 i = -Int32.ofNat 1) ∨ (M.1 49 = Int32.ofNat 1 ∧ ∀ i, i < 4 → aV A 22 i = M.2.2.1 48 i)
def KepR (b : Nat) (S : GS) (A : FA) (M : MS) (k : Nat) : Prop := (M.2.2.1 59 k = Int32.ofNat 0 ∧ (aK A k).1 = none) ∨ (M.2.2.1 59 k = Int32.ofNat 1 ∧ ∃ a d, (aK A k).1 = some a ∧ (aT A (10 + k)).1 = some a ∧ (∀ i, 91 ≤ i → i < 138 → tS A (10 + k) i = M.2.2.1 57 (319 * k + i)) ∧ World b S a (aK A k).2 (fun i => M.2.2.1 57 (319 * k + i)) (fun i => M.2.2.2 58 (13 * k + i)) d)
def resW : List (List Nat) := ["land", "store", "road", "treaty", "person", "crosses", "pact", "break", "close", "open", "lend", "day", "or", "and", "not", "home", "stuck", "in", "of", "free", "length", "taken", "crossed", "number"].map sBytes
def ResR (M : MS) : Prop := ∀ k w, resW[k]? = some w → M.2.2.2 10 k = enc w
/-- the rest that most calls leave as it is -/
def RstR (b : Nat) (S : GS) (A : FA) (M : MS) : Prop := WayR A M ∧ MadR A M ∧ SpaR A M ∧ CarR A M ∧ ParR A M ∧ PasR b S A M ∧ TolR A M ∧ KepR b S A M 0 ∧ KepR b S A M 1 ∧ ResR M
def TapR (A : FA) (M : MS) : Prop := aV A 0 = M.2.2.1 1 ∧ (∃ t, t ≤ 940 ∧ aI A 1 = Int32.ofNat t ∧ M.1 2 = Int32.ofNat t) ∧ aI A 2 = M.1 15
def NowR (b : Nat) (S : GS) (A : FA) (M : MS) : Prop := ∃ a d u, aR A 3 = some a ∧ (aT A 0).1 = some a ∧ tS A 0 = M.2.2.1 6 ∧ World b S a (aR A 6) (M.2.2.1 6) (M.2.2.2 9) d ∧ UndR A M a u
def Rel (E : gE) (b : Nat) (A : FA) (S : GS) (M : MS) : Prop := KOk E b S ∧ TapR A M ∧ NowR b S A M ∧ RstR b S A M
abbrev rstK : List Nat := [31, 32, 34, 35, 36, 37, 38, 40, 41, 42, 43, 44, 45, 48, 49, 57, 59]
def aRst (A A' : FA) : Prop := (∀ k, k ∈ [11, 12, 13, 14, 18, 20] → aI A' k = aI A k) ∧ (∀ k, k ∈ [9, 10, 16, 22] → aV A' k = aV A k) ∧ aR A' 21 = aR A 21 ∧ (∀ k, aK A' k = aK A k) ∧ aT A' 10 = aT A 10 ∧ aT A' 11 = aT A 11
theorem aRst.rf {A : FA} : aRst A A := ⟨fun _ _ => rfl, fun _ _ => rfl, rfl, fun _ => rfl, rfl, rfl⟩
def mRst (M M' : MS) : Prop := (∀ k, k ∈ rstK → M'.1 k = M.1 k ∧ M'.2.2.1 k = M.2.2.1 k) ∧ M'.2.2.2 58 = M.2.2.2 58 ∧ M'.2.2.2 10 = M.2.2.2 10
theorem mRst.of {ks : List Nat} {M M' : MS} (h : mSm ks M M') (hk : ∀ k, k ∈ rstK → k ∉ ks) : mRst M M' := ⟨fun k q => h.2 k (hk k q), by rw [h.1], by rw [h.1]⟩
theorem RstR.eq {b : Nat} {S S' : GS} {A A' : FA} {M M' : MS} (h : RstR b S A M) (x : Ext S S') (hA : aRst A A') (hM : mRst M M') : RstR b S' A' M' := by
  obtain ⟨h1, h2, h3, h4, h5, h6, h7, h8, h9, h10⟩ := h
  obtain ⟨a1, a2, a3, a4, a5, a6⟩ := hA
  obtain ⟨m1, m2, m3⟩ := hM
  have i : ∀ k, k ∈ rstK → M'.1 k = M.1 k := fun k hk => (m1 k hk).1
  have r : ∀ k, k ∈ rstK → M'.2.2.1 k = M.2.2.1 k := fun k hk => (m1 k hk).2
  refine ⟨?_, ?_, ?_, ?_, ?_, ?_, ?_, ?_, ?_, ?_⟩
  · unfold WayR; rw [a1 11 (by decide), a2 9 (by decide), i 34 (by decide), r 31 (by decide)]; exact h1
  · unfold MadR; rw [a1 12 (by decide), a1 14 (by decide), a2 10 (by decide), i 35 (by decide), i 36 (by decide), r 32 (by decide)]; exact h2
  · unfold SpaR; rw [a1 13 (by decide), i 38 (by decide), i 37 (by decide)]; exact h3
  · unfold CarR; rw [a1 18 (by decide), a2 16 (by decide), i 41 (by decide), r 40 (by decide)]; exact h4
  · unfold ParR; rw [a1 20 (by decide), i 43 (by decide), i 42 (by decide)]; exact h5
  · obtain ⟨q, w, p1, p2, p3, p4, p5⟩ := h6
    refine ⟨q, w, a3.trans p1, p2.ext x, p3, ?_, ?_⟩
    · rw [i 45 (by decide)]; exact p4
    · rw [r 44 (by decide)]; exact p5
  · unfold TolR; rw [a2 22 (by decide), i 49 (by decide), r 48 (by decide)]; exact h7
  · unfold KepR tS; rw [a4 0, r 59 (by decide), r 57 (by decide), m2, show 10 + 0 = 10 from rfl, a5]
    rcases h8 with q | ⟨q, a, d, q1, q2, q3, q4⟩
    · exact Or.inl q
    · exact Or.inr ⟨q, a, d, q1, q2, q3, q4.ext x⟩
  · unfold KepR tS; rw [a4 1, r 59 (by decide), r 57 (by decide), m2, show 10 + 1 = 11 from rfl, a6]
    rcases h9 with q | ⟨q, a, d, q1, q2, q3, q4⟩
    · exact Or.inl q
    · exact Or.inr ⟨q, a, d, q1, q2, q3, q4.ext x⟩
  · intro k w hk; rw [m3]; exact h10 k w hk
