/-! maps: what has been read -/
abbrev mEx (a : Nat) : List Value := [.ref a]
def LnB (E : gE) (b : Nat) (S0 S : GS) (h : St) (w : Int32) (g : Nat → Int64) (l0 : Nat) (f0 n0 : Nat → Nat) (e0 : Nat) : Prop :=
  LsB E b S0 S l0 (nL h) f0 e0 ∧ (∀ l, l < nL h → Cel b S (f0 l) (.inr (6, [.ref (n0 l), .int (h (3 + l)), .int (h (10 + l)), .int (h (17 + l)), .int (h (72 + l)), .int (pB (bt w (Int32.ofNat l) = true))])) ∧ S0.2.1 ≤ f0 l ∧ ∃ u, StrAt b S (n0 l) u ∧ Wd u ∧ g (13 + l) = enc u) ∧ ∀ i j, i < nL h → j < nL h → f0 i = f0 j → i = j
def RoB (E : gE) (b : Nat) (S0 S : GS) (h : St) (lr : Nat) (fr : Nat → Nat) (er : Nat) : Prop :=
  LsB E b S0 S lr (nR h) fr er ∧ ∀ r, r < nR h → Cel b S (fr r) (.inr (7, [.int (h (24 + r)), .int (h (36 + r)), .int (h (48 + r)), .int (h (60 + r))]))
def PeB (E : gE) (b : Nat) (S0 S : GS) (h : St) (g : Nat → Int64) (lp : Nat) (fp np : Nat → Nat) (ep : Nat) : Prop :=
  LsB E b S0 S lp (nP h) fp ep ∧ ∀ p, p < nP h → Cel b S (fp p) (.inr (8, [.ref (np p), .int (h (79 + p)), .int (h (85 + p))])) ∧ ∃ u, StrAt b S (np p) u ∧ Wd u ∧ g (20 + p) = enc u
def VB (h : St) (w : Int32) : Prop := (h 0 = Int32.ofNat (nL h) ∧ nL h ≤ 7 ∧ h 1 = Int32.ofNat (nR h) ∧ nR h ≤ 12 ∧ h 2 = Int32.ofNat (nP h) ∧ nP h ≤ 6) ∧
  (∀ l, l < 7 → (∃ v, v ≤ 20 ∧ h (3 + l) = Int32.ofNat v) ∧ (∃ v, v ≤ 20 ∧ h (10 + l) = Int32.ofNat v) ∧ (∃ v, v ≤ 99 ∧ h (17 + l) = Int32.ofNat v) ∧ (∃ v, v < 128 ∧ h (72 + l) = Int32.ofNat v) ∧ (nL h ≤ l → h (17 + l) = Int32.ofNat 0 ∧ h (72 + l) = Int32.ofNat 0)) ∧
  (∀ r, r < nR h → ∃ x y, x < nL h ∧ y < nL h ∧ h (24 + r) = Int32.ofNat x ∧ h (36 + r) = Int32.ofNat y) ∧
  (∀ p, p < 6 → (∃ v, v ≤ 240 ∧ h (85 + p) = Int32.ofNat v) ∧ (nP h ≤ p → h (79 + p) = Int32.ofNat 0 ∧ h (85 + p) = Int32.ofNat 0) ∧ (p < nP h → ∃ x, x < nL h ∧ h (79 + p) = Int32.ofNat x)) ∧
  ∃ v, v < 2 ^ nL h ∧ w = Int32.ofNat v
abbrev Ee : Type := Nat × Nat × Nat
def MB (E : gE) (b : Nat) (S0 S : GS) (M : MS) (a : Nat) (d : AD) (e : Ee) : Prop :=
  Cel b S a (.inr (1, [.int (M.1 19), .ref d.1.1, .ref d.1.2.1, .ref d.1.2.2])) ∧ LnB E b S0 S (M.2.2.1 7) (M.1 20) (M.2.2.2 9) d.1.1 d.2.1 d.2.2.2.2.1 e.1 ∧ RoB E b S0 S (M.2.2.1 7) d.1.2.1 d.2.2.1 e.2.1 ∧ PeB E b S0 S (M.2.2.1 7) (M.2.2.2 9) d.1.2.2 d.2.2.2.1 d.2.2.2.2.2 e.2.2 ∧
  (d.1.1 ≠ d.1.2.1 ∧ d.1.1 ≠ d.1.2.2 ∧ d.1.2.1 ≠ d.1.2.2) ∧ (S0.2.1 ≤ e.1 → e.1 ≠ e.2.1 ∧ e.1 ≠ e.2.2) ∧ (S0.2.1 ≤ e.2.1 → e.2.1 ≠ e.1 ∧ e.2.1 ≠ e.2.2) ∧ (S0.2.1 ≤ e.2.2 → e.2.2 ≠ e.1 ∧ e.2.2 ≠ e.2.1) ∧ VB (M.2.2.1 7) (M.1 20)
section MA
variable {E : gE} {N b : Nat} {A : FA} {S0 S S' : GS} {M M' : MS} {h h' : St} {w w' : Int32} {g g' : Nat → Int64} {q a l e n : Nat} {f : Nat → Nat} {d : AD} {ee : Ee}
theorem LnB.ch {l0 e0 : Nat} {f0 n0 : Nat → Nat} (z : LnB E b S0 S h w g l0 f0 n0 e0) (hf : Fx S S') (k1 : ∀ c, Cel b S l0 c → Cel b S' l0 c) (k2 : ∀ c, Cel b S e0 c → Cel b S' e0 c) (k3 : ∀ a fs, Cel b S a (.inr (6, fs)) → Cel b S' a (.inr (6, fs))) (en : nL h' = nL h) (eh : ∀ l, l < nL h → h' (3 + l) = h (3 + l) ∧ h' (10 + l) = h (10 + l) ∧ h' (17 + l) = h (17 + l) ∧ h' (72 + l) = h (72 + l) ∧ g' (13 + l) = g (13 + l)) (ew : w' = w) : LnB E b S0 S' h' w' g' l0 f0 n0 e0 := by
  obtain ⟨z1, z2, z3⟩ := z
  unfold LnB
  rw [en]
  refine ⟨z1.kp k1 k2, fun l hl => ?_, z3⟩
  obtain ⟨y1, y2, u, y3, y4, y5⟩ := z2 l hl
  obtain ⟨e1, e2, e3, e4, e5⟩ := eh l hl
  refine ⟨?_, y2, u, y3.fx hf, y4, e5.trans y5⟩
  rw [e1, e2, e3, e4, ew]
  exact k3 _ _ y1
theorem RoB.ch {lr er : Nat} {fr : Nat → Nat} (z : RoB E b S0 S h lr fr er) (hf : Fx S S') (k1 : ∀ c, Cel b S lr c → Cel b S' lr c) (k2 : ∀ c, Cel b S er c → Cel b S' er c) (en : nR h' = nR h) (eh : ∀ r, r < nR h → h' (24 + r) = h (24 + r) ∧ h' (36 + r) = h (36 + r) ∧ h' (48 + r) = h (48 + r) ∧ h' (60 + r) = h (60 + r)) : RoB E b S0 S' h' lr fr er := by
  obtain ⟨z1, z2⟩ := z
  unfold RoB
  rw [en]
  refine ⟨z1.kp k1 k2, fun l hl => ?_⟩
  obtain ⟨e1, e2, e3, e4⟩ := eh l hl
  rw [e1, e2, e3, e4]
  exact hf.cel (z2 l hl) rfl
theorem PeB.ch {lp ep : Nat} {fp np : Nat → Nat} (z : PeB E b S0 S h g lp fp np ep) (hf : Fx S S') (k1 : ∀ c, Cel b S lp c → Cel b S' lp c) (k2 : ∀ c, Cel b S ep c → Cel b S' ep c) (en : nP h' = nP h) (eh : ∀ p, p < nP h → h' (79 + p) = h (79 + p) ∧ h' (85 + p) = h (85 + p) ∧ g' (20 + p) = g (20 + p)) : PeB E b S0 S' h' g' lp fp np ep := by
  obtain ⟨z1, z2⟩ := z
  unfold PeB
  rw [en]
  refine ⟨z1.kp k1 k2, fun l hl => ?_⟩
  obtain ⟨y1, u, y3, y4, y5⟩ := z2 l hl
  obtain ⟨e1, e2, e3⟩ := eh l hl
  refine ⟨?_, u, y3.fx hf, y4, e3.trans y5⟩
  rw [e1, e2]
  exact hf.cel y1 rfl
/-- cells of different kinds are different -/
theorem Cel.nc {a a' c c' : Nat} {fs fs' : List Value} (x : Cel b S a (.inr (c, fs))) (y : Cel b S a' (.inr (c', fs'))) (hc : c ≠ c') : a ≠ a' := by
  rintro rfl
  have := x.1.symm.trans y.1
  injection this with this
  injection this with this
  injection this with this _
  exact hc this
theorem Cel.na {a a' c k cap : Nat} {fs : List Value} {r : (Nat → Int32) ⊕ (Nat → Int64) ⊕ (Nat → UInt32) ⊕ (Nat → UInt64) ⊕ (Nat → Option Nat)} (x : Cel b S a (.inr (c, fs))) (y : Cel b S a' (.inl (k, cap, r))) : a ≠ a' := by
  rintro rfl
  have := x.1.symm.trans y.1
  injection this with this
  cases this
theorem LsB.cl (z : LsB E b S0 S l n f e) : (∃ fs, Cel b S l (.inr (24, fs))) ∧ ∃ cap r, Cel b S e (.inl (2, cap, r)) := by
  obtain ⟨_, mc, cap, g, h1, h2, _⟩ := z
  exact ⟨⟨_, h1⟩, _, _, h2⟩
/-- a reader's step leaves what has been read -/
theorem MB.st (z : MB E b S0 S M a d ee) {fs : List Value} (cq : Cel b S q (.inr (4, fs))) (xo : Xo q S S') (hf : Fx S S') (e19 : M'.1 19 = M.1 19) (e20 : M'.1 20 = M.1 20) (e7 : M'.2.2.1 7 = M.2.2.1 7) (e9 : ∀ i, i < nL (M.2.2.1 7) → M'.2.2.2 9 (13 + i) = M.2.2.2 9 (13 + i)) (e9' : ∀ i, i < nP (M.2.2.1 7) → M'.2.2.2 9 (20 + i) = M.2.2.2 9 (20 + i)) : MB E b S0 S' M' a d ee := by
  obtain ⟨z1, z2, z3, z4, z5, z6, z7, z8, z9⟩ := z
  obtain ⟨⟨_, c0⟩, _, _, d0⟩ := z2.1.cl
  obtain ⟨⟨_, c1⟩, _, _, d1⟩ := z3.1.cl
  obtain ⟨⟨_, c2⟩, _, _, d2⟩ := z4.1.cl
  refine ⟨?_, ?_, ?_, ?_, z5, z6, z7, z8, by rw [e7, e20]; exact z9⟩
  · rw [e19]; exact xo.cel z1 (z1.nc cq (by omega))
  · refine z2.ch hf (fun c y => xo.cel y (c0.nc cq (by omega))) (fun c y => xo.cel y (Ne.symm (cq.na d0))) (fun a' fs' y => xo.cel y (y.nc cq (by omega))) (by rw [e7]) (fun l hl => ?_) e20
    rw [e7]
    exact ⟨rfl, rfl, rfl, rfl, e9 l hl⟩
  · refine z3.ch hf (fun c y => xo.cel y (c1.nc cq (by omega))) (fun c y => xo.cel y (Ne.symm (cq.na d1))) (by rw [e7]) (fun l hl => ?_)
    rw [e7]
    exact ⟨rfl, rfl, rfl, rfl⟩
  · refine z4.ch hf (fun c y => xo.cel y (c2.nc cq (by omega))) (fun c y => xo.cel y (Ne.symm (cq.na d2))) (by rw [e7]) (fun l hl => ?_)
    rw [e7]
    exact ⟨rfl, rfl, e9' l hl⟩
theorem MB.sx (z : MB E b S0 S M a d ee) {fs : List Value} (cq : Cel b S q (.inr (4, fs))) (xo : Xo q S S') (hf : Fx S S') : MB E b S0 S' M a d ee := z.st cq xo hf rfl rfl rfl (fun _ _ => rfl) (fun _ _ => rfl)
theorem MB.ex (z : MB E b S0 S M a d ee) {fs : List Value} (cq : Cel b S q (.inr (4, fs))) (x : Ext S S') : MB E b S0 S' M a d ee := z.sx cq x.xo x.fx
theorem MB.nml (z : MB E b S0 S M a d ee) (e9 : ∀ i, i < nL (M.2.2.1 7) → M'.2.2.2 9 (13 + i) = M.2.2.2 9 (13 + i)) : NmL b S M' d.1.1 (nL (M.2.2.1 7)) 13 d.2.1 := by
  obtain ⟨z1, z2, z3, z4, z5, z6, z7, z8, z9⟩ := z
  have h7 := z9.1.2.1
  refine ⟨z2.1.at, h7, by omega, fun k hk => ?_⟩
  obtain ⟨y1, y2, u, y3, y4, y5⟩ := z2.2.1 k hk
  exact ⟨_, u, 6, _, Or.inl rfl, y1, y3, y4, (e9 k hk).trans y5⟩
theorem MB.nmp (z : MB E b S0 S M a d ee) (e9 : ∀ i, i < nP (M.2.2.1 7) → M'.2.2.2 9 (20 + i) = M.2.2.2 9 (20 + i)) : NmL b S M' d.1.2.2 (nP (M.2.2.1 7)) 20 d.2.2.2.1 := by
  obtain ⟨z1, z2, z3, z4, z5, z6, z7, z8, z9⟩ := z
  have h7 := z9.1.2.2.2.2.2
  refine ⟨z4.1.at, by omega, by omega, fun k hk => ?_⟩
  obtain ⟨y1, u, y3, y4, y5⟩ := z4.2 k hk
  exact ⟨_, u, 8, _, Or.inr rfl, y1, y3, y4, (e9 k hk).trans y5⟩
theorem MB.at (z : MB E b S0 S M a d ee) : AtD b S a (M.2.2.1 7) d := by
  obtain ⟨z1, z2, z3, z4, z5, z6, z7, z8, z9⟩ := z
  exact ⟨⟨_, z1⟩, z2.1.at, z3.1.at, z4.1.at, fun l hl => ⟨_, (z2.2.1 l hl).1⟩, z3.2, fun p hp => (z4.2 p hp).1⟩
/-- a list grows; the rest stays -/
theorem l_adx (hE : E.1 ≤ b) (hb0 : b + 111 ≤ S0.2.1) (z : LsB E b S0 S l n f e) (x0 : Ext S0 S) (hn : n ≤ 45) {v ci : Nat} {fs : List Value} (hv : Cel b S v (.inr (ci, fs))) (hci : ci ≠ 24) (hob : ∀ i, i < n → ∃ ci fs, Cel b S (f i) (.inr (ci, fs)) ∧ ci ≠ 24) : ∃ S' e', vjava_util_ArrayList_add__Ljava_lang_Object__Z E N (put b A S) (some l) (some v) = some (Int32.ofNat 1, put b A S') ∧ LsB E b S0 S' l (n + 1) (fun i => if i = n then v else f i) e' ∧ Fx S S' ∧ Ext S0 S' ∧ ((e' = e ∧ S0.2.1 ≤ e) ∨ e' = S.2.1) ∧ (∀ a c, Cel b S a c → a ≠ l → a ≠ e' → Cel b S' a c) ∧ (∀ a ci fs, Cel b S a (.inr (ci, fs)) → a ≠ l → Cel b S' a (.inr (ci, fs))) ∧ S'.2.2.1 ≤ S.2.2.1 + 1 ∧ S'.2.2.2 ≤ S.2.2.2 + 70 := by
  obtain ⟨⟨lfs, lc⟩, cap, r, ec⟩ := z.cl
  have lge := z.1
  obtain ⟨S2, e', ad, ls2, he', z1, z2, z3, z4⟩ := l_add (E := E) (N := N) (A := A) hE hb0 z x0.1 hn hv (hv.nc lc hci) (fun i hi => by
    obtain ⟨ci', fs', c', n'⟩ := hob i hi
    exact ⟨ci', fs', c', c'.nc lc n'⟩)
  have kp : ∀ a c, Cel b S a c → a ≠ l → a ≠ e' → Cel b S2 a c := fun a c y n1 n2 => ⟨(z2 a y.2.2 n1 n2).trans y.1, y.2.1, Nat.lt_of_lt_of_le y.2.2 z1⟩
  refine ⟨S2, e', ad, ls2, ⟨z1, fun a' e0 ha' he0 hm => z2 a' ha' ?_ ?_⟩, ⟨Nat.le_trans x0.1 z1, fun a' ha' => ?_⟩, he', kp, fun a' ci' fs' y n1 => kp _ _ y n1 ?_, z3, z4⟩
  · intro q'
    rw [q', lc.1] at he0
    injection he0 with he0
    rw [← he0] at hm
    cases hm
  · intro q'
    rcases he' with ⟨he', _⟩ | he'
    · rw [q', he', ec.1] at he0
      injection he0 with he0
      rw [← he0] at hm
      cases hm
    · omega
  · rw [z2 a' (Nat.lt_of_lt_of_le ha' x0.1) (by omega) ?_]
    · exact x0.2 a' ha'
    · have := x0.1
      rcases he' with ⟨he', _⟩ | he' <;> omega
  · rcases he' with ⟨he', _⟩ | he'
    · rw [he']; exact y.na ec
    · have := y.2.2; omega
end MA
