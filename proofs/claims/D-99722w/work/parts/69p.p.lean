/-! reading: component and model side by side -/
/-- cells that may be written while a text is read -/
def mutE (e : GE) : Bool := match e with
  | .inr (c, _) => c == 4 || c == 16 || c == 18 || c == 1 || c == 6 || c == 24
  | .inl (k, _) => k == 2
def Fx (S S' : GS) : Prop := S.2.1 ≤ S'.2.1 ∧ ∀ a e, a < S.2.1 → S.1 a = some e → mutE e = false → S'.1 a = S.1 a
theorem Fx.rf {S : GS} : Fx S S := ⟨Nat.le_refl _, fun _ _ _ _ _ => rfl⟩
theorem Fx.tr {S S' S'' : GS} (h : Fx S S') (h' : Fx S' S'') : Fx S S'' := ⟨Nat.le_trans h.1 h'.1, fun a e ha he hm => (h'.2 a e (Nat.lt_of_lt_of_le ha h.1) ((h.2 a e ha he hm).trans he) hm).trans (h.2 a e ha he hm)⟩
theorem Ext.fx {S S' : GS} (x : Ext S S') : Fx S S' := ⟨x.1, fun a _ ha _ _ => x.2 a ha⟩
theorem Xo.fx {q : Nat} {S S' : GS} (x : Xo q S S') {e : GE} (hq : S.1 q = some e) (hm : mutE e = true) : Fx S S' := ⟨x.1, fun a e' ha he hm' => x.2 a ha (fun h => by
  subst h
  rw [hq] at he
  cases he
  rw [hm] at hm'
  cases hm')⟩
theorem Fx.cel {b : Nat} {S S' : GS} (x : Fx S S') {a : Nat} {e : GE} (c : Cel b S a e) (hm : mutE e = false) : Cel b S' a e := ⟨(x.2 a e c.2.2 c.1 hm).trans c.1, c.2.1, Nat.lt_of_lt_of_le c.2.2 x.1⟩
theorem StrAt.fx {b : Nat} {S S' : GS} {r : Nat} {w : List Nat} (h : StrAt b S r w) (x : Fx S S') : StrAt b S' r w := by
  obtain ⟨v, h1, h2, h3, f, h4, h5⟩ := h
  refine ⟨v, ?_, h2, h3, f, x.cel h4 rfl, h5⟩
  rcases h1 with ⟨p, q, h1⟩ | h1
  · exact Or.inl ⟨p, q, x.cel h1 rfl⟩
  · exact Or.inr (x.cel h1 rfl)
theorem rd_mut {ci : Nat} {fs : List Value} (hk : RdK ci) : mutE (.inr (ci, fs)) = true := by rcases hk with rfl | rfl | rfl <;> rfl
/-- a token: 0 the end of the text, 1 wrong, 2 a word, 3 a number, 4 a line's end, 6 a sign -/
abbrev Tk : Type := Nat × List Nat × Nat
def sgOk (c : Nat) : Prop := c = 40 ∨ c = 41 ∨ c = 60 ∨ c = 61 ∨ c = 62
def TkR (b : Nat) (S : GS) (kd nu sg : Int32) (wr : Nat) (M : MS) (t : Tk) : Prop :=
  (t.1 = 0 ∧ kd = Int32.ofNat 0 ∧ M.1 11 = Int32.ofNat 0) ∨
  (t.1 = 1 ∧ (kd = Int32.ofNat 1 ∨ kd = Int32.ofNat 5) ∧ M.1 11 = Int32.ofNat 4) ∨
  (t.1 = 2 ∧ kd = Int32.ofNat 2 ∧ M.1 11 = Int32.ofNat 1 ∧ Wd t.2.1 ∧ StrAt b S wr t.2.1 ∧ M.2.1 = enc t.2.1) ∨
  (t.1 = 3 ∧ kd = Int32.ofNat 3 ∧ M.1 11 = Int32.ofNat 2 ∧ t.2.2 < 1000 ∧ nu = Int32.ofNat t.2.2 ∧ M.1 14 = Int32.ofNat t.2.2) ∨
  (t.1 = 4 ∧ kd = Int32.ofNat 4 ∧ M.1 11 = Int32.ofNat 3 ∧ M.1 14 = Int32.ofNat 59) ∨
  (t.1 = 6 ∧ kd = Int32.ofNat 6 ∧ M.1 11 = Int32.ofNat 3 ∧ sgOk t.2.2 ∧ sg = Int32.ofNat t.2.2 ∧ M.1 14 = Int32.ofNat t.2.2)
def Rp (b : Nat) (A : FA) (S : GS) (M : MS) (q ci : Nat) (ex : List Value) (n lim p : Nat) : Prop := ∃ kd fr nu sg wr, Cel b S q (.inr (ci, rdV b n lim (Int32.ofNat p) kd fr nu sg wr ex)) ∧ p ≤ n ∧ n ≤ 940 ∧ lim ≤ 940 ∧ M.1 3 = Int32.ofNat n ∧ M.1 5 = Int32.ofNat lim ∧ M.1 4 = Int32.ofNat p ∧ aV A 0 = M.2.2.1 1 ∧ RdK ci
def Rd (b : Nat) (A : FA) (S : GS) (M : MS) (q ci : Nat) (ex : List Value) (n lim fr : Nat) (t : Tk) : Prop := ∃ p kd nu sg wr, Cel b S q (.inr (ci, rdV b n lim (Int32.ofNat p) kd (Int32.ofNat fr) nu sg wr ex)) ∧ p ≤ n ∧ n ≤ 940 ∧ lim ≤ 940 ∧ M.1 3 = Int32.ofNat n ∧ M.1 5 = Int32.ofNat lim ∧ M.1 4 = Int32.ofNat p ∧ aV A 0 = M.2.2.1 1 ∧ RdK ci ∧ M.1 12 = Int32.ofNat fr ∧ fr ≤ lim ∧ (t.1 = 0 ∨ t.1 = 1 ∨ (fr < p ∧ (n ≤ lim ∨ fr < lim))) ∧ TkR b S kd nu sg wr M t
theorem TkR.fx {b : Nat} {S S' : GS} {kd nu sg : Int32} {wr : Nat} {M : MS} {t : Tk} (h : TkR b S kd nu sg wr M t) (x : Fx S S') : TkR b S' kd nu sg wr M t := by
  rcases h with h | h | ⟨h1, h2, h3, h4, h5, h6⟩ | h | h | h
  · exact Or.inl h
  · exact Or.inr (Or.inl h)
  · exact Or.inr (Or.inr (Or.inl ⟨h1, h2, h3, h4, h5.fx x, h6⟩))
  · exact Or.inr (Or.inr (Or.inr (Or.inl h)))
  · exact Or.inr (Or.inr (Or.inr (Or.inr (Or.inl h))))
  · exact Or.inr (Or.inr (Or.inr (Or.inr (Or.inr h))))
theorem TkR.mm {b : Nat} {S : GS} {kd nu sg : Int32} {wr : Nat} {M M' : MS} {t : Tk} (h : TkR b S kd nu sg wr M t) (h11 : M'.1 11 = M.1 11) (h14 : M'.1 14 = M.1 14) (hw : M'.2.1 = M.2.1) : TkR b S kd nu sg wr M' t := by
  unfold TkR; rw [h11, h14, hw]; exact h
/-- the reader's own cell stays, other cells may change -/
theorem Rd.fx {b : Nat} {A : FA} {S S' : GS} {M : MS} {q ci : Nat} {ex : List Value} {n lim fr : Nat} {t : Tk} (h : Rd b A S M q ci ex n lim fr t) (x : Fx S S') (hq : S'.1 q = S.1 q) : Rd b A S' M q ci ex n lim fr t := by
  obtain ⟨p, kd, nu, sg, wr, c, h1, h2, h3, h4, h5, h6, h7, h8, h9, h10, h11, h12⟩ := h
  exact ⟨p, kd, nu, sg, wr, ⟨hq.trans c.1, c.2.1, Nat.lt_of_lt_of_le c.2.2 x.1⟩, h1, h2, h3, h4, h5, h6, h7, h8, h9, h10, h11, h12.fx x⟩
theorem Rd.lt {b : Nat} {A : FA} {S : GS} {M : MS} {q ci : Nat} {ex : List Value} {n lim fr : Nat} {t : Tk} (h : Rd b A S M q ci ex n lim fr t) : q < S.2.1 := by
  obtain ⟨p, kd, nu, sg, wr, c, h1, h2, h3, h4, h5, h6, h7, h8, h9, h10, h11, h12⟩ := h
  exact c.2.2
theorem Rd.ext {b : Nat} {A : FA} {S S' : GS} {M : MS} {q ci : Nat} {ex : List Value} {n lim fr : Nat} {t : Tk} (h : Rd b A S M q ci ex n lim fr t) (x : Ext S S') : Rd b A S' M q ci ex n lim fr t := h.fx x.fx (x.2 q h.lt)
theorem Rd.mm {b : Nat} {A : FA} {S : GS} {M M' : MS} {q ci : Nat} {ex : List Value} {n lim fr : Nat} {t : Tk} (h : Rd b A S M q ci ex n lim fr t) (hi : ∀ k, k ∈ [3, 4, 5, 11, 12, 14] → M'.1 k = M.1 k) (h1 : M'.2.2.1 1 = M.2.2.1 1) (hw : M'.2.1 = M.2.1) : Rd b A S M' q ci ex n lim fr t := by
  obtain ⟨p, kd, nu, sg, wr, c, g1, g2, g3, g4, g5, g6, g7, g8, g9, g10, g11, g12⟩ := h
  refine ⟨p, kd, nu, sg, wr, c, g1, g2, g3, (hi 3 (by decide)).trans g4, (hi 5 (by decide)).trans g5, (hi 4 (by decide)).trans g6, g7.trans h1.symm, g8, (hi 12 (by decide)).trans g9, g10, g11, g12.mm (hi 11 (by decide)) (hi 14 (by decide)) hw⟩
/-- other fields of the reader -/
theorem Rd.ex {b : Nat} {A : FA} {S S' : GS} {M : MS} {q ci : Nat} {ex ex' : List Value} {n lim fr : Nat} {t : Tk} (h : Rd b A S M q ci ex n lim fr t) {kk : Nat} {v : Value} (hS : ∀ fs, S.1 q = some (.inr (ci, fs)) → S' = gup S q (.inr (ci, fs.set kk v))) (hk : 9 ≤ kk) (he : ex.set (kk - 9) v = ex') : Rd b A S' M q ci ex' n lim fr t := by
  obtain ⟨p, kd, nu, sg, wr, c, h1, h2, h3, h4, h5, h6, h7, h8, h9, h10, h11, h12⟩ := h
  have e := hS _ c.1
  obtain ⟨k, rfl⟩ : ∃ k, kk = k + 9 := ⟨kk - 9, by omega⟩
  rw [Nat.add_sub_cancel] at he
  have e2 : (rdV b n lim (Int32.ofNat p) kd (Int32.ofNat fr) nu sg wr ex).set (k + 9) v = rdV b n lim (Int32.ofNat p) kd (Int32.ofNat fr) nu sg wr ex' := by rw [← he]; rfl
  rw [e2] at e
  have x : Xo q S S' := by rw [e]; exact Xo.up _
  refine ⟨p, kd, nu, sg, wr, by rw [e]; exact c.up _, h1, h2, h3, h4, h5, h6, h7, h8, h9, h10, h11, h12.fx (x.fx c.1 (rd_mut h8))⟩
section RE
variable {E : gE} {N b : Nat} {A : FA} {S : GS} {M : MS} {q ci n lim p : Nat} {ex : List Value}
theorem j_go (hE : E.1 ≤ b) (hq : b ≤ q) (hb : b + 111 ≤ S.2.1) (hN : 1000 ≤ N) (h : Rp b A S M q ci ex n lim p) : ∃ S' M' fr t, fX6_go E N (put b A S) q = some (Int32.ofNat 0, put b A S') ∧ fX5_next N M = some (Int32.ofNat 0, M') ∧ Rd b A S' M' q ci ex n lim fr t ∧ (p ≤ fr ∨ (lim < n ∧ fr = lim)) ∧ Xo q S S' ∧ Fx S S' ∧ mSm [4, 11, 12, 13, 14] M M' ∧ S'.2.2.1 ≤ S.2.2.1 + 4 ∧ S'.2.2.2 ≤ S.2.2.2 + 40 := by
  obtain ⟨kd, fr, nu, sg, wr, c, h1, h2, h3, h4, h5, h6, h7, hk⟩ := h
  have hEq : E.1 ≤ q := by omega
  obtain ⟨p1, e1⟩ : ∃ p1, p1 = skp (Bt (aV A 0)) (n - p) p := ⟨_, rfl⟩
  have e1m : p1 = skp (Bt (M.2.2.1 1)) (n - p) p := by rw [← h7]; exact e1
  have sp := skp_p (Bt (aV A 0)) (n - p) p
  rw [← e1] at sp
  have fxu : ∀ e, Fx S (gup S q e) := fun e => (Xo.up e).fx c.1 (rd_mut hk)
  have base : ∀ M', mSm [4, 11, 12, 13, 14] M M' → M'.1 3 = Int32.ofNat n ∧ M'.1 5 = Int32.ofNat lim ∧ aV A 0 = M'.2.2.1 1 := fun M' s => ⟨(s.2 3 (by decide)).1.trans h4, (s.2 5 (by decide)).1.trans h5, h7.trans (s.2 1 (by decide)).2.symm⟩
  by_cases hm : lim < n ∧ lim ≤ p1
  · have cg := c_go1 (E := E) (N := N) (A := A) hk hEq h2 hN h3 c h1 e1 hm
    obtain ⟨M', s, m4, m11, m12, mg⟩ := m_nx1 (N := N) h2 hN h3 h4 h6 h5 h1 e1m hm
    obtain ⟨b3, b5, b7⟩ := base M' s
    exact ⟨_, M', lim, (1, [], 0), cg, mg, ⟨p1, _, _, _, _, c.up _, by omega, h2, h3, b3, b5, m4, b7, hk, m12, Nat.le_refl _, Or.inr (Or.inl rfl), Or.inr (Or.inl ⟨rfl, Or.inr rfl, m11⟩)⟩, Or.inr ⟨hm.1, rfl⟩, Xo.up _, fxu _, s, Nat.le_add_right _ _, Nat.le_add_right _ _⟩
  · by_cases hs : n ≤ p1
    · have cg := c_go0 (E := E) (N := N) (A := A) hk hEq h2 hN h3 c h1 e1 hm hs
      obtain ⟨M', s, m4, m11, m12, mg⟩ := m_nx0 (N := N) h2 hN h3 h4 h6 h5 h1 e1m hm hs
      obtain ⟨b3, b5, b7⟩ := base M' s
      exact ⟨_, M', p1, (0, [], 0), cg, mg, ⟨p1, _, _, _, _, c.up _, by omega, h2, h3, b3, b5, m4, b7, hk, m12, by omega, Or.inl rfl, Or.inl ⟨rfl, rfl, m11⟩⟩, Or.inl sp.1, Xo.up _, fxu _, s, Nat.le_add_right _ _, Nat.le_add_right _ _⟩
    · have hs' : p1 < n := by omega
      obtain ⟨ch, hc⟩ : ∃ ch, ch = Bt (aV A 0) p1 := ⟨_, rfl⟩
      have hcm : ch = Bt (M.2.2.1 1) p1 := by rw [← h7]; exact hc
      have pr : p1 < p1 + 1 ∧ (n ≤ lim ∨ p1 < lim) := ⟨by omega, by omega⟩
      by_cases ha : isl ch = true ∨ isd ch = true
      · obtain ⟨z, hz⟩ : ∃ z, z = rnS (Bt (aV A 0)) (isl ch) (n - p1) (p1, 0, true, [], 0) := ⟨_, rfl⟩
        have hzm : z = rnS (Bt (M.2.2.1 1)) (isl ch) (n - p1) (p1, 0, true, [], 0) := by rw [← h7]; exact hz
        obtain ⟨S', wr', cg, cc, st, wl, x, k1, k2⟩ := c_goR (E := E) (N := N) (A := A) hk hE hEq hb h2 hN h3 c h1 e1 hm hs' hc ha hz
        obtain ⟨M', s, m4, m11, m12, m14, mw, mg⟩ := m_nxR (N := N) h2 hN h3 h4 h6 h5 h1 e1m hm hs' hcm ha hzm
        obtain ⟨b3, b5, b7⟩ := base M' s
        have rp0 : rnP (isl ch) (p1, 0, true, [], 0) := ⟨rfl, fun _ x hx => (by cases hx), fun x hx => (by cases hx), fun _ _ => (show 0 < 10 ^ min 0 3 by decide)⟩
        -- one letter at least
        have hz1 : (∃ k, n - p1 = k + 1) := ⟨n - p1 - 1, by omega⟩
        obtain ⟨k, ek⟩ := hz1
        have z1 : z = rnS (Bt (aV A 0)) (isl ch) k (rn1 (isl ch) ch (p1, 0, true, [], 0)) := by
          rw [hz, ek]
          show (if isl (Bt (aV A 0) p1) = true ∨ isd (Bt (aV A 0) p1) = true then _ else _) = _
          rw [← hc, if_pos ha]
        obtain ⟨zp, zj, zl, zr⟩ := rnS_p (B := Bt (aV A 0)) k _ (rn1_p rp0 ha)
        rw [← z1] at zp zj zl zr
        have zj' : z.2.1 + (p1 + 1) = 1 + z.1 := zj
        have zl' : p1 + 1 ≤ z.1 := zl
        have zr' : z.1 ≤ p1 + 1 + k := zr
        have pz : p1 < z.1 ∧ (n ≤ lim ∨ p1 < lim) := ⟨by omega, pr.2⟩
        have mk : ∀ t : Tk, TkR b S' (Int32.ofNat (kdC (isl ch) z.2.2.1 z.2.1)) (Int32.ofNat z.2.2.2.2) sg wr' M' t → ∃ S' M' fr t, fX6_go E N (put b A S) q = some (Int32.ofNat 0, put b A S') ∧ fX5_next N M = some (Int32.ofNat 0, M') ∧ Rd b A S' M' q ci ex n lim fr t ∧ (p ≤ fr ∨ (lim < n ∧ fr = lim)) ∧ Xo q S S' ∧ Fx S S' ∧ mSm [4, 11, 12, 13, 14] M M' ∧ S'.2.2.1 ≤ S.2.2.1 + 4 ∧ S'.2.2.2 ≤ S.2.2.2 + 40 := fun t ht => ⟨S', M', p1, t, cg, mg, ⟨z.1, _, _, _, _, cc, by omega, h2, h3, b3, b5, m4, b7, hk, m12, by omega, Or.inr (Or.inr pz), ht⟩, Or.inl sp.1, x, x.fx c.1 (rd_mut hk), s, k1, k2⟩
        by_cases g : z.2.2.1 = true ∧ z.2.1 ≤ (if isl ch = true then 7 else 3)
        · have kc : kdC (isl ch) z.2.2.1 z.2.1 = if isl ch = true then 2 else 3 := if_pos g
          have km : kdM (isl ch) z.2.2.1 z.2.1 = if isl ch = true then 1 else 2 := if_pos g
          rw [km] at m11
          cases el : isl ch with
          | true =>
            rw [el, if_pos rfl] at kc m11
            rw [el] at zp
            have g2 := g.2
            rw [el, if_pos rfl] at g2
            have zl7 : z.2.2.2.1.length = z.2.1 := by rw [zp.1]; omega
            refine mk (2, z.2.2.2.1, 0) (Or.inr (Or.inr (Or.inl ⟨rfl, by rw [el, kc], m11, ⟨?_, ?_, fun x hx => ?_⟩, st, mw⟩)))
            · show 1 ≤ z.2.2.2.1.length; omega
            · show z.2.2.2.1.length ≤ 7; omega
            · exact of_decide_eq_true (zp.2.1 g.1 x hx)
          | false =>
            rw [el, if_neg (by decide)] at kc m11
            rw [el] at zp
            have g2 := g.2
            rw [el, if_neg (by decide)] at g2
            have zv := zp.2.2.2 rfl g.1
            have : z.2.2.2.2 < 1000 := Nat.lt_of_lt_of_le zv (Nat.pow_le_pow_right (by omega) (show min z.2.1 3 ≤ 3 by omega))
            exact mk (3, [], z.2.2.2.2) (Or.inr (Or.inr (Or.inr (Or.inl ⟨rfl, by rw [el, kc], m11, this, rfl, m14⟩))))
        · have kc : kdC (isl ch) z.2.2.1 z.2.1 = 1 := if_neg g
          have km : kdM (isl ch) z.2.2.1 z.2.1 = 4 := if_neg g
          rw [km] at m11
          exact mk (1, [], 0) (Or.inr (Or.inl ⟨rfl, Or.inl (by rw [kc]), m11⟩))
      · have cg := c_goS (E := E) (N := N) (A := A) hk hEq h2 hN h3 c h1 e1 hm hs' hc ha
        obtain ⟨M', s, m4, m11, m12, m14, mg⟩ := m_nxS (N := N) h2 hN h3 h4 h6 h5 h1 e1m hm hs' hcm ha
        obtain ⟨b3, b5, b7⟩ := base M' s
        have mk : ∀ t : Tk, TkR b (gup S q (.inr (ci, rdV b n lim (Int32.ofNat (p1 + 1)) (Int32.ofNat (sgk ch)) (Int32.ofNat p1) nu (Int32.ofNat ch) wr ex))) (Int32.ofNat (sgk ch)) nu (Int32.ofNat ch) wr M' t → ∃ S' M' fr t, fX6_go E N (put b A S) q = some (Int32.ofNat 0, put b A S') ∧ fX5_next N M = some (Int32.ofNat 0, M') ∧ Rd b A S' M' q ci ex n lim fr t ∧ (p ≤ fr ∨ (lim < n ∧ fr = lim)) ∧ Xo q S S' ∧ Fx S S' ∧ mSm [4, 11, 12, 13, 14] M M' ∧ S'.2.2.1 ≤ S.2.2.1 + 4 ∧ S'.2.2.2 ≤ S.2.2.2 + 40 := fun t ht => ⟨_, M', p1, t, cg, mg, ⟨p1 + 1, _, _, _, _, c.up _, by omega, h2, h3, b3, b5, m4, b7, hk, m12, by omega, Or.inr (Or.inr pr), ht⟩, Or.inl sp.1, Xo.up _, fxu _, s, Nat.le_add_right _ _, Nat.le_add_right _ _⟩
        by_cases e1 : ch = 59
        · have k1 : sgk ch = 4 := by rw [e1]; rfl
          have k2 : sgm ch = 3 := by rw [e1]; rfl
          rw [k2] at m11
          rw [e1] at m14
          exact mk (4, [], 0) (Or.inr (Or.inr (Or.inr (Or.inr (Or.inl ⟨rfl, by rw [k1], m11, m14⟩)))))
        · by_cases e2 : ch = 60 ∨ ch = 61 ∨ ch = 62 ∨ ch = 40 ∨ ch = 41
          · have k1 : sgk ch = 6 := by unfold sgk; rw [if_neg e1, if_pos e2]
            have k2 : sgm ch = 3 := by unfold sgm; rw [if_pos (by omega)]
            rw [k2] at m11
            exact mk (6, [], ch) (Or.inr (Or.inr (Or.inr (Or.inr (Or.inr ⟨rfl, by rw [k1], m11, by show ch = 40 ∨ ch = 41 ∨ ch = 60 ∨ ch = 61 ∨ ch = 62; omega, rfl, m14⟩)))))
          · have k1 : sgk ch = 1 := by unfold sgk; rw [if_neg e1, if_neg e2]
            have k2 : sgm ch = 4 := by unfold sgm; rw [if_neg (by omega)]
            rw [k2] at m11
            exact mk (1, [], 0) (Or.inr (Or.inl ⟨rfl, Or.inl (by rw [k1]), m11⟩))
theorem Rd.rp {fr : Nat} {t : Tk} (h : Rd b A S M q ci ex n lim fr t) : ∃ p, Rp b A S M q ci ex n lim p ∧ (t.1 = 0 ∨ t.1 = 1 ∨ (fr < p ∧ (n ≤ lim ∨ fr < lim))) := by
  obtain ⟨p, kd, nu, sg, wr, c, h1, h2, h3, h4, h5, h6, h7, h8, h9, h10, h11, h12⟩ := h
  exact ⟨p, ⟨kd, _, nu, sg, wr, c, h1, h2, h3, h4, h5, h6, h7, h8⟩, h11⟩
/-- behind a token that is no end -/
theorem j_gw {fr : Nat} {t : Tk} (hE : E.1 ≤ b) (hq : b ≤ q) (hb : b + 111 ≤ S.2.1) (hN : 1000 ≤ N) (h : Rd b A S M q ci ex n lim fr t) (ht : 2 ≤ t.1) : ∃ S' M' fr' t', fX6_go E N (put b A S) q = some (Int32.ofNat 0, put b A S') ∧ fX5_next N M = some (Int32.ofNat 0, M') ∧ Rd b A S' M' q ci ex n lim fr' t' ∧ fr + 1 ≤ fr' ∧ Xo q S S' ∧ Fx S S' ∧ mSm [4, 11, 12, 13, 14] M M' ∧ S'.2.2.1 ≤ S.2.2.1 + 4 ∧ S'.2.2.2 ≤ S.2.2.2 + 40 := by
  obtain ⟨p, hp, h11⟩ := h.rp
  obtain ⟨S', M', fr', t', g1, g2, g3, g4, g5⟩ := j_go hE hq hb hN hp
  exact ⟨S', M', fr', t', g1, g2, g3, by omega, g5⟩
end RE
