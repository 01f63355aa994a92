/-! the component's cells that stay; lists; the atlas -/
def Cel (b : Nat) (S : GS) (q : Nat) (e : GE) : Prop := S.1 q = some e ∧ nM b q ∧ q < S.2.1
theorem Cel.at {b : Nat} {S : GS} {q : Nat} {e : GE} (h : Cel b S q e) (A : FA) : (put b A S).1 q = some e := by rw [put_o h.2.1]; exact h.1
/-- more cells, the old ones as they were -/
def Ext (S S' : GS) : Prop := S.2.1 ≤ S'.2.1 ∧ ∀ q, q < S.2.1 → S'.1 q = S.1 q
theorem Ext.rf {S : GS} : Ext S S := ⟨Nat.le_refl _, fun _ _ => rfl⟩
theorem Ext.tr {S S' S'' : GS} (h : Ext S S') (h' : Ext S' S'') : Ext S S'' := ⟨Nat.le_trans h.1 h'.1, fun q hq => (h'.2 q (Nat.lt_of_lt_of_le hq h.1)).trans (h.2 q hq)⟩
theorem Cel.ext {b : Nat} {S S' : GS} {q : Nat} {e : GE} (h : Cel b S q e) (x : Ext S S') : Cel b S' q e := ⟨(x.2 q h.2.2).trans h.1, h.2.1, Nat.lt_of_lt_of_le h.2.2 x.1⟩
theorem gpush_2 (S : GS) (e : GE) (n : Nat) : (gpush S e n).2 = (S.2.1 + 1, S.2.2.1 + 1, S.2.2.2 + n) := rfl
theorem Ext.push (S : GS) (e : GE) (n : Nat) : Ext S (gpush S e n) := by
  refine ⟨Nat.le_succ _, fun q hq => ?_⟩
  show va_up S.1 S.2.1 (some e) q = S.1 q
  unfold va_up
  rw [if_neg (by omega)]
theorem nM_ge {b q : Nat} (h : b + 111 ≤ q) : nM b q := by unfold nM; omega
theorem Cel.push {b : Nat} {S : GS} (h : b + 111 ≤ S.2.1) (e : GE) (n : Nat) : Cel b (gpush S e n) S.2.1 e := by
  refine ⟨?_, nM_ge h, Nat.lt_succ_self _⟩
  show va_up S.1 S.2.1 (some e) S.2.1 = some e
  unfold va_up
  rw [if_pos rfl]
theorem gpush_put {b : Nat} {A : FA} {S : GS} {e : GE} {n : Nat} (h : b + 111 ≤ S.2.1) : gpush (put b A S) e n = put b A (gpush S e n) := by
  refine Prod.ext (funext fun q => ?_) rfl
  show va_up (put b A S).1 S.2.1 (some e) q = (put b A (gpush S e n)).1 q
  by_cases hq : nM b q
  · rw [put_o hq]
    show _ = va_up S.1 S.2.1 (some e) q
    unfold va_up
    rw [put_o hq]
  · unfold va_up
    rw [if_neg (show ¬ q = S.2.1 from fun e => hq (e ▸ nM_ge h))]
    show (if _ then _ else _) = (if _ then _ else _)
    have hm : b ≤ q ∧ (q - b < 111 ∧ (q - b < 2 ∨ 6 ≤ q - b)) := Classical.not_not.mp hq
    rw [if_pos hm, if_pos hm]
theorem gup_o {b : Nat} {A : FA} {S : GS} {q : Nat} {e : GE} (h : nM b q) : gup (put b A S) q e = put b A (gup S q e) := by
  refine Prod.ext (funext fun x => ?_) rfl
  show va_up (put b A S).1 q (some e) x = (put b A (gup S q e)).1 x
  by_cases hx : nM b x
  · rw [put_o hx]
    show _ = va_up S.1 q (some e) x
    unfold va_up
    rw [put_o hx]
  · unfold va_up
    rw [if_neg (show ¬ x = q from fun e => hx (e ▸ h))]
    show (if _ then _ else _) = (if _ then _ else _)
    have hm : b ≤ x ∧ (x - b < 111 ∧ (x - b < 2 ∨ 6 ≤ x - b)) := Classical.not_not.mp hx
    rw [if_pos hm, if_pos hm]
theorem gup_2 (S : GS) (q : Nat) (e : GE) : (gup S q e).2 = S.2 := rfl
theorem Cel.up {b : Nat} {S : GS} {q : Nat} {e : GE} (h : Cel b S q e) (e' : GE) : Cel b (gup S q e') q e' := ⟨by show va_up S.1 q (some e') q = _; unfold va_up; rw [if_pos rfl], h.2⟩
theorem Cel.uo {b : Nat} {S : GS} {q q' : Nat} {e : GE} (h : Cel b S q e) (hq : q ≠ q') (e' : GE) : Cel b (gup S q' e') q e := ⟨by show va_up S.1 q' (some e') q = _; unfold va_up; rw [if_neg hq]; exact h.1, h.2⟩
theorem kc {β : Type} {b : Nat} {S : GS} {q ci : Nat} {fs : List Value} (h : Cel b S q (.inr (ci, fs))) (A : FA) (K : Nat → Nat → Option β) : gvd (put b A S) (some q) K = K q ci := gvd_at (h.at A) K
theorem kcc {β : Type} {b : Nat} {S : GS} {q ci : Nat} {fs : List Value} (h : Cel b S q (.inr (ci, fs))) (A : FA) (K : Option β) : gcc (put b A S) (some q) [ci] K = K := gcc_at (h.at A) (List.mem_singleton.mpr rfl) K
theorem aT_sS (A : FA) (j : Nat) (s : Nat → Int32) : aT (sS A j s) j = ((aT A j).1, (aT A j).2.1, s) := if_pos rfl
theorem aT_sT (A : FA) (j : Nat) (x : FT) : aT (sT A j x) j = x := if_pos rfl
theorem aT_sTo (A : FA) {j i : Nat} (x : FT) (h : i ≠ j) : aT (sT A j x) i = aT A i := if_neg h
theorem aT_sSo (A : FA) {j i : Nat} (s : Nat → Int32) (h : i ≠ j) : aT (sS A j s) i = aT A i := aT_sTo A _ h
theorem sT_sT (A : FA) (j : Nat) (x y : FT) : sT (sT A j x) j y = sT A j y := by
  unfold sT
  refine Prod.ext (funext fun i => ?_) rfl
  simp only [va_up]
  split <;> rfl
theorem sS_sS (A : FA) (j : Nat) (s s' : Nat → Int32) : sS (sS A j s) j s' = sS A j s' := by
  unfold sS
  rw [sT_sT, aT_sT]
theorem sS_id (A : FA) (j : Nat) : sS A j (aT A j).2.2 = A := by
  unfold sS sT
  refine Prod.ext (funext fun i => ?_) rfl
  simp only [va_up]
  split
  · rename_i h; subst h; rfl
  · rfl
/-! printed by pure/gfl.py: an object's fields, read and written, by its cell -/
section FL
variable {β : Type} {E : gE} {b : Nat} {S : GS} {q : Nat}
theorem r1_24 {x1 x2 x3 : Value} {v : Int32} (h : Cel b S q (.inr (1, [.int v, x1, x2, x3]))) (A : FA) (K : Int32 → Option β) : ggi (put b A S) (some q) 24 K = K v := ggi_at (h.at A) rfl rfl K
theorem w1_24 {x0 x1 x2 x3 : Value} (h : Cel b S q (.inr (1, [x0, x1, x2, x3]))) (hE : E.1 ≤ q) (A : FA) (v : Value) (K : GS → Option β) : gpv E (put b A S) (some q) 24 v K = K (put b A (gup S q (.inr (1, [v, x1, x2, x3])))) := by rw [gpv_at (h.at A) rfl (by simp) hE, gup_o h.2.1]; rfl
theorem r1_25 {x0 x2 x3 : Value} {v : Nat} (h : Cel b S q (.inr (1, [x0, .ref v, x2, x3]))) (A : FA) (K : Option Nat → Option β) : ggr (put b A S) (some q) 25 K = K (some v) := ggr_as (h.at A) rfl rfl K
theorem n1_25 {x0 x2 x3 : Value} {v : Option Nat} (h : Cel b S q (.inr (1, [x0, va_rf v, x2, x3]))) (A : FA) (K : Option Nat → Option β) : ggr (put b A S) (some q) 25 K = K v := ggr_at (h.at A) rfl rfl K
theorem w1_25 {x0 x1 x2 x3 : Value} (h : Cel b S q (.inr (1, [x0, x1, x2, x3]))) (hE : E.1 ≤ q) (A : FA) (v : Value) (K : GS → Option β) : gpv E (put b A S) (some q) 25 v K = K (put b A (gup S q (.inr (1, [x0, v, x2, x3])))) := by rw [gpv_at (h.at A) rfl (by simp) hE, gup_o h.2.1]; rfl
theorem r1_26 {x0 x1 x3 : Value} {v : Nat} (h : Cel b S q (.inr (1, [x0, x1, .ref v, x3]))) (A : FA) (K : Option Nat → Option β) : ggr (put b A S) (some q) 26 K = K (some v) := ggr_as (h.at A) rfl rfl K
theorem n1_26 {x0 x1 x3 : Value} {v : Option Nat} (h : Cel b S q (.inr (1, [x0, x1, va_rf v, x3]))) (A : FA) (K : Option Nat → Option β) : ggr (put b A S) (some q) 26 K = K v := ggr_at (h.at A) rfl rfl K
theorem w1_26 {x0 x1 x2 x3 : Value} (h : Cel b S q (.inr (1, [x0, x1, x2, x3]))) (hE : E.1 ≤ q) (A : FA) (v : Value) (K : GS → Option β) : gpv E (put b A S) (some q) 26 v K = K (put b A (gup S q (.inr (1, [x0, x1, v, x3])))) := by rw [gpv_at (h.at A) rfl (by simp) hE, gup_o h.2.1]; rfl
theorem r1_27 {x0 x1 x2 : Value} {v : Nat} (h : Cel b S q (.inr (1, [x0, x1, x2, .ref v]))) (A : FA) (K : Option Nat → Option β) : ggr (put b A S) (some q) 27 K = K (some v) := ggr_as (h.at A) rfl rfl K
theorem n1_27 {x0 x1 x2 : Value} {v : Option Nat} (h : Cel b S q (.inr (1, [x0, x1, x2, va_rf v]))) (A : FA) (K : Option Nat → Option β) : ggr (put b A S) (some q) 27 K = K v := ggr_at (h.at A) rfl rfl K
theorem w1_27 {x0 x1 x2 x3 : Value} (h : Cel b S q (.inr (1, [x0, x1, x2, x3]))) (hE : E.1 ≤ q) (A : FA) (v : Value) (K : GS → Option β) : gpv E (put b A S) (some q) 27 v K = K (put b A (gup S q (.inr (1, [x0, x1, x2, v])))) := by rw [gpv_at (h.at A) rfl (by simp) hE, gup_o h.2.1]; rfl
theorem r4_43 {x1 x2 x3 x4 x5 x6 x7 x8 x9 : Value} {v : Nat} (h : Cel b S q (.inr (4, [.ref v, x1, x2, x3, x4, x5, x6, x7, x8, x9]))) (A : FA) (K : Option Nat → Option β) : ggr (put b A S) (some q) 43 K = K (some v) := ggr_as (h.at A) rfl rfl K
theorem n4_43 {x1 x2 x3 x4 x5 x6 x7 x8 x9 : Value} {v : Option Nat} (h : Cel b S q (.inr (4, [va_rf v, x1, x2, x3, x4, x5, x6, x7, x8, x9]))) (A : FA) (K : Option Nat → Option β) : ggr (put b A S) (some q) 43 K = K v := ggr_at (h.at A) rfl rfl K
theorem w4_43 {x0 x1 x2 x3 x4 x5 x6 x7 x8 x9 : Value} (h : Cel b S q (.inr (4, [x0, x1, x2, x3, x4, x5, x6, x7, x8, x9]))) (hE : E.1 ≤ q) (A : FA) (v : Value) (K : GS → Option β) : gpv E (put b A S) (some q) 43 v K = K (put b A (gup S q (.inr (4, [v, x1, x2, x3, x4, x5, x6, x7, x8, x9])))) := by rw [gpv_at (h.at A) rfl (by simp) hE, gup_o h.2.1]; rfl
theorem r4_44 {x0 x2 x3 x4 x5 x6 x7 x8 x9 : Value} {v : Int32} (h : Cel b S q (.inr (4, [x0, .int v, x2, x3, x4, x5, x6, x7, x8, x9]))) (A : FA) (K : Int32 → Option β) : ggi (put b A S) (some q) 44 K = K v := ggi_at (h.at A) rfl rfl K
theorem w4_44 {x0 x1 x2 x3 x4 x5 x6 x7 x8 x9 : Value} (h : Cel b S q (.inr (4, [x0, x1, x2, x3, x4, x5, x6, x7, x8, x9]))) (hE : E.1 ≤ q) (A : FA) (v : Value) (K : GS → Option β) : gpv E (put b A S) (some q) 44 v K = K (put b A (gup S q (.inr (4, [x0, v, x2, x3, x4, x5, x6, x7, x8, x9])))) := by rw [gpv_at (h.at A) rfl (by simp) hE, gup_o h.2.1]; rfl
theorem r4_45 {x0 x1 x3 x4 x5 x6 x7 x8 x9 : Value} {v : Int32} (h : Cel b S q (.inr (4, [x0, x1, .int v, x3, x4, x5, x6, x7, x8, x9]))) (A : FA) (K : Int32 → Option β) : ggi (put b A S) (some q) 45 K = K v := ggi_at (h.at A) rfl rfl K
theorem w4_45 {x0 x1 x2 x3 x4 x5 x6 x7 x8 x9 : Value} (h : Cel b S q (.inr (4, [x0, x1, x2, x3, x4, x5, x6, x7, x8, x9]))) (hE : E.1 ≤ q) (A : FA) (v : Value) (K : GS → Option β) : gpv E (put b A S) (some q) 45 v K = K (put b A (gup S q (.inr (4, [x0, x1, v, x3, x4, x5, x6, x7, x8, x9])))) := by rw [gpv_at (h.at A) rfl (by simp) hE, gup_o h.2.1]; rfl
theorem r4_46 {x0 x1 x2 x4 x5 x6 x7 x8 x9 : Value} {v : Int32} (h : Cel b S q (.inr (4, [x0, x1, x2, .int v, x4, x5, x6, x7, x8, x9]))) (A : FA) (K : Int32 → Option β) : ggi (put b A S) (some q) 46 K = K v := ggi_at (h.at A) rfl rfl K
theorem w4_46 {x0 x1 x2 x3 x4 x5 x6 x7 x8 x9 : Value} (h : Cel b S q (.inr (4, [x0, x1, x2, x3, x4, x5, x6, x7, x8, x9]))) (hE : E.1 ≤ q) (A : FA) (v : Value) (K : GS → Option β) : gpv E (put b A S) (some q) 46 v K = K (put b A (gup S q (.inr (4, [x0, x1, x2, v, x4, x5, x6, x7, x8, x9])))) := by rw [gpv_at (h.at A) rfl (by simp) hE, gup_o h.2.1]; rfl
theorem r4_47 {x0 x1 x2 x3 x5 x6 x7 x8 x9 : Value} {v : Int32} (h : Cel b S q (.inr (4, [x0, x1, x2, x3, .int v, x5, x6, x7, x8, x9]))) (A : FA) (K : Int32 → Option β) : ggi (put b A S) (some q) 47 K = K v := ggi_at (h.at A) rfl rfl K
theorem w4_47 {x0 x1 x2 x3 x4 x5 x6 x7 x8 x9 : Value} (h : Cel b S q (.inr (4, [x0, x1, x2, x3, x4, x5, x6, x7, x8, x9]))) (hE : E.1 ≤ q) (A : FA) (v : Value) (K : GS → Option β) : gpv E (put b A S) (some q) 47 v K = K (put b A (gup S q (.inr (4, [x0, x1, x2, x3, v, x5, x6, x7, x8, x9])))) := by rw [gpv_at (h.at A) rfl (by simp) hE, gup_o h.2.1]; rfl
theorem r4_48 {x0 x1 x2 x3 x4 x6 x7 x8 x9 : Value} {v : Int32} (h : Cel b S q (.inr (4, [x0, x1, x2, x3, x4, .int v, x6, x7, x8, x9]))) (A : FA) (K : Int32 → Option β) : ggi (put b A S) (some q) 48 K = K v := ggi_at (h.at A) rfl rfl K
theorem w4_48 {x0 x1 x2 x3 x4 x5 x6 x7 x8 x9 : Value} (h : Cel b S q (.inr (4, [x0, x1, x2, x3, x4, x5, x6, x7, x8, x9]))) (hE : E.1 ≤ q) (A : FA) (v : Value) (K : GS → Option β) : gpv E (put b A S) (some q) 48 v K = K (put b A (gup S q (.inr (4, [x0, x1, x2, x3, x4, v, x6, x7, x8, x9])))) := by rw [gpv_at (h.at A) rfl (by simp) hE, gup_o h.2.1]; rfl
theorem r4_49 {x0 x1 x2 x3 x4 x5 x7 x8 x9 : Value} {v : Int32} (h : Cel b S q (.inr (4, [x0, x1, x2, x3, x4, x5, .int v, x7, x8, x9]))) (A : FA) (K : Int32 → Option β) : ggi (put b A S) (some q) 49 K = K v := ggi_at (h.at A) rfl rfl K
theorem w4_49 {x0 x1 x2 x3 x4 x5 x6 x7 x8 x9 : Value} (h : Cel b S q (.inr (4, [x0, x1, x2, x3, x4, x5, x6, x7, x8, x9]))) (hE : E.1 ≤ q) (A : FA) (v : Value) (K : GS → Option β) : gpv E (put b A S) (some q) 49 v K = K (put b A (gup S q (.inr (4, [x0, x1, x2, x3, x4, x5, v, x7, x8, x9])))) := by rw [gpv_at (h.at A) rfl (by simp) hE, gup_o h.2.1]; rfl
theorem r4_50 {x0 x1 x2 x3 x4 x5 x6 x8 x9 : Value} {v : Int32} (h : Cel b S q (.inr (4, [x0, x1, x2, x3, x4, x5, x6, .int v, x8, x9]))) (A : FA) (K : Int32 → Option β) : ggi (put b A S) (some q) 50 K = K v := ggi_at (h.at A) rfl rfl K
theorem w4_50 {x0 x1 x2 x3 x4 x5 x6 x7 x8 x9 : Value} (h : Cel b S q (.inr (4, [x0, x1, x2, x3, x4, x5, x6, x7, x8, x9]))) (hE : E.1 ≤ q) (A : FA) (v : Value) (K : GS → Option β) : gpv E (put b A S) (some q) 50 v K = K (put b A (gup S q (.inr (4, [x0, x1, x2, x3, x4, x5, x6, v, x8, x9])))) := by rw [gpv_at (h.at A) rfl (by simp) hE, gup_o h.2.1]; rfl
theorem r4_51 {x0 x1 x2 x3 x4 x5 x6 x7 x9 : Value} {v : Nat} (h : Cel b S q (.inr (4, [x0, x1, x2, x3, x4, x5, x6, x7, .ref v, x9]))) (A : FA) (K : Option Nat → Option β) : ggr (put b A S) (some q) 51 K = K (some v) := ggr_as (h.at A) rfl rfl K
theorem n4_51 {x0 x1 x2 x3 x4 x5 x6 x7 x9 : Value} {v : Option Nat} (h : Cel b S q (.inr (4, [x0, x1, x2, x3, x4, x5, x6, x7, va_rf v, x9]))) (A : FA) (K : Option Nat → Option β) : ggr (put b A S) (some q) 51 K = K v := ggr_at (h.at A) rfl rfl K
theorem w4_51 {x0 x1 x2 x3 x4 x5 x6 x7 x8 x9 : Value} (h : Cel b S q (.inr (4, [x0, x1, x2, x3, x4, x5, x6, x7, x8, x9]))) (hE : E.1 ≤ q) (A : FA) (v : Value) (K : GS → Option β) : gpv E (put b A S) (some q) 51 v K = K (put b A (gup S q (.inr (4, [x0, x1, x2, x3, x4, x5, x6, x7, v, x9])))) := by rw [gpv_at (h.at A) rfl (by simp) hE, gup_o h.2.1]; rfl
theorem r4_52 {x0 x1 x2 x3 x4 x5 x6 x7 x8 : Value} {v : Nat} (h : Cel b S q (.inr (4, [x0, x1, x2, x3, x4, x5, x6, x7, x8, .ref v]))) (A : FA) (K : Option Nat → Option β) : ggr (put b A S) (some q) 52 K = K (some v) := ggr_as (h.at A) rfl rfl K
theorem n4_52 {x0 x1 x2 x3 x4 x5 x6 x7 x8 : Value} {v : Option Nat} (h : Cel b S q (.inr (4, [x0, x1, x2, x3, x4, x5, x6, x7, x8, va_rf v]))) (A : FA) (K : Option Nat → Option β) : ggr (put b A S) (some q) 52 K = K v := ggr_at (h.at A) rfl rfl K
theorem w4_52 {x0 x1 x2 x3 x4 x5 x6 x7 x8 x9 : Value} (h : Cel b S q (.inr (4, [x0, x1, x2, x3, x4, x5, x6, x7, x8, x9]))) (hE : E.1 ≤ q) (A : FA) (v : Value) (K : GS → Option β) : gpv E (put b A S) (some q) 52 v K = K (put b A (gup S q (.inr (4, [x0, x1, x2, x3, x4, x5, x6, x7, x8, v])))) := by rw [gpv_at (h.at A) rfl (by simp) hE, gup_o h.2.1]; rfl
theorem r5_53 {x1 x2 x3 x4 x5 x6 x7 : Value} {v : Nat} (h : Cel b S q (.inr (5, [.ref v, x1, x2, x3, x4, x5, x6, x7]))) (A : FA) (K : Option Nat → Option β) : ggr (put b A S) (some q) 53 K = K (some v) := ggr_as (h.at A) rfl rfl K
theorem n5_53 {x1 x2 x3 x4 x5 x6 x7 : Value} {v : Option Nat} (h : Cel b S q (.inr (5, [va_rf v, x1, x2, x3, x4, x5, x6, x7]))) (A : FA) (K : Option Nat → Option β) : ggr (put b A S) (some q) 53 K = K v := ggr_at (h.at A) rfl rfl K
theorem w5_53 {x0 x1 x2 x3 x4 x5 x6 x7 : Value} (h : Cel b S q (.inr (5, [x0, x1, x2, x3, x4, x5, x6, x7]))) (hE : E.1 ≤ q) (A : FA) (v : Value) (K : GS → Option β) : gpv E (put b A S) (some q) 53 v K = K (put b A (gup S q (.inr (5, [v, x1, x2, x3, x4, x5, x6, x7])))) := by rw [gpv_at (h.at A) rfl (by simp) hE, gup_o h.2.1]; rfl
theorem r5_54 {x0 x2 x3 x4 x5 x6 x7 : Value} {v : Nat} (h : Cel b S q (.inr (5, [x0, .ref v, x2, x3, x4, x5, x6, x7]))) (A : FA) (K : Option Nat → Option β) : ggr (put b A S) (some q) 54 K = K (some v) := ggr_as (h.at A) rfl rfl K
theorem n5_54 {x0 x2 x3 x4 x5 x6 x7 : Value} {v : Option Nat} (h : Cel b S q (.inr (5, [x0, va_rf v, x2, x3, x4, x5, x6, x7]))) (A : FA) (K : Option Nat → Option β) : ggr (put b A S) (some q) 54 K = K v := ggr_at (h.at A) rfl rfl K
theorem w5_54 {x0 x1 x2 x3 x4 x5 x6 x7 : Value} (h : Cel b S q (.inr (5, [x0, x1, x2, x3, x4, x5, x6, x7]))) (hE : E.1 ≤ q) (A : FA) (v : Value) (K : GS → Option β) : gpv E (put b A S) (some q) 54 v K = K (put b A (gup S q (.inr (5, [x0, v, x2, x3, x4, x5, x6, x7])))) := by rw [gpv_at (h.at A) rfl (by simp) hE, gup_o h.2.1]; rfl
theorem r5_55 {x0 x1 x3 x4 x5 x6 x7 : Value} {v : Nat} (h : Cel b S q (.inr (5, [x0, x1, .ref v, x3, x4, x5, x6, x7]))) (A : FA) (K : Option Nat → Option β) : ggr (put b A S) (some q) 55 K = K (some v) := ggr_as (h.at A) rfl rfl K
theorem n5_55 {x0 x1 x3 x4 x5 x6 x7 : Value} {v : Option Nat} (h : Cel b S q (.inr (5, [x0, x1, va_rf v, x3, x4, x5, x6, x7]))) (A : FA) (K : Option Nat → Option β) : ggr (put b A S) (some q) 55 K = K v := ggr_at (h.at A) rfl rfl K
theorem w5_55 {x0 x1 x2 x3 x4 x5 x6 x7 : Value} (h : Cel b S q (.inr (5, [x0, x1, x2, x3, x4, x5, x6, x7]))) (hE : E.1 ≤ q) (A : FA) (v : Value) (K : GS → Option β) : gpv E (put b A S) (some q) 55 v K = K (put b A (gup S q (.inr (5, [x0, x1, v, x3, x4, x5, x6, x7])))) := by rw [gpv_at (h.at A) rfl (by simp) hE, gup_o h.2.1]; rfl
theorem r5_56 {x0 x1 x2 x4 x5 x6 x7 : Value} {v : Nat} (h : Cel b S q (.inr (5, [x0, x1, x2, .ref v, x4, x5, x6, x7]))) (A : FA) (K : Option Nat → Option β) : ggr (put b A S) (some q) 56 K = K (some v) := ggr_as (h.at A) rfl rfl K
theorem n5_56 {x0 x1 x2 x4 x5 x6 x7 : Value} {v : Option Nat} (h : Cel b S q (.inr (5, [x0, x1, x2, va_rf v, x4, x5, x6, x7]))) (A : FA) (K : Option Nat → Option β) : ggr (put b A S) (some q) 56 K = K v := ggr_at (h.at A) rfl rfl K
theorem w5_56 {x0 x1 x2 x3 x4 x5 x6 x7 : Value} (h : Cel b S q (.inr (5, [x0, x1, x2, x3, x4, x5, x6, x7]))) (hE : E.1 ≤ q) (A : FA) (v : Value) (K : GS → Option β) : gpv E (put b A S) (some q) 56 v K = K (put b A (gup S q (.inr (5, [x0, x1, x2, v, x4, x5, x6, x7])))) := by rw [gpv_at (h.at A) rfl (by simp) hE, gup_o h.2.1]; rfl
theorem r5_57 {x0 x1 x2 x3 x5 x6 x7 : Value} {v : Nat} (h : Cel b S q (.inr (5, [x0, x1, x2, x3, .ref v, x5, x6, x7]))) (A : FA) (K : Option Nat → Option β) : ggr (put b A S) (some q) 57 K = K (some v) := ggr_as (h.at A) rfl rfl K
theorem n5_57 {x0 x1 x2 x3 x5 x6 x7 : Value} {v : Option Nat} (h : Cel b S q (.inr (5, [x0, x1, x2, x3, va_rf v, x5, x6, x7]))) (A : FA) (K : Option Nat → Option β) : ggr (put b A S) (some q) 57 K = K v := ggr_at (h.at A) rfl rfl K
theorem w5_57 {x0 x1 x2 x3 x4 x5 x6 x7 : Value} (h : Cel b S q (.inr (5, [x0, x1, x2, x3, x4, x5, x6, x7]))) (hE : E.1 ≤ q) (A : FA) (v : Value) (K : GS → Option β) : gpv E (put b A S) (some q) 57 v K = K (put b A (gup S q (.inr (5, [x0, x1, x2, x3, v, x5, x6, x7])))) := by rw [gpv_at (h.at A) rfl (by simp) hE, gup_o h.2.1]; rfl
theorem r5_58 {x0 x1 x2 x3 x4 x6 x7 : Value} {v : Int32} (h : Cel b S q (.inr (5, [x0, x1, x2, x3, x4, .int v, x6, x7]))) (A : FA) (K : Int32 → Option β) : ggi (put b A S) (some q) 58 K = K v := ggi_at (h.at A) rfl rfl K
theorem w5_58 {x0 x1 x2 x3 x4 x5 x6 x7 : Value} (h : Cel b S q (.inr (5, [x0, x1, x2, x3, x4, x5, x6, x7]))) (hE : E.1 ≤ q) (A : FA) (v : Value) (K : GS → Option β) : gpv E (put b A S) (some q) 58 v K = K (put b A (gup S q (.inr (5, [x0, x1, x2, x3, x4, v, x6, x7])))) := by rw [gpv_at (h.at A) rfl (by simp) hE, gup_o h.2.1]; rfl
theorem r5_59 {x0 x1 x2 x3 x4 x5 x7 : Value} {v : Int32} (h : Cel b S q (.inr (5, [x0, x1, x2, x3, x4, x5, .int v, x7]))) (A : FA) (K : Int32 → Option β) : ggi (put b A S) (some q) 59 K = K v := ggi_at (h.at A) rfl rfl K
theorem w5_59 {x0 x1 x2 x3 x4 x5 x6 x7 : Value} (h : Cel b S q (.inr (5, [x0, x1, x2, x3, x4, x5, x6, x7]))) (hE : E.1 ≤ q) (A : FA) (v : Value) (K : GS → Option β) : gpv E (put b A S) (some q) 59 v K = K (put b A (gup S q (.inr (5, [x0, x1, x2, x3, x4, x5, v, x7])))) := by rw [gpv_at (h.at A) rfl (by simp) hE, gup_o h.2.1]; rfl
theorem r5_60 {x0 x1 x2 x3 x4 x5 x6 : Value} {v : Int32} (h : Cel b S q (.inr (5, [x0, x1, x2, x3, x4, x5, x6, .int v]))) (A : FA) (K : Int32 → Option β) : ggi (put b A S) (some q) 60 K = K v := ggi_at (h.at A) rfl rfl K
theorem w5_60 {x0 x1 x2 x3 x4 x5 x6 x7 : Value} (h : Cel b S q (.inr (5, [x0, x1, x2, x3, x4, x5, x6, x7]))) (hE : E.1 ≤ q) (A : FA) (v : Value) (K : GS → Option β) : gpv E (put b A S) (some q) 60 v K = K (put b A (gup S q (.inr (5, [x0, x1, x2, x3, x4, x5, x6, v])))) := by rw [gpv_at (h.at A) rfl (by simp) hE, gup_o h.2.1]; rfl
theorem r6_61 {x1 x2 x3 x4 x5 : Value} {v : Nat} (h : Cel b S q (.inr (6, [.ref v, x1, x2, x3, x4, x5]))) (A : FA) (K : Option Nat → Option β) : ggr (put b A S) (some q) 61 K = K (some v) := ggr_as (h.at A) rfl rfl K
theorem n6_61 {x1 x2 x3 x4 x5 : Value} {v : Option Nat} (h : Cel b S q (.inr (6, [va_rf v, x1, x2, x3, x4, x5]))) (A : FA) (K : Option Nat → Option β) : ggr (put b A S) (some q) 61 K = K v := ggr_at (h.at A) rfl rfl K
theorem w6_61 {x0 x1 x2 x3 x4 x5 : Value} (h : Cel b S q (.inr (6, [x0, x1, x2, x3, x4, x5]))) (hE : E.1 ≤ q) (A : FA) (v : Value) (K : GS → Option β) : gpv E (put b A S) (some q) 61 v K = K (put b A (gup S q (.inr (6, [v, x1, x2, x3, x4, x5])))) := by rw [gpv_at (h.at A) rfl (by simp) hE, gup_o h.2.1]; rfl
theorem r6_62 {x0 x2 x3 x4 x5 : Value} {v : Int32} (h : Cel b S q (.inr (6, [x0, .int v, x2, x3, x4, x5]))) (A : FA) (K : Int32 → Option β) : ggi (put b A S) (some q) 62 K = K v := ggi_at (h.at A) rfl rfl K
theorem w6_62 {x0 x1 x2 x3 x4 x5 : Value} (h : Cel b S q (.inr (6, [x0, x1, x2, x3, x4, x5]))) (hE : E.1 ≤ q) (A : FA) (v : Value) (K : GS → Option β) : gpv E (put b A S) (some q) 62 v K = K (put b A (gup S q (.inr (6, [x0, v, x2, x3, x4, x5])))) := by rw [gpv_at (h.at A) rfl (by simp) hE, gup_o h.2.1]; rfl
theorem r6_63 {x0 x1 x3 x4 x5 : Value} {v : Int32} (h : Cel b S q (.inr (6, [x0, x1, .int v, x3, x4, x5]))) (A : FA) (K : Int32 → Option β) : ggi (put b A S) (some q) 63 K = K v := ggi_at (h.at A) rfl rfl K
theorem w6_63 {x0 x1 x2 x3 x4 x5 : Value} (h : Cel b S q (.inr (6, [x0, x1, x2, x3, x4, x5]))) (hE : E.1 ≤ q) (A : FA) (v : Value) (K : GS → Option β) : gpv E (put b A S) (some q) 63 v K = K (put b A (gup S q (.inr (6, [x0, x1, v, x3, x4, x5])))) := by rw [gpv_at (h.at A) rfl (by simp) hE, gup_o h.2.1]; rfl
theorem r6_64 {x0 x1 x2 x4 x5 : Value} {v : Int32} (h : Cel b S q (.inr (6, [x0, x1, x2, .int v, x4, x5]))) (A : FA) (K : Int32 → Option β) : ggi (put b A S) (some q) 64 K = K v := ggi_at (h.at A) rfl rfl K
theorem w6_64 {x0 x1 x2 x3 x4 x5 : Value} (h : Cel b S q (.inr (6, [x0, x1, x2, x3, x4, x5]))) (hE : E.1 ≤ q) (A : FA) (v : Value) (K : GS → Option β) : gpv E (put b A S) (some q) 64 v K = K (put b A (gup S q (.inr (6, [x0, x1, x2, v, x4, x5])))) := by rw [gpv_at (h.at A) rfl (by simp) hE, gup_o h.2.1]; rfl
theorem r6_65 {x0 x1 x2 x3 x5 : Value} {v : Int32} (h : Cel b S q (.inr (6, [x0, x1, x2, x3, .int v, x5]))) (A : FA) (K : Int32 → Option β) : ggi (put b A S) (some q) 65 K = K v := ggi_at (h.at A) rfl rfl K
theorem w6_65 {x0 x1 x2 x3 x4 x5 : Value} (h : Cel b S q (.inr (6, [x0, x1, x2, x3, x4, x5]))) (hE : E.1 ≤ q) (A : FA) (v : Value) (K : GS → Option β) : gpv E (put b A S) (some q) 65 v K = K (put b A (gup S q (.inr (6, [x0, x1, x2, x3, v, x5])))) := by rw [gpv_at (h.at A) rfl (by simp) hE, gup_o h.2.1]; rfl
theorem r6_66 {x0 x1 x2 x3 x4 : Value} {v : Int32} (h : Cel b S q (.inr (6, [x0, x1, x2, x3, x4, .int v]))) (A : FA) (K : Int32 → Option β) : ggi (put b A S) (some q) 66 K = K v := ggi_at (h.at A) rfl rfl K
theorem w6_66 {x0 x1 x2 x3 x4 x5 : Value} (h : Cel b S q (.inr (6, [x0, x1, x2, x3, x4, x5]))) (hE : E.1 ≤ q) (A : FA) (v : Value) (K : GS → Option β) : gpv E (put b A S) (some q) 66 v K = K (put b A (gup S q (.inr (6, [x0, x1, x2, x3, x4, v])))) := by rw [gpv_at (h.at A) rfl (by simp) hE, gup_o h.2.1]; rfl
theorem r7_67 {x1 x2 x3 : Value} {v : Int32} (h : Cel b S q (.inr (7, [.int v, x1, x2, x3]))) (A : FA) (K : Int32 → Option β) : ggi (put b A S) (some q) 67 K = K v := ggi_at (h.at A) rfl rfl K
theorem w7_67 {x0 x1 x2 x3 : Value} (h : Cel b S q (.inr (7, [x0, x1, x2, x3]))) (hE : E.1 ≤ q) (A : FA) (v : Value) (K : GS → Option β) : gpv E (put b A S) (some q) 67 v K = K (put b A (gup S q (.inr (7, [v, x1, x2, x3])))) := by rw [gpv_at (h.at A) rfl (by simp) hE, gup_o h.2.1]; rfl
theorem r7_68 {x0 x2 x3 : Value} {v : Int32} (h : Cel b S q (.inr (7, [x0, .int v, x2, x3]))) (A : FA) (K : Int32 → Option β) : ggi (put b A S) (some q) 68 K = K v := ggi_at (h.at A) rfl rfl K
theorem w7_68 {x0 x1 x2 x3 : Value} (h : Cel b S q (.inr (7, [x0, x1, x2, x3]))) (hE : E.1 ≤ q) (A : FA) (v : Value) (K : GS → Option β) : gpv E (put b A S) (some q) 68 v K = K (put b A (gup S q (.inr (7, [x0, v, x2, x3])))) := by rw [gpv_at (h.at A) rfl (by simp) hE, gup_o h.2.1]; rfl
theorem r7_69 {x0 x1 x3 : Value} {v : Int32} (h : Cel b S q (.inr (7, [x0, x1, .int v, x3]))) (A : FA) (K : Int32 → Option β) : ggi (put b A S) (some q) 69 K = K v := ggi_at (h.at A) rfl rfl K
theorem w7_69 {x0 x1 x2 x3 : Value} (h : Cel b S q (.inr (7, [x0, x1, x2, x3]))) (hE : E.1 ≤ q) (A : FA) (v : Value) (K : GS → Option β) : gpv E (put b A S) (some q) 69 v K = K (put b A (gup S q (.inr (7, [x0, x1, v, x3])))) := by rw [gpv_at (h.at A) rfl (by simp) hE, gup_o h.2.1]; rfl
theorem r7_70 {x0 x1 x2 : Value} {v : Int32} (h : Cel b S q (.inr (7, [x0, x1, x2, .int v]))) (A : FA) (K : Int32 → Option β) : ggi (put b A S) (some q) 70 K = K v := ggi_at (h.at A) rfl rfl K
theorem w7_70 {x0 x1 x2 x3 : Value} (h : Cel b S q (.inr (7, [x0, x1, x2, x3]))) (hE : E.1 ≤ q) (A : FA) (v : Value) (K : GS → Option β) : gpv E (put b A S) (some q) 70 v K = K (put b A (gup S q (.inr (7, [x0, x1, x2, v])))) := by rw [gpv_at (h.at A) rfl (by simp) hE, gup_o h.2.1]; rfl
theorem r8_61 {x1 x2 : Value} {v : Nat} (h : Cel b S q (.inr (8, [.ref v, x1, x2]))) (A : FA) (K : Option Nat → Option β) : ggr (put b A S) (some q) 61 K = K (some v) := ggr_as (h.at A) rfl rfl K
theorem n8_61 {x1 x2 : Value} {v : Option Nat} (h : Cel b S q (.inr (8, [va_rf v, x1, x2]))) (A : FA) (K : Option Nat → Option β) : ggr (put b A S) (some q) 61 K = K v := ggr_at (h.at A) rfl rfl K
theorem w8_61 {x0 x1 x2 : Value} (h : Cel b S q (.inr (8, [x0, x1, x2]))) (hE : E.1 ≤ q) (A : FA) (v : Value) (K : GS → Option β) : gpv E (put b A S) (some q) 61 v K = K (put b A (gup S q (.inr (8, [v, x1, x2])))) := by rw [gpv_at (h.at A) rfl (by simp) hE, gup_o h.2.1]; rfl
theorem r8_71 {x0 x2 : Value} {v : Int32} (h : Cel b S q (.inr (8, [x0, .int v, x2]))) (A : FA) (K : Int32 → Option β) : ggi (put b A S) (some q) 71 K = K v := ggi_at (h.at A) rfl rfl K
theorem w8_71 {x0 x1 x2 : Value} (h : Cel b S q (.inr (8, [x0, x1, x2]))) (hE : E.1 ≤ q) (A : FA) (v : Value) (K : GS → Option β) : gpv E (put b A S) (some q) 71 v K = K (put b A (gup S q (.inr (8, [x0, v, x2])))) := by rw [gpv_at (h.at A) rfl (by simp) hE, gup_o h.2.1]; rfl
theorem r8_72 {x0 x1 : Value} {v : Int32} (h : Cel b S q (.inr (8, [x0, x1, .int v]))) (A : FA) (K : Int32 → Option β) : ggi (put b A S) (some q) 72 K = K v := ggi_at (h.at A) rfl rfl K
theorem w8_72 {x0 x1 x2 : Value} (h : Cel b S q (.inr (8, [x0, x1, x2]))) (hE : E.1 ≤ q) (A : FA) (v : Value) (K : GS → Option β) : gpv E (put b A S) (some q) 72 v K = K (put b A (gup S q (.inr (8, [x0, x1, v])))) := by rw [gpv_at (h.at A) rfl (by simp) hE, gup_o h.2.1]; rfl
theorem r9_73 {x1 : Value} {v : Int32} (h : Cel b S q (.inr (9, [.int v, x1]))) (A : FA) (K : Int32 → Option β) : ggi (put b A S) (some q) 73 K = K v := ggi_at (h.at A) rfl rfl K
theorem w9_73 {x0 x1 : Value} (h : Cel b S q (.inr (9, [x0, x1]))) (hE : E.1 ≤ q) (A : FA) (v : Value) (K : GS → Option β) : gpv E (put b A S) (some q) 73 v K = K (put b A (gup S q (.inr (9, [v, x1])))) := by rw [gpv_at (h.at A) rfl (by simp) hE, gup_o h.2.1]; rfl
theorem r9_74 {x0 : Value} {v : Int32} (h : Cel b S q (.inr (9, [x0, .int v]))) (A : FA) (K : Int32 → Option β) : ggi (put b A S) (some q) 74 K = K v := ggi_at (h.at A) rfl rfl K
theorem w9_74 {x0 x1 : Value} (h : Cel b S q (.inr (9, [x0, x1]))) (hE : E.1 ≤ q) (A : FA) (v : Value) (K : GS → Option β) : gpv E (put b A S) (some q) 74 v K = K (put b A (gup S q (.inr (9, [x0, v])))) := by rw [gpv_at (h.at A) rfl (by simp) hE, gup_o h.2.1]; rfl
theorem r10_75 {x1 : Value} {v : Int32} (h : Cel b S q (.inr (10, [.int v, x1]))) (A : FA) (K : Int32 → Option β) : ggi (put b A S) (some q) 75 K = K v := ggi_at (h.at A) rfl rfl K
theorem w10_75 {x0 x1 : Value} (h : Cel b S q (.inr (10, [x0, x1]))) (hE : E.1 ≤ q) (A : FA) (v : Value) (K : GS → Option β) : gpv E (put b A S) (some q) 75 v K = K (put b A (gup S q (.inr (10, [v, x1])))) := by rw [gpv_at (h.at A) rfl (by simp) hE, gup_o h.2.1]; rfl
theorem r10_76 {x0 : Value} {v : Int32} (h : Cel b S q (.inr (10, [x0, .int v]))) (A : FA) (K : Int32 → Option β) : ggi (put b A S) (some q) 76 K = K v := ggi_at (h.at A) rfl rfl K
theorem w10_76 {x0 x1 : Value} (h : Cel b S q (.inr (10, [x0, x1]))) (hE : E.1 ≤ q) (A : FA) (v : Value) (K : GS → Option β) : gpv E (put b A S) (some q) 76 v K = K (put b A (gup S q (.inr (10, [x0, v])))) := by rw [gpv_at (h.at A) rfl (by simp) hE, gup_o h.2.1]; rfl
theorem r11_77 {x1 x2 : Value} {v : Int32} (h : Cel b S q (.inr (11, [.int v, x1, x2]))) (A : FA) (K : Int32 → Option β) : ggi (put b A S) (some q) 77 K = K v := ggi_at (h.at A) rfl rfl K
theorem w11_77 {x0 x1 x2 : Value} (h : Cel b S q (.inr (11, [x0, x1, x2]))) (hE : E.1 ≤ q) (A : FA) (v : Value) (K : GS → Option β) : gpv E (put b A S) (some q) 77 v K = K (put b A (gup S q (.inr (11, [v, x1, x2])))) := by rw [gpv_at (h.at A) rfl (by simp) hE, gup_o h.2.1]; rfl
theorem r11_78 {x0 x2 : Value} {v : Int32} (h : Cel b S q (.inr (11, [x0, .int v, x2]))) (A : FA) (K : Int32 → Option β) : ggi (put b A S) (some q) 78 K = K v := ggi_at (h.at A) rfl rfl K
theorem w11_78 {x0 x1 x2 : Value} (h : Cel b S q (.inr (11, [x0, x1, x2]))) (hE : E.1 ≤ q) (A : FA) (v : Value) (K : GS → Option β) : gpv E (put b A S) (some q) 78 v K = K (put b A (gup S q (.inr (11, [x0, v, x2])))) := by rw [gpv_at (h.at A) rfl (by simp) hE, gup_o h.2.1]; rfl
theorem r11_79 {x0 x1 : Value} {v : Int32} (h : Cel b S q (.inr (11, [x0, x1, .int v]))) (A : FA) (K : Int32 → Option β) : ggi (put b A S) (some q) 79 K = K v := ggi_at (h.at A) rfl rfl K
theorem w11_79 {x0 x1 x2 : Value} (h : Cel b S q (.inr (11, [x0, x1, x2]))) (hE : E.1 ≤ q) (A : FA) (v : Value) (K : GS → Option β) : gpv E (put b A S) (some q) 79 v K = K (put b A (gup S q (.inr (11, [x0, x1, v])))) := by rw [gpv_at (h.at A) rfl (by simp) hE, gup_o h.2.1]; rfl
theorem r12_77 {x1 x2 : Value} {v : Int32} (h : Cel b S q (.inr (12, [.int v, x1, x2]))) (A : FA) (K : Int32 → Option β) : ggi (put b A S) (some q) 77 K = K v := ggi_at (h.at A) rfl rfl K
theorem w12_77 {x0 x1 x2 : Value} (h : Cel b S q (.inr (12, [x0, x1, x2]))) (hE : E.1 ≤ q) (A : FA) (v : Value) (K : GS → Option β) : gpv E (put b A S) (some q) 77 v K = K (put b A (gup S q (.inr (12, [v, x1, x2])))) := by rw [gpv_at (h.at A) rfl (by simp) hE, gup_o h.2.1]; rfl
theorem r12_78 {x0 x2 : Value} {v : Int32} (h : Cel b S q (.inr (12, [x0, .int v, x2]))) (A : FA) (K : Int32 → Option β) : ggi (put b A S) (some q) 78 K = K v := ggi_at (h.at A) rfl rfl K
theorem w12_78 {x0 x1 x2 : Value} (h : Cel b S q (.inr (12, [x0, x1, x2]))) (hE : E.1 ≤ q) (A : FA) (v : Value) (K : GS → Option β) : gpv E (put b A S) (some q) 78 v K = K (put b A (gup S q (.inr (12, [x0, v, x2])))) := by rw [gpv_at (h.at A) rfl (by simp) hE, gup_o h.2.1]; rfl
theorem r12_80 {x0 x1 : Value} {v : Int32} (h : Cel b S q (.inr (12, [x0, x1, .int v]))) (A : FA) (K : Int32 → Option β) : ggi (put b A S) (some q) 80 K = K v := ggi_at (h.at A) rfl rfl K
theorem w12_80 {x0 x1 x2 : Value} (h : Cel b S q (.inr (12, [x0, x1, x2]))) (hE : E.1 ≤ q) (A : FA) (v : Value) (K : GS → Option β) : gpv E (put b A S) (some q) 80 v K = K (put b A (gup S q (.inr (12, [x0, x1, v])))) := by rw [gpv_at (h.at A) rfl (by simp) hE, gup_o h.2.1]; rfl
theorem r13_81 {x1 x2 x3 x4 x5 : Value} {v : Nat} (h : Cel b S q (.inr (13, [.ref v, x1, x2, x3, x4, x5]))) (A : FA) (K : Option Nat → Option β) : ggr (put b A S) (some q) 81 K = K (some v) := ggr_as (h.at A) rfl rfl K
theorem n13_81 {x1 x2 x3 x4 x5 : Value} {v : Option Nat} (h : Cel b S q (.inr (13, [va_rf v, x1, x2, x3, x4, x5]))) (A : FA) (K : Option Nat → Option β) : ggr (put b A S) (some q) 81 K = K v := ggr_at (h.at A) rfl rfl K
theorem w13_81 {x0 x1 x2 x3 x4 x5 : Value} (h : Cel b S q (.inr (13, [x0, x1, x2, x3, x4, x5]))) (hE : E.1 ≤ q) (A : FA) (v : Value) (K : GS → Option β) : gpv E (put b A S) (some q) 81 v K = K (put b A (gup S q (.inr (13, [v, x1, x2, x3, x4, x5])))) := by rw [gpv_at (h.at A) rfl (by simp) hE, gup_o h.2.1]; rfl
theorem r13_82 {x0 x2 x3 x4 x5 : Value} {v : Int32} (h : Cel b S q (.inr (13, [x0, .int v, x2, x3, x4, x5]))) (A : FA) (K : Int32 → Option β) : ggi (put b A S) (some q) 82 K = K v := ggi_at (h.at A) rfl rfl K
theorem w13_82 {x0 x1 x2 x3 x4 x5 : Value} (h : Cel b S q (.inr (13, [x0, x1, x2, x3, x4, x5]))) (hE : E.1 ≤ q) (A : FA) (v : Value) (K : GS → Option β) : gpv E (put b A S) (some q) 82 v K = K (put b A (gup S q (.inr (13, [x0, v, x2, x3, x4, x5])))) := by rw [gpv_at (h.at A) rfl (by simp) hE, gup_o h.2.1]; rfl
theorem r13_83 {x0 x1 x3 x4 x5 : Value} {v : Int32} (h : Cel b S q (.inr (13, [x0, x1, .int v, x3, x4, x5]))) (A : FA) (K : Int32 → Option β) : ggi (put b A S) (some q) 83 K = K v := ggi_at (h.at A) rfl rfl K
theorem w13_83 {x0 x1 x2 x3 x4 x5 : Value} (h : Cel b S q (.inr (13, [x0, x1, x2, x3, x4, x5]))) (hE : E.1 ≤ q) (A : FA) (v : Value) (K : GS → Option β) : gpv E (put b A S) (some q) 83 v K = K (put b A (gup S q (.inr (13, [x0, x1, v, x3, x4, x5])))) := by rw [gpv_at (h.at A) rfl (by simp) hE, gup_o h.2.1]; rfl
theorem r13_84 {x0 x1 x2 x4 x5 : Value} {v : Nat} (h : Cel b S q (.inr (13, [x0, x1, x2, .ref v, x4, x5]))) (A : FA) (K : Option Nat → Option β) : ggr (put b A S) (some q) 84 K = K (some v) := ggr_as (h.at A) rfl rfl K
theorem n13_84 {x0 x1 x2 x4 x5 : Value} {v : Option Nat} (h : Cel b S q (.inr (13, [x0, x1, x2, va_rf v, x4, x5]))) (A : FA) (K : Option Nat → Option β) : ggr (put b A S) (some q) 84 K = K v := ggr_at (h.at A) rfl rfl K
theorem w13_84 {x0 x1 x2 x3 x4 x5 : Value} (h : Cel b S q (.inr (13, [x0, x1, x2, x3, x4, x5]))) (hE : E.1 ≤ q) (A : FA) (v : Value) (K : GS → Option β) : gpv E (put b A S) (some q) 84 v K = K (put b A (gup S q (.inr (13, [x0, x1, x2, v, x4, x5])))) := by rw [gpv_at (h.at A) rfl (by simp) hE, gup_o h.2.1]; rfl
theorem r13_85 {x0 x1 x2 x3 x5 : Value} {v : Int32} (h : Cel b S q (.inr (13, [x0, x1, x2, x3, .int v, x5]))) (A : FA) (K : Int32 → Option β) : ggi (put b A S) (some q) 85 K = K v := ggi_at (h.at A) rfl rfl K
theorem w13_85 {x0 x1 x2 x3 x4 x5 : Value} (h : Cel b S q (.inr (13, [x0, x1, x2, x3, x4, x5]))) (hE : E.1 ≤ q) (A : FA) (v : Value) (K : GS → Option β) : gpv E (put b A S) (some q) 85 v K = K (put b A (gup S q (.inr (13, [x0, x1, x2, x3, v, x5])))) := by rw [gpv_at (h.at A) rfl (by simp) hE, gup_o h.2.1]; rfl
theorem r13_86 {x0 x1 x2 x3 x4 : Value} {v : Int32} (h : Cel b S q (.inr (13, [x0, x1, x2, x3, x4, .int v]))) (A : FA) (K : Int32 → Option β) : ggi (put b A S) (some q) 86 K = K v := ggi_at (h.at A) rfl rfl K
theorem w13_86 {x0 x1 x2 x3 x4 x5 : Value} (h : Cel b S q (.inr (13, [x0, x1, x2, x3, x4, x5]))) (hE : E.1 ≤ q) (A : FA) (v : Value) (K : GS → Option β) : gpv E (put b A S) (some q) 86 v K = K (put b A (gup S q (.inr (13, [x0, x1, x2, x3, x4, v])))) := by rw [gpv_at (h.at A) rfl (by simp) hE, gup_o h.2.1]; rfl
theorem r14_81 {x1 x2 x3 x4 x5 : Value} {v : Nat} (h : Cel b S q (.inr (14, [.ref v, x1, x2, x3, x4, x5]))) (A : FA) (K : Option Nat → Option β) : ggr (put b A S) (some q) 81 K = K (some v) := ggr_as (h.at A) rfl rfl K
theorem n14_81 {x1 x2 x3 x4 x5 : Value} {v : Option Nat} (h : Cel b S q (.inr (14, [va_rf v, x1, x2, x3, x4, x5]))) (A : FA) (K : Option Nat → Option β) : ggr (put b A S) (some q) 81 K = K v := ggr_at (h.at A) rfl rfl K
theorem w14_81 {x0 x1 x2 x3 x4 x5 : Value} (h : Cel b S q (.inr (14, [x0, x1, x2, x3, x4, x5]))) (hE : E.1 ≤ q) (A : FA) (v : Value) (K : GS → Option β) : gpv E (put b A S) (some q) 81 v K = K (put b A (gup S q (.inr (14, [v, x1, x2, x3, x4, x5])))) := by rw [gpv_at (h.at A) rfl (by simp) hE, gup_o h.2.1]; rfl
theorem r14_82 {x0 x2 x3 x4 x5 : Value} {v : Int32} (h : Cel b S q (.inr (14, [x0, .int v, x2, x3, x4, x5]))) (A : FA) (K : Int32 → Option β) : ggi (put b A S) (some q) 82 K = K v := ggi_at (h.at A) rfl rfl K
theorem w14_82 {x0 x1 x2 x3 x4 x5 : Value} (h : Cel b S q (.inr (14, [x0, x1, x2, x3, x4, x5]))) (hE : E.1 ≤ q) (A : FA) (v : Value) (K : GS → Option β) : gpv E (put b A S) (some q) 82 v K = K (put b A (gup S q (.inr (14, [x0, v, x2, x3, x4, x5])))) := by rw [gpv_at (h.at A) rfl (by simp) hE, gup_o h.2.1]; rfl
theorem r14_83 {x0 x1 x3 x4 x5 : Value} {v : Int32} (h : Cel b S q (.inr (14, [x0, x1, .int v, x3, x4, x5]))) (A : FA) (K : Int32 → Option β) : ggi (put b A S) (some q) 83 K = K v := ggi_at (h.at A) rfl rfl K
theorem w14_83 {x0 x1 x2 x3 x4 x5 : Value} (h : Cel b S q (.inr (14, [x0, x1, x2, x3, x4, x5]))) (hE : E.1 ≤ q) (A : FA) (v : Value) (K : GS → Option β) : gpv E (put b A S) (some q) 83 v K = K (put b A (gup S q (.inr (14, [x0, x1, v, x3, x4, x5])))) := by rw [gpv_at (h.at A) rfl (by simp) hE, gup_o h.2.1]; rfl
theorem r14_84 {x0 x1 x2 x4 x5 : Value} {v : Nat} (h : Cel b S q (.inr (14, [x0, x1, x2, .ref v, x4, x5]))) (A : FA) (K : Option Nat → Option β) : ggr (put b A S) (some q) 84 K = K (some v) := ggr_as (h.at A) rfl rfl K
theorem n14_84 {x0 x1 x2 x4 x5 : Value} {v : Option Nat} (h : Cel b S q (.inr (14, [x0, x1, x2, va_rf v, x4, x5]))) (A : FA) (K : Option Nat → Option β) : ggr (put b A S) (some q) 84 K = K v := ggr_at (h.at A) rfl rfl K
theorem w14_84 {x0 x1 x2 x3 x4 x5 : Value} (h : Cel b S q (.inr (14, [x0, x1, x2, x3, x4, x5]))) (hE : E.1 ≤ q) (A : FA) (v : Value) (K : GS → Option β) : gpv E (put b A S) (some q) 84 v K = K (put b A (gup S q (.inr (14, [x0, x1, x2, v, x4, x5])))) := by rw [gpv_at (h.at A) rfl (by simp) hE, gup_o h.2.1]; rfl
theorem r14_87 {x0 x1 x2 x3 x5 : Value} {v : Int32} (h : Cel b S q (.inr (14, [x0, x1, x2, x3, .int v, x5]))) (A : FA) (K : Int32 → Option β) : ggi (put b A S) (some q) 87 K = K v := ggi_at (h.at A) rfl rfl K
theorem w14_87 {x0 x1 x2 x3 x4 x5 : Value} (h : Cel b S q (.inr (14, [x0, x1, x2, x3, x4, x5]))) (hE : E.1 ≤ q) (A : FA) (v : Value) (K : GS → Option β) : gpv E (put b A S) (some q) 87 v K = K (put b A (gup S q (.inr (14, [x0, x1, x2, x3, v, x5])))) := by rw [gpv_at (h.at A) rfl (by simp) hE, gup_o h.2.1]; rfl
theorem r14_88 {x0 x1 x2 x3 x4 : Value} {v : Int32} (h : Cel b S q (.inr (14, [x0, x1, x2, x3, x4, .int v]))) (A : FA) (K : Int32 → Option β) : ggi (put b A S) (some q) 88 K = K v := ggi_at (h.at A) rfl rfl K
theorem w14_88 {x0 x1 x2 x3 x4 x5 : Value} (h : Cel b S q (.inr (14, [x0, x1, x2, x3, x4, x5]))) (hE : E.1 ≤ q) (A : FA) (v : Value) (K : GS → Option β) : gpv E (put b A S) (some q) 88 v K = K (put b A (gup S q (.inr (14, [x0, x1, x2, x3, x4, v])))) := by rw [gpv_at (h.at A) rfl (by simp) hE, gup_o h.2.1]; rfl
theorem r15_81 {x1 x2 x3 x4 x5 x6 x7 x8 : Value} {v : Nat} (h : Cel b S q (.inr (15, [.ref v, x1, x2, x3, x4, x5, x6, x7, x8]))) (A : FA) (K : Option Nat → Option β) : ggr (put b A S) (some q) 81 K = K (some v) := ggr_as (h.at A) rfl rfl K
theorem n15_81 {x1 x2 x3 x4 x5 x6 x7 x8 : Value} {v : Option Nat} (h : Cel b S q (.inr (15, [va_rf v, x1, x2, x3, x4, x5, x6, x7, x8]))) (A : FA) (K : Option Nat → Option β) : ggr (put b A S) (some q) 81 K = K v := ggr_at (h.at A) rfl rfl K
theorem w15_81 {x0 x1 x2 x3 x4 x5 x6 x7 x8 : Value} (h : Cel b S q (.inr (15, [x0, x1, x2, x3, x4, x5, x6, x7, x8]))) (hE : E.1 ≤ q) (A : FA) (v : Value) (K : GS → Option β) : gpv E (put b A S) (some q) 81 v K = K (put b A (gup S q (.inr (15, [v, x1, x2, x3, x4, x5, x6, x7, x8])))) := by rw [gpv_at (h.at A) rfl (by simp) hE, gup_o h.2.1]; rfl
theorem r15_82 {x0 x2 x3 x4 x5 x6 x7 x8 : Value} {v : Int32} (h : Cel b S q (.inr (15, [x0, .int v, x2, x3, x4, x5, x6, x7, x8]))) (A : FA) (K : Int32 → Option β) : ggi (put b A S) (some q) 82 K = K v := ggi_at (h.at A) rfl rfl K
theorem w15_82 {x0 x1 x2 x3 x4 x5 x6 x7 x8 : Value} (h : Cel b S q (.inr (15, [x0, x1, x2, x3, x4, x5, x6, x7, x8]))) (hE : E.1 ≤ q) (A : FA) (v : Value) (K : GS → Option β) : gpv E (put b A S) (some q) 82 v K = K (put b A (gup S q (.inr (15, [x0, v, x2, x3, x4, x5, x6, x7, x8])))) := by rw [gpv_at (h.at A) rfl (by simp) hE, gup_o h.2.1]; rfl
theorem r15_83 {x0 x1 x3 x4 x5 x6 x7 x8 : Value} {v : Int32} (h : Cel b S q (.inr (15, [x0, x1, .int v, x3, x4, x5, x6, x7, x8]))) (A : FA) (K : Int32 → Option β) : ggi (put b A S) (some q) 83 K = K v := ggi_at (h.at A) rfl rfl K
theorem w15_83 {x0 x1 x2 x3 x4 x5 x6 x7 x8 : Value} (h : Cel b S q (.inr (15, [x0, x1, x2, x3, x4, x5, x6, x7, x8]))) (hE : E.1 ≤ q) (A : FA) (v : Value) (K : GS → Option β) : gpv E (put b A S) (some q) 83 v K = K (put b A (gup S q (.inr (15, [x0, x1, v, x3, x4, x5, x6, x7, x8])))) := by rw [gpv_at (h.at A) rfl (by simp) hE, gup_o h.2.1]; rfl
theorem r15_84 {x0 x1 x2 x4 x5 x6 x7 x8 : Value} {v : Nat} (h : Cel b S q (.inr (15, [x0, x1, x2, .ref v, x4, x5, x6, x7, x8]))) (A : FA) (K : Option Nat → Option β) : ggr (put b A S) (some q) 84 K = K (some v) := ggr_as (h.at A) rfl rfl K
theorem n15_84 {x0 x1 x2 x4 x5 x6 x7 x8 : Value} {v : Option Nat} (h : Cel b S q (.inr (15, [x0, x1, x2, va_rf v, x4, x5, x6, x7, x8]))) (A : FA) (K : Option Nat → Option β) : ggr (put b A S) (some q) 84 K = K v := ggr_at (h.at A) rfl rfl K
theorem w15_84 {x0 x1 x2 x3 x4 x5 x6 x7 x8 : Value} (h : Cel b S q (.inr (15, [x0, x1, x2, x3, x4, x5, x6, x7, x8]))) (hE : E.1 ≤ q) (A : FA) (v : Value) (K : GS → Option β) : gpv E (put b A S) (some q) 84 v K = K (put b A (gup S q (.inr (15, [x0, x1, x2, v, x4, x5, x6, x7, x8])))) := by rw [gpv_at (h.at A) rfl (by simp) hE, gup_o h.2.1]; rfl
theorem r15_89 {x0 x1 x2 x3 x5 x6 x7 x8 : Value} {v : Int32} (h : Cel b S q (.inr (15, [x0, x1, x2, x3, .int v, x5, x6, x7, x8]))) (A : FA) (K : Int32 → Option β) : ggi (put b A S) (some q) 89 K = K v := ggi_at (h.at A) rfl rfl K
theorem w15_89 {x0 x1 x2 x3 x4 x5 x6 x7 x8 : Value} (h : Cel b S q (.inr (15, [x0, x1, x2, x3, x4, x5, x6, x7, x8]))) (hE : E.1 ≤ q) (A : FA) (v : Value) (K : GS → Option β) : gpv E (put b A S) (some q) 89 v K = K (put b A (gup S q (.inr (15, [x0, x1, x2, x3, v, x5, x6, x7, x8])))) := by rw [gpv_at (h.at A) rfl (by simp) hE, gup_o h.2.1]; rfl
theorem r15_90 {x0 x1 x2 x3 x4 x6 x7 x8 : Value} {v : Nat} (h : Cel b S q (.inr (15, [x0, x1, x2, x3, x4, .ref v, x6, x7, x8]))) (A : FA) (K : Option Nat → Option β) : ggr (put b A S) (some q) 90 K = K (some v) := ggr_as (h.at A) rfl rfl K
theorem n15_90 {x0 x1 x2 x3 x4 x6 x7 x8 : Value} {v : Option Nat} (h : Cel b S q (.inr (15, [x0, x1, x2, x3, x4, va_rf v, x6, x7, x8]))) (A : FA) (K : Option Nat → Option β) : ggr (put b A S) (some q) 90 K = K v := ggr_at (h.at A) rfl rfl K
theorem w15_90 {x0 x1 x2 x3 x4 x5 x6 x7 x8 : Value} (h : Cel b S q (.inr (15, [x0, x1, x2, x3, x4, x5, x6, x7, x8]))) (hE : E.1 ≤ q) (A : FA) (v : Value) (K : GS → Option β) : gpv E (put b A S) (some q) 90 v K = K (put b A (gup S q (.inr (15, [x0, x1, x2, x3, x4, v, x6, x7, x8])))) := by rw [gpv_at (h.at A) rfl (by simp) hE, gup_o h.2.1]; rfl
theorem r15_91 {x0 x1 x2 x3 x4 x5 x7 x8 : Value} {v : Nat} (h : Cel b S q (.inr (15, [x0, x1, x2, x3, x4, x5, .ref v, x7, x8]))) (A : FA) (K : Option Nat → Option β) : ggr (put b A S) (some q) 91 K = K (some v) := ggr_as (h.at A) rfl rfl K
theorem n15_91 {x0 x1 x2 x3 x4 x5 x7 x8 : Value} {v : Option Nat} (h : Cel b S q (.inr (15, [x0, x1, x2, x3, x4, x5, va_rf v, x7, x8]))) (A : FA) (K : Option Nat → Option β) : ggr (put b A S) (some q) 91 K = K v := ggr_at (h.at A) rfl rfl K
theorem w15_91 {x0 x1 x2 x3 x4 x5 x6 x7 x8 : Value} (h : Cel b S q (.inr (15, [x0, x1, x2, x3, x4, x5, x6, x7, x8]))) (hE : E.1 ≤ q) (A : FA) (v : Value) (K : GS → Option β) : gpv E (put b A S) (some q) 91 v K = K (put b A (gup S q (.inr (15, [x0, x1, x2, x3, x4, x5, v, x7, x8])))) := by rw [gpv_at (h.at A) rfl (by simp) hE, gup_o h.2.1]; rfl
theorem r15_92 {x0 x1 x2 x3 x4 x5 x6 x8 : Value} {v : Int32} (h : Cel b S q (.inr (15, [x0, x1, x2, x3, x4, x5, x6, .int v, x8]))) (A : FA) (K : Int32 → Option β) : ggi (put b A S) (some q) 92 K = K v := ggi_at (h.at A) rfl rfl K
theorem w15_92 {x0 x1 x2 x3 x4 x5 x6 x7 x8 : Value} (h : Cel b S q (.inr (15, [x0, x1, x2, x3, x4, x5, x6, x7, x8]))) (hE : E.1 ≤ q) (A : FA) (v : Value) (K : GS → Option β) : gpv E (put b A S) (some q) 92 v K = K (put b A (gup S q (.inr (15, [x0, x1, x2, x3, x4, x5, x6, v, x8])))) := by rw [gpv_at (h.at A) rfl (by simp) hE, gup_o h.2.1]; rfl
theorem r15_93 {x0 x1 x2 x3 x4 x5 x6 x7 : Value} {v : Int32} (h : Cel b S q (.inr (15, [x0, x1, x2, x3, x4, x5, x6, x7, .int v]))) (A : FA) (K : Int32 → Option β) : ggi (put b A S) (some q) 93 K = K v := ggi_at (h.at A) rfl rfl K
theorem w15_93 {x0 x1 x2 x3 x4 x5 x6 x7 x8 : Value} (h : Cel b S q (.inr (15, [x0, x1, x2, x3, x4, x5, x6, x7, x8]))) (hE : E.1 ≤ q) (A : FA) (v : Value) (K : GS → Option β) : gpv E (put b A S) (some q) 93 v K = K (put b A (gup S q (.inr (15, [x0, x1, x2, x3, x4, x5, x6, x7, v])))) := by rw [gpv_at (h.at A) rfl (by simp) hE, gup_o h.2.1]; rfl
theorem r16_43 {x1 x2 x3 x4 x5 x6 x7 x8 x9 x10 : Value} {v : Nat} (h : Cel b S q (.inr (16, [.ref v, x1, x2, x3, x4, x5, x6, x7, x8, x9, x10]))) (A : FA) (K : Option Nat → Option β) : ggr (put b A S) (some q) 43 K = K (some v) := ggr_as (h.at A) rfl rfl K
theorem n16_43 {x1 x2 x3 x4 x5 x6 x7 x8 x9 x10 : Value} {v : Option Nat} (h : Cel b S q (.inr (16, [va_rf v, x1, x2, x3, x4, x5, x6, x7, x8, x9, x10]))) (A : FA) (K : Option Nat → Option β) : ggr (put b A S) (some q) 43 K = K v := ggr_at (h.at A) rfl rfl K
theorem w16_43 {x0 x1 x2 x3 x4 x5 x6 x7 x8 x9 x10 : Value} (h : Cel b S q (.inr (16, [x0, x1, x2, x3, x4, x5, x6, x7, x8, x9, x10]))) (hE : E.1 ≤ q) (A : FA) (v : Value) (K : GS → Option β) : gpv E (put b A S) (some q) 43 v K = K (put b A (gup S q (.inr (16, [v, x1, x2, x3, x4, x5, x6, x7, x8, x9, x10])))) := by rw [gpv_at (h.at A) rfl (by simp) hE, gup_o h.2.1]; rfl
theorem r16_44 {x0 x2 x3 x4 x5 x6 x7 x8 x9 x10 : Value} {v : Int32} (h : Cel b S q (.inr (16, [x0, .int v, x2, x3, x4, x5, x6, x7, x8, x9, x10]))) (A : FA) (K : Int32 → Option β) : ggi (put b A S) (some q) 44 K = K v := ggi_at (h.at A) rfl rfl K
theorem w16_44 {x0 x1 x2 x3 x4 x5 x6 x7 x8 x9 x10 : Value} (h : Cel b S q (.inr (16, [x0, x1, x2, x3, x4, x5, x6, x7, x8, x9, x10]))) (hE : E.1 ≤ q) (A : FA) (v : Value) (K : GS → Option β) : gpv E (put b A S) (some q) 44 v K = K (put b A (gup S q (.inr (16, [x0, v, x2, x3, x4, x5, x6, x7, x8, x9, x10])))) := by rw [gpv_at (h.at A) rfl (by simp) hE, gup_o h.2.1]; rfl
theorem r16_45 {x0 x1 x3 x4 x5 x6 x7 x8 x9 x10 : Value} {v : Int32} (h : Cel b S q (.inr (16, [x0, x1, .int v, x3, x4, x5, x6, x7, x8, x9, x10]))) (A : FA) (K : Int32 → Option β) : ggi (put b A S) (some q) 45 K = K v := ggi_at (h.at A) rfl rfl K
theorem w16_45 {x0 x1 x2 x3 x4 x5 x6 x7 x8 x9 x10 : Value} (h : Cel b S q (.inr (16, [x0, x1, x2, x3, x4, x5, x6, x7, x8, x9, x10]))) (hE : E.1 ≤ q) (A : FA) (v : Value) (K : GS → Option β) : gpv E (put b A S) (some q) 45 v K = K (put b A (gup S q (.inr (16, [x0, x1, v, x3, x4, x5, x6, x7, x8, x9, x10])))) := by rw [gpv_at (h.at A) rfl (by simp) hE, gup_o h.2.1]; rfl
theorem r16_46 {x0 x1 x2 x4 x5 x6 x7 x8 x9 x10 : Value} {v : Int32} (h : Cel b S q (.inr (16, [x0, x1, x2, .int v, x4, x5, x6, x7, x8, x9, x10]))) (A : FA) (K : Int32 → Option β) : ggi (put b A S) (some q) 46 K = K v := ggi_at (h.at A) rfl rfl K
theorem w16_46 {x0 x1 x2 x3 x4 x5 x6 x7 x8 x9 x10 : Value} (h : Cel b S q (.inr (16, [x0, x1, x2, x3, x4, x5, x6, x7, x8, x9, x10]))) (hE : E.1 ≤ q) (A : FA) (v : Value) (K : GS → Option β) : gpv E (put b A S) (some q) 46 v K = K (put b A (gup S q (.inr (16, [x0, x1, x2, v, x4, x5, x6, x7, x8, x9, x10])))) := by rw [gpv_at (h.at A) rfl (by simp) hE, gup_o h.2.1]; rfl
theorem r16_47 {x0 x1 x2 x3 x5 x6 x7 x8 x9 x10 : Value} {v : Int32} (h : Cel b S q (.inr (16, [x0, x1, x2, x3, .int v, x5, x6, x7, x8, x9, x10]))) (A : FA) (K : Int32 → Option β) : ggi (put b A S) (some q) 47 K = K v := ggi_at (h.at A) rfl rfl K
theorem w16_47 {x0 x1 x2 x3 x4 x5 x6 x7 x8 x9 x10 : Value} (h : Cel b S q (.inr (16, [x0, x1, x2, x3, x4, x5, x6, x7, x8, x9, x10]))) (hE : E.1 ≤ q) (A : FA) (v : Value) (K : GS → Option β) : gpv E (put b A S) (some q) 47 v K = K (put b A (gup S q (.inr (16, [x0, x1, x2, x3, v, x5, x6, x7, x8, x9, x10])))) := by rw [gpv_at (h.at A) rfl (by simp) hE, gup_o h.2.1]; rfl
theorem r16_48 {x0 x1 x2 x3 x4 x6 x7 x8 x9 x10 : Value} {v : Int32} (h : Cel b S q (.inr (16, [x0, x1, x2, x3, x4, .int v, x6, x7, x8, x9, x10]))) (A : FA) (K : Int32 → Option β) : ggi (put b A S) (some q) 48 K = K v := ggi_at (h.at A) rfl rfl K
theorem w16_48 {x0 x1 x2 x3 x4 x5 x6 x7 x8 x9 x10 : Value} (h : Cel b S q (.inr (16, [x0, x1, x2, x3, x4, x5, x6, x7, x8, x9, x10]))) (hE : E.1 ≤ q) (A : FA) (v : Value) (K : GS → Option β) : gpv E (put b A S) (some q) 48 v K = K (put b A (gup S q (.inr (16, [x0, x1, x2, x3, x4, v, x6, x7, x8, x9, x10])))) := by rw [gpv_at (h.at A) rfl (by simp) hE, gup_o h.2.1]; rfl
theorem r16_49 {x0 x1 x2 x3 x4 x5 x7 x8 x9 x10 : Value} {v : Int32} (h : Cel b S q (.inr (16, [x0, x1, x2, x3, x4, x5, .int v, x7, x8, x9, x10]))) (A : FA) (K : Int32 → Option β) : ggi (put b A S) (some q) 49 K = K v := ggi_at (h.at A) rfl rfl K
theorem w16_49 {x0 x1 x2 x3 x4 x5 x6 x7 x8 x9 x10 : Value} (h : Cel b S q (.inr (16, [x0, x1, x2, x3, x4, x5, x6, x7, x8, x9, x10]))) (hE : E.1 ≤ q) (A : FA) (v : Value) (K : GS → Option β) : gpv E (put b A S) (some q) 49 v K = K (put b A (gup S q (.inr (16, [x0, x1, x2, x3, x4, x5, v, x7, x8, x9, x10])))) := by rw [gpv_at (h.at A) rfl (by simp) hE, gup_o h.2.1]; rfl
theorem r16_50 {x0 x1 x2 x3 x4 x5 x6 x8 x9 x10 : Value} {v : Int32} (h : Cel b S q (.inr (16, [x0, x1, x2, x3, x4, x5, x6, .int v, x8, x9, x10]))) (A : FA) (K : Int32 → Option β) : ggi (put b A S) (some q) 50 K = K v := ggi_at (h.at A) rfl rfl K
theorem w16_50 {x0 x1 x2 x3 x4 x5 x6 x7 x8 x9 x10 : Value} (h : Cel b S q (.inr (16, [x0, x1, x2, x3, x4, x5, x6, x7, x8, x9, x10]))) (hE : E.1 ≤ q) (A : FA) (v : Value) (K : GS → Option β) : gpv E (put b A S) (some q) 50 v K = K (put b A (gup S q (.inr (16, [x0, x1, x2, x3, x4, x5, x6, v, x8, x9, x10])))) := by rw [gpv_at (h.at A) rfl (by simp) hE, gup_o h.2.1]; rfl
theorem r16_51 {x0 x1 x2 x3 x4 x5 x6 x7 x9 x10 : Value} {v : Nat} (h : Cel b S q (.inr (16, [x0, x1, x2, x3, x4, x5, x6, x7, .ref v, x9, x10]))) (A : FA) (K : Option Nat → Option β) : ggr (put b A S) (some q) 51 K = K (some v) := ggr_as (h.at A) rfl rfl K
theorem n16_51 {x0 x1 x2 x3 x4 x5 x6 x7 x9 x10 : Value} {v : Option Nat} (h : Cel b S q (.inr (16, [x0, x1, x2, x3, x4, x5, x6, x7, va_rf v, x9, x10]))) (A : FA) (K : Option Nat → Option β) : ggr (put b A S) (some q) 51 K = K v := ggr_at (h.at A) rfl rfl K
theorem w16_51 {x0 x1 x2 x3 x4 x5 x6 x7 x8 x9 x10 : Value} (h : Cel b S q (.inr (16, [x0, x1, x2, x3, x4, x5, x6, x7, x8, x9, x10]))) (hE : E.1 ≤ q) (A : FA) (v : Value) (K : GS → Option β) : gpv E (put b A S) (some q) 51 v K = K (put b A (gup S q (.inr (16, [x0, x1, x2, x3, x4, x5, x6, x7, v, x9, x10])))) := by rw [gpv_at (h.at A) rfl (by simp) hE, gup_o h.2.1]; rfl
theorem r16_94 {x0 x1 x2 x3 x4 x5 x6 x7 x8 x10 : Value} {v : Nat} (h : Cel b S q (.inr (16, [x0, x1, x2, x3, x4, x5, x6, x7, x8, .ref v, x10]))) (A : FA) (K : Option Nat → Option β) : ggr (put b A S) (some q) 94 K = K (some v) := ggr_as (h.at A) rfl rfl K
theorem n16_94 {x0 x1 x2 x3 x4 x5 x6 x7 x8 x10 : Value} {v : Option Nat} (h : Cel b S q (.inr (16, [x0, x1, x2, x3, x4, x5, x6, x7, x8, va_rf v, x10]))) (A : FA) (K : Option Nat → Option β) : ggr (put b A S) (some q) 94 K = K v := ggr_at (h.at A) rfl rfl K
theorem w16_94 {x0 x1 x2 x3 x4 x5 x6 x7 x8 x9 x10 : Value} (h : Cel b S q (.inr (16, [x0, x1, x2, x3, x4, x5, x6, x7, x8, x9, x10]))) (hE : E.1 ≤ q) (A : FA) (v : Value) (K : GS → Option β) : gpv E (put b A S) (some q) 94 v K = K (put b A (gup S q (.inr (16, [x0, x1, x2, x3, x4, x5, x6, x7, x8, v, x10])))) := by rw [gpv_at (h.at A) rfl (by simp) hE, gup_o h.2.1]; rfl
theorem r16_95 {x0 x1 x2 x3 x4 x5 x6 x7 x8 x9 : Value} {v : Nat} (h : Cel b S q (.inr (16, [x0, x1, x2, x3, x4, x5, x6, x7, x8, x9, .ref v]))) (A : FA) (K : Option Nat → Option β) : ggr (put b A S) (some q) 95 K = K (some v) := ggr_as (h.at A) rfl rfl K
theorem n16_95 {x0 x1 x2 x3 x4 x5 x6 x7 x8 x9 : Value} {v : Option Nat} (h : Cel b S q (.inr (16, [x0, x1, x2, x3, x4, x5, x6, x7, x8, x9, va_rf v]))) (A : FA) (K : Option Nat → Option β) : ggr (put b A S) (some q) 95 K = K v := ggr_at (h.at A) rfl rfl K
theorem w16_95 {x0 x1 x2 x3 x4 x5 x6 x7 x8 x9 x10 : Value} (h : Cel b S q (.inr (16, [x0, x1, x2, x3, x4, x5, x6, x7, x8, x9, x10]))) (hE : E.1 ≤ q) (A : FA) (v : Value) (K : GS → Option β) : gpv E (put b A S) (some q) 95 v K = K (put b A (gup S q (.inr (16, [x0, x1, x2, x3, x4, x5, x6, x7, x8, x9, v])))) := by rw [gpv_at (h.at A) rfl (by simp) hE, gup_o h.2.1]; rfl
theorem r17_96 {v : Int32} (h : Cel b S q (.inr (17, [.int v]))) (A : FA) (K : Int32 → Option β) : ggi (put b A S) (some q) 96 K = K v := ggi_at (h.at A) rfl rfl K
theorem w17_96 {x0 : Value} (h : Cel b S q (.inr (17, [x0]))) (hE : E.1 ≤ q) (A : FA) (v : Value) (K : GS → Option β) : gpv E (put b A S) (some q) 96 v K = K (put b A (gup S q (.inr (17, [v])))) := by rw [gpv_at (h.at A) rfl (by simp) hE, gup_o h.2.1]; rfl
theorem r18_43 {x1 x2 x3 x4 x5 x6 x7 x8 x9 x10 x11 : Value} {v : Nat} (h : Cel b S q (.inr (18, [.ref v, x1, x2, x3, x4, x5, x6, x7, x8, x9, x10, x11]))) (A : FA) (K : Option Nat → Option β) : ggr (put b A S) (some q) 43 K = K (some v) := ggr_as (h.at A) rfl rfl K
theorem n18_43 {x1 x2 x3 x4 x5 x6 x7 x8 x9 x10 x11 : Value} {v : Option Nat} (h : Cel b S q (.inr (18, [va_rf v, x1, x2, x3, x4, x5, x6, x7, x8, x9, x10, x11]))) (A : FA) (K : Option Nat → Option β) : ggr (put b A S) (some q) 43 K = K v := ggr_at (h.at A) rfl rfl K
theorem w18_43 {x0 x1 x2 x3 x4 x5 x6 x7 x8 x9 x10 x11 : Value} (h : Cel b S q (.inr (18, [x0, x1, x2, x3, x4, x5, x6, x7, x8, x9, x10, x11]))) (hE : E.1 ≤ q) (A : FA) (v : Value) (K : GS → Option β) : gpv E (put b A S) (some q) 43 v K = K (put b A (gup S q (.inr (18, [v, x1, x2, x3, x4, x5, x6, x7, x8, x9, x10, x11])))) := by rw [gpv_at (h.at A) rfl (by simp) hE, gup_o h.2.1]; rfl
theorem r18_44 {x0 x2 x3 x4 x5 x6 x7 x8 x9 x10 x11 : Value} {v : Int32} (h : Cel b S q (.inr (18, [x0, .int v, x2, x3, x4, x5, x6, x7, x8, x9, x10, x11]))) (A : FA) (K : Int32 → Option β) : ggi (put b A S) (some q) 44 K = K v := ggi_at (h.at A) rfl rfl K
theorem w18_44 {x0 x1 x2 x3 x4 x5 x6 x7 x8 x9 x10 x11 : Value} (h : Cel b S q (.inr (18, [x0, x1, x2, x3, x4, x5, x6, x7, x8, x9, x10, x11]))) (hE : E.1 ≤ q) (A : FA) (v : Value) (K : GS → Option β) : gpv E (put b A S) (some q) 44 v K = K (put b A (gup S q (.inr (18, [x0, v, x2, x3, x4, x5, x6, x7, x8, x9, x10, x11])))) := by rw [gpv_at (h.at A) rfl (by simp) hE, gup_o h.2.1]; rfl
theorem r18_45 {x0 x1 x3 x4 x5 x6 x7 x8 x9 x10 x11 : Value} {v : Int32} (h : Cel b S q (.inr (18, [x0, x1, .int v, x3, x4, x5, x6, x7, x8, x9, x10, x11]))) (A : FA) (K : Int32 → Option β) : ggi (put b A S) (some q) 45 K = K v := ggi_at (h.at A) rfl rfl K
theorem w18_45 {x0 x1 x2 x3 x4 x5 x6 x7 x8 x9 x10 x11 : Value} (h : Cel b S q (.inr (18, [x0, x1, x2, x3, x4, x5, x6, x7, x8, x9, x10, x11]))) (hE : E.1 ≤ q) (A : FA) (v : Value) (K : GS → Option β) : gpv E (put b A S) (some q) 45 v K = K (put b A (gup S q (.inr (18, [x0, x1, v, x3, x4, x5, x6, x7, x8, x9, x10, x11])))) := by rw [gpv_at (h.at A) rfl (by simp) hE, gup_o h.2.1]; rfl
theorem r18_46 {x0 x1 x2 x4 x5 x6 x7 x8 x9 x10 x11 : Value} {v : Int32} (h : Cel b S q (.inr (18, [x0, x1, x2, .int v, x4, x5, x6, x7, x8, x9, x10, x11]))) (A : FA) (K : Int32 → Option β) : ggi (put b A S) (some q) 46 K = K v := ggi_at (h.at A) rfl rfl K
theorem w18_46 {x0 x1 x2 x3 x4 x5 x6 x7 x8 x9 x10 x11 : Value} (h : Cel b S q (.inr (18, [x0, x1, x2, x3, x4, x5, x6, x7, x8, x9, x10, x11]))) (hE : E.1 ≤ q) (A : FA) (v : Value) (K : GS → Option β) : gpv E (put b A S) (some q) 46 v K = K (put b A (gup S q (.inr (18, [x0, x1, x2, v, x4, x5, x6, x7, x8, x9, x10, x11])))) := by rw [gpv_at (h.at A) rfl (by simp) hE, gup_o h.2.1]; rfl
theorem r18_47 {x0 x1 x2 x3 x5 x6 x7 x8 x9 x10 x11 : Value} {v : Int32} (h : Cel b S q (.inr (18, [x0, x1, x2, x3, .int v, x5, x6, x7, x8, x9, x10, x11]))) (A : FA) (K : Int32 → Option β) : ggi (put b A S) (some q) 47 K = K v := ggi_at (h.at A) rfl rfl K
theorem w18_47 {x0 x1 x2 x3 x4 x5 x6 x7 x8 x9 x10 x11 : Value} (h : Cel b S q (.inr (18, [x0, x1, x2, x3, x4, x5, x6, x7, x8, x9, x10, x11]))) (hE : E.1 ≤ q) (A : FA) (v : Value) (K : GS → Option β) : gpv E (put b A S) (some q) 47 v K = K (put b A (gup S q (.inr (18, [x0, x1, x2, x3, v, x5, x6, x7, x8, x9, x10, x11])))) := by rw [gpv_at (h.at A) rfl (by simp) hE, gup_o h.2.1]; rfl
theorem r18_48 {x0 x1 x2 x3 x4 x6 x7 x8 x9 x10 x11 : Value} {v : Int32} (h : Cel b S q (.inr (18, [x0, x1, x2, x3, x4, .int v, x6, x7, x8, x9, x10, x11]))) (A : FA) (K : Int32 → Option β) : ggi (put b A S) (some q) 48 K = K v := ggi_at (h.at A) rfl rfl K
theorem w18_48 {x0 x1 x2 x3 x4 x5 x6 x7 x8 x9 x10 x11 : Value} (h : Cel b S q (.inr (18, [x0, x1, x2, x3, x4, x5, x6, x7, x8, x9, x10, x11]))) (hE : E.1 ≤ q) (A : FA) (v : Value) (K : GS → Option β) : gpv E (put b A S) (some q) 48 v K = K (put b A (gup S q (.inr (18, [x0, x1, x2, x3, x4, v, x6, x7, x8, x9, x10, x11])))) := by rw [gpv_at (h.at A) rfl (by simp) hE, gup_o h.2.1]; rfl
theorem r18_49 {x0 x1 x2 x3 x4 x5 x7 x8 x9 x10 x11 : Value} {v : Int32} (h : Cel b S q (.inr (18, [x0, x1, x2, x3, x4, x5, .int v, x7, x8, x9, x10, x11]))) (A : FA) (K : Int32 → Option β) : ggi (put b A S) (some q) 49 K = K v := ggi_at (h.at A) rfl rfl K
theorem w18_49 {x0 x1 x2 x3 x4 x5 x6 x7 x8 x9 x10 x11 : Value} (h : Cel b S q (.inr (18, [x0, x1, x2, x3, x4, x5, x6, x7, x8, x9, x10, x11]))) (hE : E.1 ≤ q) (A : FA) (v : Value) (K : GS → Option β) : gpv E (put b A S) (some q) 49 v K = K (put b A (gup S q (.inr (18, [x0, x1, x2, x3, x4, x5, v, x7, x8, x9, x10, x11])))) := by rw [gpv_at (h.at A) rfl (by simp) hE, gup_o h.2.1]; rfl
theorem r18_50 {x0 x1 x2 x3 x4 x5 x6 x8 x9 x10 x11 : Value} {v : Int32} (h : Cel b S q (.inr (18, [x0, x1, x2, x3, x4, x5, x6, .int v, x8, x9, x10, x11]))) (A : FA) (K : Int32 → Option β) : ggi (put b A S) (some q) 50 K = K v := ggi_at (h.at A) rfl rfl K
theorem w18_50 {x0 x1 x2 x3 x4 x5 x6 x7 x8 x9 x10 x11 : Value} (h : Cel b S q (.inr (18, [x0, x1, x2, x3, x4, x5, x6, x7, x8, x9, x10, x11]))) (hE : E.1 ≤ q) (A : FA) (v : Value) (K : GS → Option β) : gpv E (put b A S) (some q) 50 v K = K (put b A (gup S q (.inr (18, [x0, x1, x2, x3, x4, x5, x6, v, x8, x9, x10, x11])))) := by rw [gpv_at (h.at A) rfl (by simp) hE, gup_o h.2.1]; rfl
theorem r18_51 {x0 x1 x2 x3 x4 x5 x6 x7 x9 x10 x11 : Value} {v : Nat} (h : Cel b S q (.inr (18, [x0, x1, x2, x3, x4, x5, x6, x7, .ref v, x9, x10, x11]))) (A : FA) (K : Option Nat → Option β) : ggr (put b A S) (some q) 51 K = K (some v) := ggr_as (h.at A) rfl rfl K
theorem n18_51 {x0 x1 x2 x3 x4 x5 x6 x7 x9 x10 x11 : Value} {v : Option Nat} (h : Cel b S q (.inr (18, [x0, x1, x2, x3, x4, x5, x6, x7, va_rf v, x9, x10, x11]))) (A : FA) (K : Option Nat → Option β) : ggr (put b A S) (some q) 51 K = K v := ggr_at (h.at A) rfl rfl K
theorem w18_51 {x0 x1 x2 x3 x4 x5 x6 x7 x8 x9 x10 x11 : Value} (h : Cel b S q (.inr (18, [x0, x1, x2, x3, x4, x5, x6, x7, x8, x9, x10, x11]))) (hE : E.1 ≤ q) (A : FA) (v : Value) (K : GS → Option β) : gpv E (put b A S) (some q) 51 v K = K (put b A (gup S q (.inr (18, [x0, x1, x2, x3, x4, x5, x6, x7, v, x9, x10, x11])))) := by rw [gpv_at (h.at A) rfl (by simp) hE, gup_o h.2.1]; rfl
theorem r18_97 {x0 x1 x2 x3 x4 x5 x6 x7 x8 x10 x11 : Value} {v : Nat} (h : Cel b S q (.inr (18, [x0, x1, x2, x3, x4, x5, x6, x7, x8, .ref v, x10, x11]))) (A : FA) (K : Option Nat → Option β) : ggr (put b A S) (some q) 97 K = K (some v) := ggr_as (h.at A) rfl rfl K
theorem n18_97 {x0 x1 x2 x3 x4 x5 x6 x7 x8 x10 x11 : Value} {v : Option Nat} (h : Cel b S q (.inr (18, [x0, x1, x2, x3, x4, x5, x6, x7, x8, va_rf v, x10, x11]))) (A : FA) (K : Option Nat → Option β) : ggr (put b A S) (some q) 97 K = K v := ggr_at (h.at A) rfl rfl K
theorem w18_97 {x0 x1 x2 x3 x4 x5 x6 x7 x8 x9 x10 x11 : Value} (h : Cel b S q (.inr (18, [x0, x1, x2, x3, x4, x5, x6, x7, x8, x9, x10, x11]))) (hE : E.1 ≤ q) (A : FA) (v : Value) (K : GS → Option β) : gpv E (put b A S) (some q) 97 v K = K (put b A (gup S q (.inr (18, [x0, x1, x2, x3, x4, x5, x6, x7, x8, v, x10, x11])))) := by rw [gpv_at (h.at A) rfl (by simp) hE, gup_o h.2.1]; rfl
theorem r18_98 {x0 x1 x2 x3 x4 x5 x6 x7 x8 x9 x11 : Value} {v : Int32} (h : Cel b S q (.inr (18, [x0, x1, x2, x3, x4, x5, x6, x7, x8, x9, .int v, x11]))) (A : FA) (K : Int32 → Option β) : ggi (put b A S) (some q) 98 K = K v := ggi_at (h.at A) rfl rfl K
theorem w18_98 {x0 x1 x2 x3 x4 x5 x6 x7 x8 x9 x10 x11 : Value} (h : Cel b S q (.inr (18, [x0, x1, x2, x3, x4, x5, x6, x7, x8, x9, x10, x11]))) (hE : E.1 ≤ q) (A : FA) (v : Value) (K : GS → Option β) : gpv E (put b A S) (some q) 98 v K = K (put b A (gup S q (.inr (18, [x0, x1, x2, x3, x4, x5, x6, x7, x8, x9, v, x11])))) := by rw [gpv_at (h.at A) rfl (by simp) hE, gup_o h.2.1]; rfl
theorem r18_99 {x0 x1 x2 x3 x4 x5 x6 x7 x8 x9 x10 : Value} {v : Int32} (h : Cel b S q (.inr (18, [x0, x1, x2, x3, x4, x5, x6, x7, x8, x9, x10, .int v]))) (A : FA) (K : Int32 → Option β) : ggi (put b A S) (some q) 99 K = K v := ggi_at (h.at A) rfl rfl K
theorem w18_99 {x0 x1 x2 x3 x4 x5 x6 x7 x8 x9 x10 x11 : Value} (h : Cel b S q (.inr (18, [x0, x1, x2, x3, x4, x5, x6, x7, x8, x9, x10, x11]))) (hE : E.1 ≤ q) (A : FA) (v : Value) (K : GS → Option β) : gpv E (put b A S) (some q) 99 v K = K (put b A (gup S q (.inr (18, [x0, x1, x2, x3, x4, x5, x6, x7, x8, x9, x10, v])))) := by rw [gpv_at (h.at A) rfl (by simp) hE, gup_o h.2.1]; rfl
theorem r19_100 {v : Nat} (h : Cel b S q (.inr (19, [.ref v]))) (A : FA) (K : Option Nat → Option β) : ggr (put b A S) (some q) 100 K = K (some v) := ggr_as (h.at A) rfl rfl K
theorem n19_100 {v : Option Nat} (h : Cel b S q (.inr (19, [va_rf v]))) (A : FA) (K : Option Nat → Option β) : ggr (put b A S) (some q) 100 K = K v := ggr_at (h.at A) rfl rfl K
theorem w19_100 {x0 : Value} (h : Cel b S q (.inr (19, [x0]))) (hE : E.1 ≤ q) (A : FA) (v : Value) (K : GS → Option β) : gpv E (put b A S) (some q) 100 v K = K (put b A (gup S q (.inr (19, [v])))) := by rw [gpv_at (h.at A) rfl (by simp) hE, gup_o h.2.1]; rfl
theorem r20_101 {v : Int32} (h : Cel b S q (.inr (20, [.int v]))) (A : FA) (K : Int32 → Option β) : ggi (put b A S) (some q) 101 K = K v := ggi_at (h.at A) rfl rfl K
theorem w20_101 {x0 : Value} (h : Cel b S q (.inr (20, [x0]))) (hE : E.1 ≤ q) (A : FA) (v : Value) (K : GS → Option β) : gpv E (put b A S) (some q) 101 v K = K (put b A (gup S q (.inr (20, [v])))) := by rw [gpv_at (h.at A) rfl (by simp) hE, gup_o h.2.1]; rfl
theorem r21_102 {x1 : Value} {v : Int32} (h : Cel b S q (.inr (21, [.int v, x1]))) (A : FA) (K : Int32 → Option β) : ggi (put b A S) (some q) 102 K = K v := ggi_at (h.at A) rfl rfl K
theorem w21_102 {x0 x1 : Value} (h : Cel b S q (.inr (21, [x0, x1]))) (hE : E.1 ≤ q) (A : FA) (v : Value) (K : GS → Option β) : gpv E (put b A S) (some q) 102 v K = K (put b A (gup S q (.inr (21, [v, x1])))) := by rw [gpv_at (h.at A) rfl (by simp) hE, gup_o h.2.1]; rfl
theorem r21_103 {x0 : Value} {v : Int32} (h : Cel b S q (.inr (21, [x0, .int v]))) (A : FA) (K : Int32 → Option β) : ggi (put b A S) (some q) 103 K = K v := ggi_at (h.at A) rfl rfl K
theorem w21_103 {x0 x1 : Value} (h : Cel b S q (.inr (21, [x0, x1]))) (hE : E.1 ≤ q) (A : FA) (v : Value) (K : GS → Option β) : gpv E (put b A S) (some q) 103 v K = K (put b A (gup S q (.inr (21, [x0, v])))) := by rw [gpv_at (h.at A) rfl (by simp) hE, gup_o h.2.1]; rfl
theorem r22_104 {x1 x2 : Value} {v : Int32} (h : Cel b S q (.inr (22, [.int v, x1, x2]))) (A : FA) (K : Int32 → Option β) : ggi (put b A S) (some q) 104 K = K v := ggi_at (h.at A) rfl rfl K
theorem w22_104 {x0 x1 x2 : Value} (h : Cel b S q (.inr (22, [x0, x1, x2]))) (hE : E.1 ≤ q) (A : FA) (v : Value) (K : GS → Option β) : gpv E (put b A S) (some q) 104 v K = K (put b A (gup S q (.inr (22, [v, x1, x2])))) := by rw [gpv_at (h.at A) rfl (by simp) hE, gup_o h.2.1]; rfl
theorem r22_105 {x0 x2 : Value} {v : Int32} (h : Cel b S q (.inr (22, [x0, .int v, x2]))) (A : FA) (K : Int32 → Option β) : ggi (put b A S) (some q) 105 K = K v := ggi_at (h.at A) rfl rfl K
theorem w22_105 {x0 x1 x2 : Value} (h : Cel b S q (.inr (22, [x0, x1, x2]))) (hE : E.1 ≤ q) (A : FA) (v : Value) (K : GS → Option β) : gpv E (put b A S) (some q) 105 v K = K (put b A (gup S q (.inr (22, [x0, v, x2])))) := by rw [gpv_at (h.at A) rfl (by simp) hE, gup_o h.2.1]; rfl
theorem r22_106 {x0 x1 : Value} {v : Int32} (h : Cel b S q (.inr (22, [x0, x1, .int v]))) (A : FA) (K : Int32 → Option β) : ggi (put b A S) (some q) 106 K = K v := ggi_at (h.at A) rfl rfl K
theorem w22_106 {x0 x1 x2 : Value} (h : Cel b S q (.inr (22, [x0, x1, x2]))) (hE : E.1 ≤ q) (A : FA) (v : Value) (K : GS → Option β) : gpv E (put b A S) (some q) 106 v K = K (put b A (gup S q (.inr (22, [x0, x1, v])))) := by rw [gpv_at (h.at A) rfl (by simp) hE, gup_o h.2.1]; rfl
theorem r23_107 {x1 x2 : Value} {v : Nat} (h : Cel b S q (.inr (23, [.ref v, x1, x2]))) (A : FA) (K : Option Nat → Option β) : ggr (put b A S) (some q) 107 K = K (some v) := ggr_as (h.at A) rfl rfl K
theorem n23_107 {x1 x2 : Value} {v : Option Nat} (h : Cel b S q (.inr (23, [va_rf v, x1, x2]))) (A : FA) (K : Option Nat → Option β) : ggr (put b A S) (some q) 107 K = K v := ggr_at (h.at A) rfl rfl K
theorem w23_107 {x0 x1 x2 : Value} (h : Cel b S q (.inr (23, [x0, x1, x2]))) (hE : E.1 ≤ q) (A : FA) (v : Value) (K : GS → Option β) : gpv E (put b A S) (some q) 107 v K = K (put b A (gup S q (.inr (23, [v, x1, x2])))) := by rw [gpv_at (h.at A) rfl (by simp) hE, gup_o h.2.1]; rfl
theorem r23_108 {x0 x2 : Value} {v : Nat} (h : Cel b S q (.inr (23, [x0, .ref v, x2]))) (A : FA) (K : Option Nat → Option β) : ggr (put b A S) (some q) 108 K = K (some v) := ggr_as (h.at A) rfl rfl K
theorem n23_108 {x0 x2 : Value} {v : Option Nat} (h : Cel b S q (.inr (23, [x0, va_rf v, x2]))) (A : FA) (K : Option Nat → Option β) : ggr (put b A S) (some q) 108 K = K v := ggr_at (h.at A) rfl rfl K
theorem w23_108 {x0 x1 x2 : Value} (h : Cel b S q (.inr (23, [x0, x1, x2]))) (hE : E.1 ≤ q) (A : FA) (v : Value) (K : GS → Option β) : gpv E (put b A S) (some q) 108 v K = K (put b A (gup S q (.inr (23, [x0, v, x2])))) := by rw [gpv_at (h.at A) rfl (by simp) hE, gup_o h.2.1]; rfl
theorem r23_109 {x0 x1 : Value} {v : Int32} (h : Cel b S q (.inr (23, [x0, x1, .int v]))) (A : FA) (K : Int32 → Option β) : ggi (put b A S) (some q) 109 K = K v := ggi_at (h.at A) rfl rfl K
theorem w23_109 {x0 x1 x2 : Value} (h : Cel b S q (.inr (23, [x0, x1, x2]))) (hE : E.1 ≤ q) (A : FA) (v : Value) (K : GS → Option β) : gpv E (put b A S) (some q) 109 v K = K (put b A (gup S q (.inr (23, [x0, x1, v])))) := by rw [gpv_at (h.at A) rfl (by simp) hE, gup_o h.2.1]; rfl
theorem r24_110 {x1 x2 : Value} {v : Int32} (h : Cel b S q (.inr (24, [.int v, x1, x2]))) (A : FA) (K : Int32 → Option β) : ggi (put b A S) (some q) 110 K = K v := ggi_at (h.at A) rfl rfl K
theorem w24_110 {x0 x1 x2 : Value} (h : Cel b S q (.inr (24, [x0, x1, x2]))) (hE : E.1 ≤ q) (A : FA) (v : Value) (K : GS → Option β) : gpv E (put b A S) (some q) 110 v K = K (put b A (gup S q (.inr (24, [v, x1, x2])))) := by rw [gpv_at (h.at A) rfl (by simp) hE, gup_o h.2.1]; rfl
theorem r24_111 {x0 x2 : Value} {v : Nat} (h : Cel b S q (.inr (24, [x0, .ref v, x2]))) (A : FA) (K : Option Nat → Option β) : ggr (put b A S) (some q) 111 K = K (some v) := ggr_as (h.at A) rfl rfl K
theorem n24_111 {x0 x2 : Value} {v : Option Nat} (h : Cel b S q (.inr (24, [x0, va_rf v, x2]))) (A : FA) (K : Option Nat → Option β) : ggr (put b A S) (some q) 111 K = K v := ggr_at (h.at A) rfl rfl K
theorem w24_111 {x0 x1 x2 : Value} (h : Cel b S q (.inr (24, [x0, x1, x2]))) (hE : E.1 ≤ q) (A : FA) (v : Value) (K : GS → Option β) : gpv E (put b A S) (some q) 111 v K = K (put b A (gup S q (.inr (24, [x0, v, x2])))) := by rw [gpv_at (h.at A) rfl (by simp) hE, gup_o h.2.1]; rfl
theorem r24_112 {x0 x1 : Value} {v : Int32} (h : Cel b S q (.inr (24, [x0, x1, .int v]))) (A : FA) (K : Int32 → Option β) : ggi (put b A S) (some q) 112 K = K v := ggi_at (h.at A) rfl rfl K
theorem w24_112 {x0 x1 x2 : Value} (h : Cel b S q (.inr (24, [x0, x1, x2]))) (hE : E.1 ≤ q) (A : FA) (v : Value) (K : GS → Option β) : gpv E (put b A S) (some q) 112 v K = K (put b A (gup S q (.inr (24, [x0, x1, v])))) := by rw [gpv_at (h.at A) rfl (by simp) hE, gup_o h.2.1]; rfl
theorem r25_113 {x1 x2 x3 : Value} {v : Nat} (h : Cel b S q (.inr (25, [.ref v, x1, x2, x3]))) (A : FA) (K : Option Nat → Option β) : ggr (put b A S) (some q) 113 K = K (some v) := ggr_as (h.at A) rfl rfl K
theorem n25_113 {x1 x2 x3 : Value} {v : Option Nat} (h : Cel b S q (.inr (25, [va_rf v, x1, x2, x3]))) (A : FA) (K : Option Nat → Option β) : ggr (put b A S) (some q) 113 K = K v := ggr_at (h.at A) rfl rfl K
theorem w25_113 {x0 x1 x2 x3 : Value} (h : Cel b S q (.inr (25, [x0, x1, x2, x3]))) (hE : E.1 ≤ q) (A : FA) (v : Value) (K : GS → Option β) : gpv E (put b A S) (some q) 113 v K = K (put b A (gup S q (.inr (25, [v, x1, x2, x3])))) := by rw [gpv_at (h.at A) rfl (by simp) hE, gup_o h.2.1]; rfl
theorem r25_114 {x0 x2 x3 : Value} {v : Int32} (h : Cel b S q (.inr (25, [x0, .int v, x2, x3]))) (A : FA) (K : Int32 → Option β) : ggi (put b A S) (some q) 114 K = K v := ggi_at (h.at A) rfl rfl K
theorem w25_114 {x0 x1 x2 x3 : Value} (h : Cel b S q (.inr (25, [x0, x1, x2, x3]))) (hE : E.1 ≤ q) (A : FA) (v : Value) (K : GS → Option β) : gpv E (put b A S) (some q) 114 v K = K (put b A (gup S q (.inr (25, [x0, v, x2, x3])))) := by rw [gpv_at (h.at A) rfl (by simp) hE, gup_o h.2.1]; rfl
theorem r25_115 {x0 x1 x3 : Value} {v : Int32} (h : Cel b S q (.inr (25, [x0, x1, .int v, x3]))) (A : FA) (K : Int32 → Option β) : ggi (put b A S) (some q) 115 K = K v := ggi_at (h.at A) rfl rfl K
theorem w25_115 {x0 x1 x2 x3 : Value} (h : Cel b S q (.inr (25, [x0, x1, x2, x3]))) (hE : E.1 ≤ q) (A : FA) (v : Value) (K : GS → Option β) : gpv E (put b A S) (some q) 115 v K = K (put b A (gup S q (.inr (25, [x0, x1, v, x3])))) := by rw [gpv_at (h.at A) rfl (by simp) hE, gup_o h.2.1]; rfl
theorem r25_116 {x0 x1 x2 : Value} {v : Int32} (h : Cel b S q (.inr (25, [x0, x1, x2, .int v]))) (A : FA) (K : Int32 → Option β) : ggi (put b A S) (some q) 116 K = K v := ggi_at (h.at A) rfl rfl K
theorem w25_116 {x0 x1 x2 x3 : Value} (h : Cel b S q (.inr (25, [x0, x1, x2, x3]))) (hE : E.1 ≤ q) (A : FA) (v : Value) (K : GS → Option β) : gpv E (put b A S) (some q) 116 v K = K (put b A (gup S q (.inr (25, [x0, x1, x2, v])))) := by rw [gpv_at (h.at A) rfl (by simp) hE, gup_o h.2.1]; rfl
theorem r26_117 {x1 x2 x3 : Value} {v : Nat} (h : Cel b S q (.inr (26, [.ref v, x1, x2, x3]))) (A : FA) (K : Option Nat → Option β) : ggr (put b A S) (some q) 117 K = K (some v) := ggr_as (h.at A) rfl rfl K
theorem n26_117 {x1 x2 x3 : Value} {v : Option Nat} (h : Cel b S q (.inr (26, [va_rf v, x1, x2, x3]))) (A : FA) (K : Option Nat → Option β) : ggr (put b A S) (some q) 117 K = K v := ggr_at (h.at A) rfl rfl K
theorem w26_117 {x0 x1 x2 x3 : Value} (h : Cel b S q (.inr (26, [x0, x1, x2, x3]))) (hE : E.1 ≤ q) (A : FA) (v : Value) (K : GS → Option β) : gpv E (put b A S) (some q) 117 v K = K (put b A (gup S q (.inr (26, [v, x1, x2, x3])))) := by rw [gpv_at (h.at A) rfl (by simp) hE, gup_o h.2.1]; rfl
theorem r26_118 {x0 x2 x3 : Value} {v : Int32} (h : Cel b S q (.inr (26, [x0, .int v, x2, x3]))) (A : FA) (K : Int32 → Option β) : ggi (put b A S) (some q) 118 K = K v := ggi_at (h.at A) rfl rfl K
theorem w26_118 {x0 x1 x2 x3 : Value} (h : Cel b S q (.inr (26, [x0, x1, x2, x3]))) (hE : E.1 ≤ q) (A : FA) (v : Value) (K : GS → Option β) : gpv E (put b A S) (some q) 118 v K = K (put b A (gup S q (.inr (26, [x0, v, x2, x3])))) := by rw [gpv_at (h.at A) rfl (by simp) hE, gup_o h.2.1]; rfl
theorem r26_119 {x0 x1 x3 : Value} {v : Int32} (h : Cel b S q (.inr (26, [x0, x1, .int v, x3]))) (A : FA) (K : Int32 → Option β) : ggi (put b A S) (some q) 119 K = K v := ggi_at (h.at A) rfl rfl K
theorem w26_119 {x0 x1 x2 x3 : Value} (h : Cel b S q (.inr (26, [x0, x1, x2, x3]))) (hE : E.1 ≤ q) (A : FA) (v : Value) (K : GS → Option β) : gpv E (put b A S) (some q) 119 v K = K (put b A (gup S q (.inr (26, [x0, x1, v, x3])))) := by rw [gpv_at (h.at A) rfl (by simp) hE, gup_o h.2.1]; rfl
theorem r26_120 {x0 x1 x2 : Value} {v : Int32} (h : Cel b S q (.inr (26, [x0, x1, x2, .int v]))) (A : FA) (K : Int32 → Option β) : ggi (put b A S) (some q) 120 K = K v := ggi_at (h.at A) rfl rfl K
theorem w26_120 {x0 x1 x2 x3 : Value} (h : Cel b S q (.inr (26, [x0, x1, x2, x3]))) (hE : E.1 ≤ q) (A : FA) (v : Value) (K : GS → Option β) : gpv E (put b A S) (some q) 120 v K = K (put b A (gup S q (.inr (26, [x0, x1, x2, v])))) := by rw [gpv_at (h.at A) rfl (by simp) hE, gup_o h.2.1]; rfl
theorem r27_117 {x1 : Value} {v : Nat} (h : Cel b S q (.inr (27, [.ref v, x1]))) (A : FA) (K : Option Nat → Option β) : ggr (put b A S) (some q) 117 K = K (some v) := ggr_as (h.at A) rfl rfl K
theorem n27_117 {x1 : Value} {v : Option Nat} (h : Cel b S q (.inr (27, [va_rf v, x1]))) (A : FA) (K : Option Nat → Option β) : ggr (put b A S) (some q) 117 K = K v := ggr_at (h.at A) rfl rfl K
theorem r27_118 {x0 : Value} {v : Int32} (h : Cel b S q (.inr (27, [x0, .int v]))) (A : FA) (K : Int32 → Option β) : ggi (put b A S) (some q) 118 K = K v := ggi_at (h.at A) rfl rfl K
end FL
/-! lists -/
def LsAt (b : Nat) (S : GS) (l n : Nat) (f : Nat → Nat) : Prop := ∃ e mc cap g, Cel b S l (.inr (24, [.int mc, .ref e, .int (Int32.ofNat n)])) ∧ Cel b S e (.inl (2, cap, .inr (.inr (.inr (.inr g))))) ∧ n ≤ cap ∧ cap ≤ 65536 ∧ ∀ i, i < n → g i = some (f i)
theorem LsAt.ext {b : Nat} {S S' : GS} {l n : Nat} {f : Nat → Nat} (h : LsAt b S l n f) (x : Ext S S') : LsAt b S' l n f := by
  obtain ⟨e, mc, cap, g, h1, h2, h3, h4, h5⟩ := h
  exact ⟨e, mc, cap, g, h1.ext x, h2.ext x, h3, h4, h5⟩
section LS
variable {E : gE} {N b : Nat} {A : FA} {S : GS} {l n : Nat} {f : Nat → Nat}
theorem l_size (h : LsAt b S l n f) : vjava_util_ArrayList_size___I E N (put b A S) (some l) = some (Int32.ofNat n, put b A S) := by
  obtain ⟨e, mc, cap, g, h1, h2, h3, h4, h5⟩ := h
  simp only [vjava_util_ArrayList_size___I, kc h1, if_true, bJ2_size_0, fJ2_size, r24_112 h1]
theorem l_empty (h : LsAt b S l n f) : vjava_util_ArrayList_isEmpty___Z E N (put b A S) (some l) = some (pB (n = 0), put b A S) := by
  obtain ⟨e, mc, cap, g, h1, h2, h3, h4, h5⟩ := h
  simp (disch := omega) only [vjava_util_ArrayList_isEmpty___Z, kc h1, if_true, bJ2_isEmpty_12, bJ2_isEmpty_0, fJ2_isEmpty, r24_112 h1, pq_lit, pq_add, pq_le, pq_lt, pq_eq, pq_en, pq_ne, pq_nle, pq_nlt, pq_len, pq_ltn, pB_z, pB_o, mzt_0, mzt_1, mzt_B, gbd_s, gnn_s, grf_s]
  by_cases e : n = 0 <;> simp [e, pB]
theorem l_get (h : LsAt b S l n f) {i : Nat} (hi : i < n) : vjava_util_ArrayList_get__I_Ljava_lang_Object_ E N (put b A S) (some l) (Int32.ofNat i) = some (some (f i), put b A S) := by
  obtain ⟨e, mc, cap, g, h1, h2, h3, h4, h5⟩ := h
  simp (disch := omega) only [vjava_util_ArrayList_get__I_Ljava_lang_Object_, vjava_util_ArrayList_elementData__I_Ljava_lang_Object_, kc h1, if_true, bJ2_get_0, fJ2_get, bJ2_elementData_0, fJ2_elementData, bJ4_checkIndex_0, fJ4_checkIndex, bJ5_checkIndex_9, bJ5_checkIndex_0, fJ5_checkIndex, r24_112 h1, r24_111 h1, pq_lit, pq_add, pq_le, pq_lt, pq_eq, pq_en, pq_ne, pq_nle, pq_nlt, pq_len, pq_ltn, pB_z, pB_o, mzt_0, mzt_1, mzt_B, gbd_s, gnn_s, grf_s]
  rw [if_neg (by omega), if_pos hi]
  simp (disch := omega) only [pq_lit, pq_add, pq_le, pq_lt, pq_eq, pq_en, pq_ne, pq_nle, pq_nlt, pq_len, pq_ltn, pB_z, pB_o, mzt_0, mzt_1, mzt_B, gbd_s, gnn_s, grf_s, kc h1, if_true, r24_111 h1, gar_at (h2.at A) (And.intro (Nat.le_refl 2) (by omega))]
  rw [h5 i hi]
end LS
/-! the atlas: its lists; lands, roads, persons by number; names of lands, of persons -/
abbrev AD : Type := (Nat × Nat × Nat) × (Nat → Nat) × (Nat → Nat) × (Nat → Nat) × (Nat → Nat) × (Nat → Nat)
def AtD (b : Nat) (S : GS) (a : Nat) (s : St) (d : AD) : Prop :=
  (∃ ln, Cel b S a (.inr (1, [.int ln, .ref d.1.1, .ref d.1.2.1, .ref d.1.2.2]))) ∧ LsAt b S d.1.1 (nL s) d.2.1 ∧ LsAt b S d.1.2.1 (nR s) d.2.2.1 ∧ LsAt b S d.1.2.2 (nP s) d.2.2.2.1 ∧
  (∀ l, l < nL s → ∃ td, Cel b S (d.2.1 l) (.inr (6, [.ref (d.2.2.2.2.1 l), .int (s (3 + l)), .int (s (10 + l)), .int (s (17 + l)), .int (s (72 + l)), .int td]))) ∧
  (∀ r, r < nR s → Cel b S (d.2.2.1 r) (.inr (7, [.int (s (24 + r)), .int (s (36 + r)), .int (s (48 + r)), .int (s (60 + r))]))) ∧
  (∀ p, p < nP s → Cel b S (d.2.2.2.1 p) (.inr (8, [.ref (d.2.2.2.2.2 p), .int (s (79 + p)), .int (s (85 + p))])))
/-- the same map -/
def Mp (s s' : St) : Prop := ∀ k, k < 91 → s' k = s k
theorem Mp.rf {s : St} : Mp s s := fun _ _ => rfl
theorem Mp.tr {s s' s'' : St} (h : Mp s s') (h' : Mp s' s'') : Mp s s'' := fun k hk => (h' k hk).trans (h k hk)
theorem Mp.sy {s s' : St} (h : Mp s s') : Mp s' s := fun k hk => (h k hk).symm
theorem Mp.up {s s' : St} (h : Mp s s') {k : Nat} {v : Int32} (hk : 91 ≤ k) : Mp s (upd s' k v) := fun i hi => by rw [upd_o _ _ (by omega)]; exact h i hi
theorem Mp.eL {s s' : St} (h : Mp s s') : nL s' = nL s := by unfold nL; rw [h 0 (by omega)]
theorem Mp.eR {s s' : St} (h : Mp s s') : nR s' = nR s := by unfold nR; rw [h 1 (by omega)]
theorem Mp.eP {s s' : St} (h : Mp s s') : nP s' = nP s := by unfold nP; rw [h 2 (by omega)]
theorem Mp.eh {s s' : St} (h : Mp s s') {p : Nat} (hp : p < 6) : hm s' p = hm s p := by unfold hm; rw [h _ (by omega)]
theorem AtD.ext {b : Nat} {S S' : GS} {a : Nat} {s : St} {d : AD} (h : AtD b S a s d) (x : Ext S S') : AtD b S' a s d := by
  obtain ⟨⟨ln, h1⟩, h2, h3, h4, h5, h6, h7⟩ := h
  exact ⟨⟨ln, h1.ext x⟩, h2.ext x, h3.ext x, h4.ext x, fun l hl => (h5 l hl).imp fun _ q => q.ext x, fun r hr => (h6 r hr).ext x, fun p hp => (h7 p hp).ext x⟩
theorem AtD.mp {b : Nat} {S : GS} {a : Nat} {s s' : St} {d : AD} (h : AtD b S a s d) (hI : IvS s) (m : Mp s s') : AtD b S a s' d := by
  obtain ⟨h1, h2, h3, h4, h5, h6, h7⟩ := h
  have hl7 := hI.l7
  have hr12 := hI.r12
  have hp6 := hI.p6
  refine ⟨h1, ?_, ?_, ?_, fun l hl => ?_, fun r hr => ?_, fun p hp => ?_⟩
  · rw [m.eL]; exact h2
  · rw [m.eR]; exact h3
  · rw [m.eP]; exact h4
  · rw [m.eL] at hl
    rw [m _ (by omega), m _ (by omega), m _ (by omega), m _ (by omega)]
    exact h5 l hl
  · rw [m.eR] at hr
    rw [m _ (by omega), m _ (by omega), m _ (by omega), m _ (by omega)]
    exact h6 r hr
  · rw [m.eP] at hp
    rw [m _ (by omega), m _ (by omega)]
    exact h7 p hp
section AT
variable {β : Type} {E : gE} {N b : Nat} {A : FA} {S : GS} {a : Nat} {s : St} {d : AD}
theorem a_cls (h : AtD b S a s d) (K : Nat → Nat → Option β) : gvd (put b A S) (some a) K = K a 1 := by
  obtain ⟨⟨ln, h1⟩, h⟩ := h
  exact kc h1 A K
theorem a_25 (h : AtD b S a s d) (K : Option Nat → Option β) : ggr (put b A S) (some a) 25 K = K (some d.1.1) := by
  obtain ⟨⟨ln, h1⟩, h⟩ := h
  exact r1_25 h1 A K
theorem a_26 (h : AtD b S a s d) (K : Option Nat → Option β) : ggr (put b A S) (some a) 26 K = K (some d.1.2.1) := by
  obtain ⟨⟨ln, h1⟩, h⟩ := h
  exact r1_26 h1 A K
theorem a_27 (h : AtD b S a s d) (K : Option Nat → Option β) : ggr (put b A S) (some a) 27 K = K (some d.1.2.2) := by
  obtain ⟨⟨ln, h1⟩, h⟩ := h
  exact r1_27 h1 A K
theorem a_sL (h : AtD b S a s d) : vjava_util_ArrayList_size___I E N (put b A S) (some d.1.1) = some (Int32.ofNat (nL s), put b A S) := l_size h.2.1
theorem a_sR (h : AtD b S a s d) : vjava_util_ArrayList_size___I E N (put b A S) (some d.1.2.1) = some (Int32.ofNat (nR s), put b A S) := l_size h.2.2.1
theorem a_sP (h : AtD b S a s d) : vjava_util_ArrayList_size___I E N (put b A S) (some d.1.2.2) = some (Int32.ofNat (nP s), put b A S) := l_size h.2.2.2.1
theorem a_eR (h : AtD b S a s d) : vjava_util_ArrayList_isEmpty___Z E N (put b A S) (some d.1.2.1) = some (pB (nR s = 0), put b A S) := l_empty h.2.2.1
theorem a_gL (h : AtD b S a s d) {i : Nat} (hi : i < nL s) : vjava_util_ArrayList_get__I_Ljava_lang_Object_ E N (put b A S) (some d.1.1) (Int32.ofNat i) = some (some (d.2.1 i), put b A S) := l_get h.2.1 hi
theorem a_gR (h : AtD b S a s d) {i : Nat} (hi : i < nR s) : vjava_util_ArrayList_get__I_Ljava_lang_Object_ E N (put b A S) (some d.1.2.1) (Int32.ofNat i) = some (some (d.2.2.1 i), put b A S) := l_get h.2.2.1 hi
theorem a_gP (h : AtD b S a s d) {i : Nat} (hi : i < nP s) : vjava_util_ArrayList_get__I_Ljava_lang_Object_ E N (put b A S) (some d.1.2.2) (Int32.ofNat i) = some (some (d.2.2.2.1 i), put b A S) := l_get h.2.2.2.1 hi
theorem a_cL (h : AtD b S a s d) {i : Nat} (hi : i < nL s) (K : Option β) : gcc (put b A S) (some (d.2.1 i)) [6] K = K := by
  obtain ⟨td, q⟩ := h.2.2.2.2.1 i hi
  exact kcc q A K
theorem a_cR (h : AtD b S a s d) {i : Nat} (hi : i < nR s) (K : Option β) : gcc (put b A S) (some (d.2.2.1 i)) [7] K = K := kcc (h.2.2.2.2.2.1 i hi) A K
theorem a_cP (h : AtD b S a s d) {i : Nat} (hi : i < nP s) (K : Option β) : gcc (put b A S) (some (d.2.2.2.1 i)) [8] K = K := kcc (h.2.2.2.2.2.2 i hi) A K
theorem a_kR (h : AtD b S a s d) {i : Nat} (hi : i < nR s) (K : Nat → Nat → Option β) : gvd (put b A S) (some (d.2.2.1 i)) K = K (d.2.2.1 i) 7 := kc (h.2.2.2.2.2.1 i hi) A K
theorem a_61 (h : AtD b S a s d) {i : Nat} (hi : i < nL s) (K : Option Nat → Option β) : ggr (put b A S) (some (d.2.1 i)) 61 K = K (some (d.2.2.2.2.1 i)) := by
  obtain ⟨td, q⟩ := h.2.2.2.2.1 i hi
  exact r6_61 q A K
theorem a_62 (h : AtD b S a s d) {i : Nat} (hi : i < nL s) (K : Int32 → Option β) : ggi (put b A S) (some (d.2.1 i)) 62 K = K (s (3 + i)) := by
  obtain ⟨td, q⟩ := h.2.2.2.2.1 i hi
  exact r6_62 q A K
theorem a_63 (h : AtD b S a s d) {i : Nat} (hi : i < nL s) (K : Int32 → Option β) : ggi (put b A S) (some (d.2.1 i)) 63 K = K (s (10 + i)) := by
  obtain ⟨td, q⟩ := h.2.2.2.2.1 i hi
  exact r6_63 q A K
theorem a_64 (h : AtD b S a s d) {i : Nat} (hi : i < nL s) (K : Int32 → Option β) : ggi (put b A S) (some (d.2.1 i)) 64 K = K (s (17 + i)) := by
  obtain ⟨td, q⟩ := h.2.2.2.2.1 i hi
  exact r6_64 q A K
theorem a_65 (h : AtD b S a s d) {i : Nat} (hi : i < nL s) (K : Int32 → Option β) : ggi (put b A S) (some (d.2.1 i)) 65 K = K (s (72 + i)) := by
  obtain ⟨td, q⟩ := h.2.2.2.2.1 i hi
  exact r6_65 q A K
theorem a_67 (h : AtD b S a s d) {i : Nat} (hi : i < nR s) (K : Int32 → Option β) : ggi (put b A S) (some (d.2.2.1 i)) 67 K = K (s (24 + i)) := r7_67 (h.2.2.2.2.2.1 i hi) A K
theorem a_68 (h : AtD b S a s d) {i : Nat} (hi : i < nR s) (K : Int32 → Option β) : ggi (put b A S) (some (d.2.2.1 i)) 68 K = K (s (36 + i)) := r7_68 (h.2.2.2.2.2.1 i hi) A K
theorem a_69 (h : AtD b S a s d) {i : Nat} (hi : i < nR s) (K : Int32 → Option β) : ggi (put b A S) (some (d.2.2.1 i)) 69 K = K (s (48 + i)) := r7_69 (h.2.2.2.2.2.1 i hi) A K
theorem a_70 (h : AtD b S a s d) {i : Nat} (hi : i < nR s) (K : Int32 → Option β) : ggi (put b A S) (some (d.2.2.1 i)) 70 K = K (s (60 + i)) := r7_70 (h.2.2.2.2.2.1 i hi) A K
theorem a_p61 (h : AtD b S a s d) {i : Nat} (hi : i < nP s) (K : Option Nat → Option β) : ggr (put b A S) (some (d.2.2.2.1 i)) 61 K = K (some (d.2.2.2.2.2 i)) := r8_61 (h.2.2.2.2.2.2 i hi) A K
theorem a_71 (h : AtD b S a s d) {i : Nat} (hi : i < nP s) (K : Int32 → Option β) : ggi (put b A S) (some (d.2.2.2.1 i)) 71 K = K (s (79 + i)) := r8_71 (h.2.2.2.2.2.2 i hi) A K
theorem a_72 (h : AtD b S a s d) {i : Nat} (hi : i < nP s) (K : Int32 → Option β) : ggi (put b A S) (some (d.2.2.2.1 i)) 72 K = K (s (85 + i)) := r8_72 (h.2.2.2.2.2.2 i hi) A K
theorem a_home (h : AtD b S a s d) {p : Nat} (hp : p < nP s) : vInchBorders_Atlas_home__I_I E N (put b A S) (some a) (Int32.ofNat p) = some (s (79 + p), put b A S) := by
  simp only [vInchBorders_Atlas_home__I_I, a_cls h, if_true, bX2_home_0, fX2_home, a_27 h, a_gP h hp, a_cP h hp, a_71 h hp, gbd_s]
theorem a_is (h : AtD b S a s d) {r : Nat} (hr : r < nR s) (x y : Int32) : vInchBorders_Road_is__II_Z E N (put b A S) (some (d.2.2.1 r)) x y = some (pB ((s (24 + r) = x ∧ s (36 + r) = y) ∨ (s (24 + r) = y ∧ s (36 + r) = x)), put b A S) := by
  simp only [vInchBorders_Road_is__II_Z, a_kR h hr, if_true, bX11_is_37, bX11_is_32, bX11_is_36, bX11_is_16, bX11_is_0, fX11_is, a_67 h hr, a_68 h hr, pq_lit, mzt_0, mzt_1]
  grind [pB]
theorem a_roadL (h : AtD b S a s d) (hI : IvS s) {x y : Int32} : ∀ (k r n : Nat), r + k = nR s → k < n → bX2_road_2L E N a n (put b A S) x y (Int32.ofNat r) = some (oI (roadF s x y r k), put b A S)
  | k, r, 0, _, h => by omega
  | 0, r, n + 1, hk, _ => by
    have := hI.r12
    simp (disch := omega) only [bX2_road_2L, bX2_road_2, bX2_road_0, fX2_road, a_26 h, a_sR h, pq_lit, pq_add, pq_le, pq_lt, pq_eq, pq_en, pq_ne, pq_nle, pq_nlt, pq_len, pq_ltn, pB_z, pB_o, mzt_0, mzt_1, mzt_B, gbd_s, gnn_s, grf_s]
    rw [if_pos (by omega)]
    rfl
  | k + 1, r, n + 1, hk, hn => by
    have := hI.r12
    have ih := a_roadL h hI (x := x) (y := y) k (r + 1) n (by omega) (by omega)
    simp (disch := omega) only [bX2_road_2L, bX2_road_2, bX2_road_0, fX2_road, a_26 h, a_sR h, a_gR h, a_cR h, a_is h, pq_lit, pq_add, pq_le, pq_lt, pq_eq, pq_en, pq_ne, pq_nle, pq_nlt, pq_len, pq_ltn, pB_z, pB_o, mzt_0, mzt_1, mzt_B, gbd_s, gnn_s, grf_s, roadF, ih]
    rw [if_neg (by omega)]
    grind [oI]
theorem a_road (h : AtD b S a s d) (hI : IvS s) (hN : 100 ≤ N) (x y : Int32) : vInchBorders_Atlas_road__II_I E N (put b A S) (some a) x y = some (oI (roadO s x y), put b A S) := by
  have := hI.r12
  simp only [vInchBorders_Atlas_road__II_I, a_cls h, if_true, fX2_road, bX2_road_0]
  exact a_roadL h hI _ 0 N (by omega) (by omega)
theorem a_isL (h : AtD b S a s d) (x : Int32) : fX2_isLand E N (put b A S) a x = some (pB (inN x (nL s) = true), put b A S) := by
  simp only [bX2_isLand_0, fX2_isLand, a_25 h, a_sL h, gbd_s, c_isIn, pq_lit, mzt_B]
  rw [pB_c (q := inN x (nL s) = true) (by simp [inN])]
theorem a_isR (h : AtD b S a s d) (x : Int32) : fX2_isRoad E N (put b A S) a x = some (pB (inN x (nR s) = true), put b A S) := by
  simp only [bX2_isRoad_0, fX2_isRoad, a_26 h, a_sR h, gbd_s, c_isIn, pq_lit, mzt_B]
  rw [pB_c (q := inN x (nR s) = true) (by simp [inN])]
theorem a_isP (h : AtD b S a s d) (x : Int32) : fX2_isPerson E N (put b A S) a x = some (pB (inN x (nP s) = true), put b A S) := by
  simp only [bX2_isPerson_0, fX2_isPerson, a_27 h, a_sP h, gbd_s, c_isIn, pq_lit, mzt_B]
  rw [pB_c (q := inN x (nP s) = true) (by simp [inN])]
end AT
