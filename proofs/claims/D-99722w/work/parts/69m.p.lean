/-! reading: bytes, a reader's cell, a letter appended -/
def Bt (t : St) (i : Nat) : Nat := (t i &&& Int32.ofNat 255).toBitVec.toNat
theorem Bt_lt (t : St) (i : Nat) : Bt t i < 256 := by
  unfold Bt
  rw [Int32.toBitVec_and, BitVec.toNat_and]
  exact Nat.lt_of_le_of_lt Nat.and_le_right (by decide)
theorem Bt_e (t : St) (i : Nat) : t i &&& Int32.ofNat 255 = Int32.ofNat (Bt t i) := by
  unfold Bt
  rw [← Int32.toBitVec_inj]
  exact ((BitVec.ofNat_toNat 32 _).trans (BitVec.setWidth_eq _)).symm
def isl (c : Nat) : Bool := decide (97 ≤ c ∧ c ≤ 122)
def isd (c : Nat) : Bool := decide (48 ≤ c ∧ c ≤ 57)
def skp (B : Nat → Nat) : Nat → Nat → Nat
  | 0, p => p
  | k + 1, p => if B p = 32 ∨ B p = 10 then skp B k (p + 1) else p
theorem skp_p (B : Nat → Nat) : ∀ (k p : Nat), p ≤ skp B k p ∧ skp B k p ≤ p + k ∧ (skp B k p < p + k → ¬ (B (skp B k p) = 32 ∨ B (skp B k p) = 10))
  | 0, p => ⟨Nat.le_refl _, Nat.le_refl _, fun h => absurd h (Nat.lt_irrefl _)⟩
  | k + 1, p => by
    unfold skp
    by_cases e : B p = 32 ∨ B p = 10
    · rw [if_pos e]
      have ih := skp_p B k (p + 1)
      exact ⟨by omega, by omega, fun h => ih.2.2 (by omega)⟩
    · rw [if_neg e]
      exact ⟨by omega, by omega, fun _ => e⟩
/-- a run of letters and digits: place, how many, all alike, the first letters, the number -/
abbrev RnS : Type := Nat × Nat × Bool × List Nat × Nat
def rn1 (sm : Bool) (c : Nat) (z : RnS) : RnS := (z.1 + 1, z.2.1 + 1, z.2.2.1 && (isl c == sm), (if z.2.1 < 7 then z.2.2.2.1 ++ [c] else z.2.2.2.1), if z.2.1 < 3 then 10 * z.2.2.2.2 + c - 48 else z.2.2.2.2)
def rnS (B : Nat → Nat) (sm : Bool) : Nat → RnS → RnS
  | 0, z => z
  | k + 1, z => if isl (B z.1) = true ∨ isd (B z.1) = true then rnS B sm k (rn1 sm (B z.1) z) else z
def rnP (sm : Bool) (z : RnS) : Prop := z.2.2.2.1.length = min z.2.1 7 ∧ (z.2.2.1 = true → ∀ c, c ∈ z.2.2.2.1 → isl c = sm) ∧ (∀ c, c ∈ z.2.2.2.1 → c < 128) ∧ (sm = false → z.2.2.1 = true → z.2.2.2.2 < 10 ^ min z.2.1 3)
theorem rn1_p {sm : Bool} {c : Nat} {z : RnS} (h : rnP sm z) (hc : isl c = true ∨ isd c = true) : rnP sm (rn1 sm c z) := by
  obtain ⟨p, j, g, w, v⟩ := z
  obtain ⟨h1, h2, h3, h4⟩ := h
  dsimp only at h1 h2 h3 h4
  have c8 : c ≤ 122 := by
    rcases hc with hc | hc
    · exact (of_decide_eq_true hc).2
    · have := (of_decide_eq_true hc).2; omega
  refine ⟨?_, ?_, ?_, ?_⟩
  · show (if j < 7 then w ++ [c] else w).length = min (j + 1) 7
    by_cases e : j < 7
    · rw [if_pos e, List.length_append, h1]; simp only [List.length_singleton]; omega
    · rw [if_neg e, h1]; omega
  · intro hg x hx
    have hg' : g = true ∧ isl c = sm := by
      have : (g && (isl c == sm)) = true := hg
      rw [Bool.and_eq_true] at this
      exact ⟨this.1, eq_of_beq this.2⟩
    have hx' : x ∈ (if j < 7 then w ++ [c] else w) := hx
    by_cases e : j < 7
    · rw [if_pos e] at hx'
      rcases List.mem_append.mp hx' with hx | hx
      · exact h2 hg'.1 x hx
      · rw [List.mem_singleton.mp hx]; exact hg'.2
    · rw [if_neg e] at hx'
      exact h2 hg'.1 x hx'
  · intro x hx
    have hx' : x ∈ (if j < 7 then w ++ [c] else w) := hx
    by_cases e : j < 7
    · rw [if_pos e] at hx'
      rcases List.mem_append.mp hx' with hx | hx
      · exact h3 x hx
      · rw [List.mem_singleton.mp hx]; omega
    · rw [if_neg e] at hx'
      exact h3 x hx'
  · intro hs hg
    have hg' : g = true ∧ isl c = sm := by
      have : (g && (isl c == sm)) = true := hg
      rw [Bool.and_eq_true] at this
      exact ⟨this.1, eq_of_beq this.2⟩
    have h5 := h4 hs hg'.1
    have hd : c ≤ 57 ∧ 48 ≤ c := by
      rw [hs] at hg'
      rcases hc with hc | hc
      · rw [hg'.2] at hc; cases hc
      · have := of_decide_eq_true hc; omega
    show (if j < 3 then 10 * v + c - 48 else v) < 10 ^ min (j + 1) 3
    by_cases e : j < 3
    · rw [if_pos e, show min (j + 1) 3 = min j 3 + 1 by omega, Nat.pow_succ]
      omega
    · rw [if_neg e, show min (j + 1) 3 = min j 3 by omega]
      exact h5
theorem rnS_p {B : Nat → Nat} {sm : Bool} : ∀ (k : Nat) (z : RnS), rnP sm z → rnP sm (rnS B sm k z) ∧ (rnS B sm k z).2.1 + z.1 = z.2.1 + (rnS B sm k z).1 ∧ z.1 ≤ (rnS B sm k z).1 ∧ (rnS B sm k z).1 ≤ z.1 + k
  | 0, z, h => ⟨h, by show z.2.1 + z.1 = z.2.1 + z.1; rfl, Nat.le_refl _, Nat.le_refl _⟩
  | k + 1, z, h => by
    unfold rnS
    by_cases e : isl (B z.1) = true ∨ isd (B z.1) = true
    · rw [if_pos e]
      obtain ⟨h1, h2, h3, h4⟩ := rnS_p (B := B) k _ (rn1_p h e)
      have e1 : (rn1 sm (B z.1) z).1 = z.1 + 1 := rfl
      have e2 : (rn1 sm (B z.1) z).2.1 = z.2.1 + 1 := rfl
      rw [e1] at h2 h3 h4
      rw [e2] at h2
      exact ⟨h1, by omega, by omega, by omega⟩
    · rw [if_neg e]
      exact ⟨h, rfl, Nat.le_refl _, by omega⟩
/-- all but one cell -/
def Xo (q : Nat) (S S' : GS) : Prop := S.2.1 ≤ S'.2.1 ∧ ∀ a, a < S.2.1 → a ≠ q → S'.1 a = S.1 a
theorem Xo.rf {q : Nat} {S : GS} : Xo q S S := ⟨Nat.le_refl _, fun _ _ _ => rfl⟩
theorem Xo.tr {q : Nat} {S S' S'' : GS} (h : Xo q S S') (h' : Xo q S' S'') : Xo q S S'' := ⟨Nat.le_trans h.1 h'.1, fun a ha hq => (h'.2 a (Nat.lt_of_lt_of_le ha h.1) hq).trans (h.2 a ha hq)⟩
theorem Ext.xo {q : Nat} {S S' : GS} (h : Ext S S') : Xo q S S' := ⟨h.1, fun a ha _ => h.2 a ha⟩
theorem Xo.up {q : Nat} {S : GS} (e : GE) : Xo q S (gup S q e) := ⟨Nat.le_refl _, fun a _ hq => by show va_up S.1 q (some e) a = _; unfold va_up; rw [if_neg hq]⟩
theorem Xo.cel {b q : Nat} {S S' : GS} (h : Xo q S S') {a : Nat} {e : GE} (c : Cel b S a e) (hq : a ≠ q) : Cel b S' a e := ⟨(h.2 a c.2.2 hq).trans c.1, c.2.1, Nat.lt_of_lt_of_le c.2.2 h.1⟩
theorem Xo.ext {q : Nat} {S0 S S' : GS} (h : Xo q S S') (x : Ext S0 S) (hq : S0.2.1 ≤ q) : Ext S0 S' := ⟨Nat.le_trans x.1 h.1, fun a ha => (h.2 a (Nat.lt_of_lt_of_le ha x.1) (by omega)).trans (x.2 a ha)⟩
theorem ext_up {S0 S : GS} (x : Ext S0 S) (q : Nat) (e : GE) : Ext (gup S0 q e) (gup S q e) := by
  refine ⟨x.1, fun a ha => ?_⟩
  show va_up S.1 q (some e) a = va_up S0.1 q (some e) a
  unfold va_up
  by_cases h : a = q
  · rw [if_pos h, if_pos h]
  · rw [if_neg h, if_neg h]; exact x.2 a ha
theorem SbAt.up {b : Nat} {S0 S : GS} {sb cap q : Nat} {w : List Nat} (h : SbAt b S0 S sb w cap) (hq : q < S0.2.1) (e : GE) : SbAt b (gup S0 q e) (gup S q e) sb w cap := by
  obtain ⟨x0, h1, h2, h3, h4, v, f, z, h5, h6, c1, c2, h7, h8⟩ := h
  exact ⟨ext_up x0 q e, h1, h2, h3, h4, v, f, z, h5, h6, c1.uo (by omega) e, c2.uo (by omega) e, h7, h8⟩
abbrev rdV (b n lim : Nat) (p kd fr nu sg : Int32) (wr : Nat) (ex : List Value) : List Value := .ref (b + 1) :: .int (Int32.ofNat n) :: .int (Int32.ofNat lim) :: .int p :: .int kd :: .int fr :: .int nu :: .int sg :: .ref wr :: ex
def RdK (ci : Nat) : Prop := ci = 4 ∨ ci = 16 ∨ ci = 18
theorem rd_v {α : Type} {ci : Nat} (hk : RdK ci) (x y : α) : (if ci = 4 then x else if ci = 16 then x else if ci = 18 then x else y) = x := by rcases hk with rfl | rfl | rfl <;> rfl
section RA
variable {β : Type} {E : gE} {N b : Nat} {S : GS} {q ci n lim : Nat} {p kd fr nu sg : Int32} {wr : Nat} {ex : List Value}
theorem rd_43 (hk : RdK ci) (h : Cel b S q (.inr (ci, rdV b n lim p kd fr nu sg wr ex))) (A : FA) (K : Option Nat → Option β) : ggr (put b A S) (some q) 43 K = K (some (b + 1)) := by
  have e : gfx ci 43 = some 0 := by rcases hk with rfl | rfl | rfl <;> rfl
  exact ggr_as (h.at A) e rfl K
theorem rd_44 (hk : RdK ci) (h : Cel b S q (.inr (ci, rdV b n lim p kd fr nu sg wr ex))) (A : FA) (K : Int32 → Option β) : ggi (put b A S) (some q) 44 K = K (Int32.ofNat n) := by
  have e : gfx ci 44 = some 1 := by rcases hk with rfl | rfl | rfl <;> rfl
  exact ggi_at (h.at A) e rfl K
theorem rd_45 (hk : RdK ci) (h : Cel b S q (.inr (ci, rdV b n lim p kd fr nu sg wr ex))) (A : FA) (K : Int32 → Option β) : ggi (put b A S) (some q) 45 K = K (Int32.ofNat lim) := by
  have e : gfx ci 45 = some 2 := by rcases hk with rfl | rfl | rfl <;> rfl
  exact ggi_at (h.at A) e rfl K
theorem rd_46 (hk : RdK ci) (h : Cel b S q (.inr (ci, rdV b n lim p kd fr nu sg wr ex))) (A : FA) (K : Int32 → Option β) : ggi (put b A S) (some q) 46 K = K p := by
  have e : gfx ci 46 = some 3 := by rcases hk with rfl | rfl | rfl <;> rfl
  exact ggi_at (h.at A) e rfl K
theorem rd_47 (hk : RdK ci) (h : Cel b S q (.inr (ci, rdV b n lim p kd fr nu sg wr ex))) (A : FA) (K : Int32 → Option β) : ggi (put b A S) (some q) 47 K = K kd := by
  have e : gfx ci 47 = some 4 := by rcases hk with rfl | rfl | rfl <;> rfl
  exact ggi_at (h.at A) e rfl K
theorem rd_48 (hk : RdK ci) (h : Cel b S q (.inr (ci, rdV b n lim p kd fr nu sg wr ex))) (A : FA) (K : Int32 → Option β) : ggi (put b A S) (some q) 48 K = K fr := by
  have e : gfx ci 48 = some 5 := by rcases hk with rfl | rfl | rfl <;> rfl
  exact ggi_at (h.at A) e rfl K
theorem rd_49 (hk : RdK ci) (h : Cel b S q (.inr (ci, rdV b n lim p kd fr nu sg wr ex))) (A : FA) (K : Int32 → Option β) : ggi (put b A S) (some q) 49 K = K nu := by
  have e : gfx ci 49 = some 6 := by rcases hk with rfl | rfl | rfl <;> rfl
  exact ggi_at (h.at A) e rfl K
theorem rd_50 (hk : RdK ci) (h : Cel b S q (.inr (ci, rdV b n lim p kd fr nu sg wr ex))) (A : FA) (K : Int32 → Option β) : ggi (put b A S) (some q) 50 K = K sg := by
  have e : gfx ci 50 = some 7 := by rcases hk with rfl | rfl | rfl <;> rfl
  exact ggi_at (h.at A) e rfl K
theorem rd_51 (hk : RdK ci) (h : Cel b S q (.inr (ci, rdV b n lim p kd fr nu sg wr ex))) (A : FA) (K : Option Nat → Option β) : ggr (put b A S) (some q) 51 K = K (some wr) := by
  have e : gfx ci 51 = some 8 := by rcases hk with rfl | rfl | rfl <;> rfl
  exact ggr_as (h.at A) e rfl K
theorem rd_w46 (hk : RdK ci) (h : Cel b S q (.inr (ci, rdV b n lim p kd fr nu sg wr ex))) (hE : E.1 ≤ q) (A : FA) (v : Int32) (K : GS → Option β) : gpv E (put b A S) (some q) 46 (.int v) K = K (put b A (gup S q (.inr (ci, rdV b n lim v kd fr nu sg wr ex)))) := by
  have e : gfx ci 46 = some 3 := by rcases hk with rfl | rfl | rfl <;> rfl
  rw [gpv_at (h.at A) e (by show _ < ex.length + 1 + 1 + 1 + 1 + 1 + 1 + 1 + 1 + 1; omega) hE, gup_o h.2.1]; rfl
theorem rd_w47 (hk : RdK ci) (h : Cel b S q (.inr (ci, rdV b n lim p kd fr nu sg wr ex))) (hE : E.1 ≤ q) (A : FA) (v : Int32) (K : GS → Option β) : gpv E (put b A S) (some q) 47 (.int v) K = K (put b A (gup S q (.inr (ci, rdV b n lim p v fr nu sg wr ex)))) := by
  have e : gfx ci 47 = some 4 := by rcases hk with rfl | rfl | rfl <;> rfl
  rw [gpv_at (h.at A) e (by show _ < ex.length + 1 + 1 + 1 + 1 + 1 + 1 + 1 + 1 + 1; omega) hE, gup_o h.2.1]; rfl
theorem rd_w48 (hk : RdK ci) (h : Cel b S q (.inr (ci, rdV b n lim p kd fr nu sg wr ex))) (hE : E.1 ≤ q) (A : FA) (v : Int32) (K : GS → Option β) : gpv E (put b A S) (some q) 48 (.int v) K = K (put b A (gup S q (.inr (ci, rdV b n lim p kd v nu sg wr ex)))) := by
  have e : gfx ci 48 = some 5 := by rcases hk with rfl | rfl | rfl <;> rfl
  rw [gpv_at (h.at A) e (by show _ < ex.length + 1 + 1 + 1 + 1 + 1 + 1 + 1 + 1 + 1; omega) hE, gup_o h.2.1]; rfl
theorem rd_w49 (hk : RdK ci) (h : Cel b S q (.inr (ci, rdV b n lim p kd fr nu sg wr ex))) (hE : E.1 ≤ q) (A : FA) (v : Int32) (K : GS → Option β) : gpv E (put b A S) (some q) 49 (.int v) K = K (put b A (gup S q (.inr (ci, rdV b n lim p kd fr v sg wr ex)))) := by
  have e : gfx ci 49 = some 6 := by rcases hk with rfl | rfl | rfl <;> rfl
  rw [gpv_at (h.at A) e (by show _ < ex.length + 1 + 1 + 1 + 1 + 1 + 1 + 1 + 1 + 1; omega) hE, gup_o h.2.1]; rfl
theorem rd_w50 (hk : RdK ci) (h : Cel b S q (.inr (ci, rdV b n lim p kd fr nu sg wr ex))) (hE : E.1 ≤ q) (A : FA) (v : Int32) (K : GS → Option β) : gpv E (put b A S) (some q) 50 (.int v) K = K (put b A (gup S q (.inr (ci, rdV b n lim p kd fr nu v wr ex)))) := by
  have e : gfx ci 50 = some 7 := by rcases hk with rfl | rfl | rfl <;> rfl
  rw [gpv_at (h.at A) e (by show _ < ex.length + 1 + 1 + 1 + 1 + 1 + 1 + 1 + 1 + 1; omega) hE, gup_o h.2.1]; rfl
theorem rd_w51 (hk : RdK ci) (h : Cel b S q (.inr (ci, rdV b n lim p kd fr nu sg wr ex))) (hE : E.1 ≤ q) (A : FA) (v : Nat) (K : GS → Option β) : gpv E (put b A S) (some q) 51 (.ref v) K = K (put b A (gup S q (.inr (ci, rdV b n lim p kd fr nu sg v ex)))) := by
  have e : gfx ci 51 = some 8 := by rcases hk with rfl | rfl | rfl <;> rfl
  rw [gpv_at (h.at A) e (by show _ < ex.length + 1 + 1 + 1 + 1 + 1 + 1 + 1 + 1 + 1; omega) hE, gup_o h.2.1]; rfl
theorem c_rb {A : FA} (hk : RdK ci) (h : Cel b S q (.inr (ci, rdV b n lim p kd fr nu sg wr ex))) (hn : n ≤ 940) {i : Nat} (hi : i < 2000) : vInchBorders_Reader_byteAt__I_I E N (put b A S) (some q) (Int32.ofNat i) = some (Int32.ofNat (if i < n then Bt (aV A 0) i else 0), put b A S) := by
  have r44 := fun {β : Type} (K : Int32 → Option β) => rd_44 hk h A K
  have r43 := fun {β : Type} (K : Option Nat → Option β) => rd_43 hk h A K
  simp only [vInchBorders_Reader_byteAt__I_I]
  rw [kc h, rd_v hk]
  simp only [bX6_byteAt_22, bX6_byteAt_0, fX6_byteAt, pq_lit]
  by_cases e : i < n
  · have e1 : ¬ n ≤ i := by omega
    have be := Bt_e (aV A 0) i
    have g0 := fun {β : Type} (K : Int32 → Option β) => f_g0 (b := b) (A := A) (S := S) (show i < 940 by omega) K
    simp (disch := omega) only [↓r44, e1, e, ↓r43, ↓g0, be, pq_lit, pq_add, pq_le, pq_lt, pq_eq, pq_en, pq_ne, pq_nle, pq_nlt, pq_len, pq_ltn, pB_z, pB_o, mzt_0, mzt_1, mzt_B, ↓gbd_s, gbd_s, ↓gnn_s, ↓grf_s, eq_self, ↓reduceIte, Nat.reduceEqDiff, Nat.reduceLeDiff, Nat.reduceLT, Nat.reduceMul, Nat.reduceAdd, not_true_eq_false, not_false_eq_true, Bool.false_eq_true]
  · have e1 : n ≤ i := by omega
    simp (disch := omega) only [↓r44, e1, e, pq_lit, pq_add, pq_le, pq_lt, pq_eq, pq_en, pq_ne, pq_nle, pq_nlt, pq_len, pq_ltn, pB_z, pB_o, mzt_0, mzt_1, mzt_B, ↓gbd_s, gbd_s, ↓gnn_s, ↓grf_s, eq_self, ↓reduceIte, Nat.reduceEqDiff, Nat.reduceLeDiff, Nat.reduceLT, Nat.reduceMul, Nat.reduceAdd, not_true_eq_false, not_false_eq_true, Bool.false_eq_true]
theorem c_isl {c : Nat} (hc : c < 256) : fX6_isLetter E N S (Int32.ofNat c) = some (bI (isl c), S) := by
  simp only [bX6_isLetter_17, bX6_isLetter_16, bX6_isLetter_0, fX6_isLetter, pq_lit]
  by_cases e1 : c < 97
  · have e : isl c = false := decide_eq_false (by omega)
    simp (disch := omega) only [e, e1, bI_f, pq_lit, pq_add, pq_le, pq_lt, pq_eq, pq_en, pq_ne, pq_nle, pq_nlt, pq_len, pq_ltn, pB_z, pB_o, mzt_0, mzt_1, mzt_B, ↓gbd_s, gbd_s, ↓gnn_s, ↓grf_s, eq_self, ↓reduceIte, Nat.reduceEqDiff, Nat.reduceLeDiff, Nat.reduceLT, Nat.reduceMul, Nat.reduceAdd, not_true_eq_false, not_false_eq_true, Bool.false_eq_true]
  · by_cases e2 : 122 < c
    · have e : isl c = false := decide_eq_false (by omega)
      simp (disch := omega) only [e, e1, e2, bI_f, pq_lit, pq_add, pq_le, pq_lt, pq_eq, pq_en, pq_ne, pq_nle, pq_nlt, pq_len, pq_ltn, pB_z, pB_o, mzt_0, mzt_1, mzt_B, ↓gbd_s, gbd_s, ↓gnn_s, ↓grf_s, eq_self, ↓reduceIte, Nat.reduceEqDiff, Nat.reduceLeDiff, Nat.reduceLT, Nat.reduceMul, Nat.reduceAdd, not_true_eq_false, not_false_eq_true, Bool.false_eq_true]
    · have e : isl c = true := decide_eq_true (by omega)
      simp (disch := omega) only [e, e1, e2, bI_t, pq_lit, pq_add, pq_le, pq_lt, pq_eq, pq_en, pq_ne, pq_nle, pq_nlt, pq_len, pq_ltn, pB_z, pB_o, mzt_0, mzt_1, mzt_B, ↓gbd_s, gbd_s, ↓gnn_s, ↓grf_s, eq_self, ↓reduceIte, Nat.reduceEqDiff, Nat.reduceLeDiff, Nat.reduceLT, Nat.reduceMul, Nat.reduceAdd, not_true_eq_false, not_false_eq_true, Bool.false_eq_true]
theorem c_isd {c : Nat} (hc : c < 256) : fX6_isDigit E N S (Int32.ofNat c) = some (bI (isd c), S) := by
  simp only [bX6_isDigit_17, bX6_isDigit_16, bX6_isDigit_0, fX6_isDigit, pq_lit]
  by_cases e1 : c < 48
  · have e : isd c = false := decide_eq_false (by omega)
    simp (disch := omega) only [e, e1, bI_f, pq_lit, pq_add, pq_le, pq_lt, pq_eq, pq_en, pq_ne, pq_nle, pq_nlt, pq_len, pq_ltn, pB_z, pB_o, mzt_0, mzt_1, mzt_B, ↓gbd_s, gbd_s, ↓gnn_s, ↓grf_s, eq_self, ↓reduceIte, Nat.reduceEqDiff, Nat.reduceLeDiff, Nat.reduceLT, Nat.reduceMul, Nat.reduceAdd, not_true_eq_false, not_false_eq_true, Bool.false_eq_true]
  · by_cases e2 : 57 < c
    · have e : isd c = false := decide_eq_false (by omega)
      simp (disch := omega) only [e, e1, e2, bI_f, pq_lit, pq_add, pq_le, pq_lt, pq_eq, pq_en, pq_ne, pq_nle, pq_nlt, pq_len, pq_ltn, pB_z, pB_o, mzt_0, mzt_1, mzt_B, ↓gbd_s, gbd_s, ↓gnn_s, ↓grf_s, eq_self, ↓reduceIte, Nat.reduceEqDiff, Nat.reduceLeDiff, Nat.reduceLT, Nat.reduceMul, Nat.reduceAdd, not_true_eq_false, not_false_eq_true, Bool.false_eq_true]
    · have e : isd c = true := decide_eq_true (by omega)
      simp (disch := omega) only [e, e1, e2, bI_t, pq_lit, pq_add, pq_le, pq_lt, pq_eq, pq_en, pq_ne, pq_nle, pq_nlt, pq_len, pq_ltn, pB_z, pB_o, mzt_0, mzt_1, mzt_B, ↓gbd_s, gbd_s, ↓gnn_s, ↓grf_s, eq_self, ↓reduceIte, Nat.reduceEqDiff, Nat.reduceLeDiff, Nat.reduceLT, Nat.reduceMul, Nat.reduceAdd, not_true_eq_false, not_false_eq_true, Bool.false_eq_true]
end RA
theorem chr_c : ∀ c, c < 128 → ((Int32.ofNat c).toUInt32 % 65536).toInt32 = Int32.ofNat c ∧ vp_nar .byte (Int32.ofNat c).toInt8.toInt32 = Int32.ofNat c := by decide +kernel
section RB
variable {E : gE} {N b : Nat} {A : FA} {S S0 : GS} {q cap : Nat} {w : List Nat}
theorem sb_chr (hb : b + 111 ≤ S0.2.1) (hE : E.1 ≤ b) (h : SbAt b S0 S q w cap) {c : Nat} (h8 : c < 128) (hl : w.length < cap) (hc : cap ≤ 400) : ∃ S', SbAt b S0 S' q (w ++ [c]) cap ∧ S'.2 = S.2 ∧ vjava_lang_StringBuilder_append__C_Ljava_lang_StringBuilder_ E N (put b A S) (some q) (Int32.ofNat c) = some (some q, put b A S') := by
  obtain ⟨x0, hq, hl0, hcap, h128, v, f, z, hv, hvq, c1, c2, hby, hf⟩ := h
  have r13 := fun {β : Type} (K : Option Nat → Option β) => r25_113 c1 A K
  have r14 := fun {β : Type} (K : Int32 → Option β) => r25_114 c1 A K
  have r16 := fun {β : Type} (K : Int32 → Option β) => r25_116 c1 A K
  have rl : ∀ {β : Type} (K : Int32 → Option β), gal (put b A S) (some v) K = K (Int32.ofNat cap) := fun K => gal_at (c2.at A) (by omega) K
  have s0 := sh_0 cap
  have hEq : E.1 ≤ q := by omega
  have e : (Int32.ofNat (w.length + 1) - Int32.ofNat cap ≤ Int32.ofNat 0) = True := by
    apply eq_true
    rw [Int32.le_iff_toInt_le, Int32.toInt_sub, pq_toInt (by omega), pq_toInt (by omega), pq_toInt (by omega)]
    have : ((w.length + 1 : Nat) : Int) - cap ≤ 0 := by omega
    rw [Int.bmod_eq_of_le (by omega) (by omega)]
    omega
  have en : vjava_lang_AbstractStringBuilder_ensureCapacityInternal__I_V E N (put b A S) (some q) (Int32.ofNat (w.length + 1)) = some (Int32.ofNat 0, put b A S) := by
    simp only [vjava_lang_AbstractStringBuilder_ensureCapacityInternal__I_V]
    rw [kc c1]
    simp only [fJ6_ensureCapacityInternal, bJ6_ensureCapacityInternal_0, bJ6_ensureCapacityInternal_38, pq_lit]
    simp (disch := omega) only [↓r13, ↓rl, ↓r14, s0, e, pq_lit, pq_add, pq_le, pq_lt, pq_eq, pq_en, pq_ne, pq_nle, pq_nlt, pq_len, pq_ltn, pB_z, pB_o, mzt_0, mzt_1, mzt_B, ↓gbd_s, gbd_s, ↓gnn_s, ↓grf_s, eq_self, ↓reduceIte, Nat.reduceEqDiff, Nat.reduceLeDiff, Nat.reduceLT, Nat.reduceMul, Nat.reduceAdd, not_true_eq_false, not_false_eq_true, Bool.false_eq_true]
  have la : vjava_lang_AbstractStringBuilder_isLatin1___Z E N (put b A S) (some q) = some (Int32.ofNat 1, put b A S) := by
    simp only [vjava_lang_AbstractStringBuilder_isLatin1___Z, fJ6_isLatin1, bJ6_isLatin1_0, bJ6_isLatin1_18, bJ6_isLatin1_17, pq_lit]
    rw [kc c1]
    simp (disch := omega) only [↓r14, mzt_1, pq_lit, pq_add, pq_le, pq_lt, pq_eq, pq_en, pq_ne, pq_nle, pq_nlt, pq_len, pq_ltn, pB_z, pB_o, mzt_0, mzt_1, mzt_B, ↓gbd_s, gbd_s, ↓gnn_s, ↓grf_s, eq_self, ↓reduceIte, Nat.reduceEqDiff, Nat.reduceLeDiff, Nat.reduceLT, Nat.reduceMul, Nat.reduceAdd, not_true_eq_false, not_false_eq_true, Bool.false_eq_true]
  have ca : fJ12_canEncode E N (put b A S) (Int32.ofNat c) = some (Int32.ofNat 1, put b A S) := by
    have z : ¬ 255 < c := by omega
    simp only [fJ12_canEncode, bJ12_canEncode_0, bJ12_canEncode_12, pq_lit]
    simp (disch := omega) only [z, pq_lit, pq_add, pq_le, pq_lt, pq_eq, pq_en, pq_ne, pq_nle, pq_nlt, pq_len, pq_ltn, pB_z, pB_o, mzt_0, mzt_1, mzt_B, ↓gbd_s, gbd_s, ↓gnn_s, ↓grf_s, eq_self, ↓reduceIte, Nat.reduceEqDiff, Nat.reduceLeDiff, Nat.reduceLT, Nat.reduceMul, Nat.reduceAdd, not_true_eq_false, not_false_eq_true, Bool.false_eq_true]
  obtain ⟨S1, hS1⟩ : ∃ S1, S1 = gup S q (.inr (25, [.ref v, .int (Int32.ofNat 0), .int z, .int (Int32.ofNat (w.length + 1))])) := ⟨_, rfl⟩
  have d2 : Cel b S1 v (.inl (0, cap, .inl f)) := by rw [hS1]; exact c2.uo hvq _
  have d1 : Cel b S1 q (.inr (25, [.ref v, .int (Int32.ofNat 0), .int z, .int (Int32.ofNat (w.length + 1))])) := by rw [hS1]; exact c1.up _
  have x1 : Ext S0 S1 := by rw [hS1]; exact x0.gup hq
  have nc := (chr_c c h8).2
  have gw : ∀ {β : Type} (K : GS → Option β), gaw 0 E (put b A S1) (some v) (Int32.ofNat w.length) (Int32.ofNat c) K = K (put b A (gup S1 v (.inl (0, cap, .inl (upd f w.length (Int32.ofNat c)))))) := by
    intro β K
    rw [gaw_at (d2.at A) hl (by omega) (by omega), gup_o d2.2.1]
  refine ⟨gup S1 v (.inl (0, cap, .inl (upd f w.length (Int32.ofNat c)))), ⟨x1.gup hv, hq, by rw [List.length_append]; simp only [List.length_singleton]; omega, hcap, fun x hx => ?_, v, upd f w.length (Int32.ofNat c), z, hv, hvq, ?_, d2.up _, fun i hi => ?_, fun i x hi => ?_⟩, by rw [hS1]; rfl, ?_⟩
  · rcases List.mem_append.mp hx with hx | hx
    · exact h128 x hx
    · rw [List.mem_singleton.mp hx]; exact h8
  · rw [List.length_append]
    exact d1.uo (Ne.symm hvq) _
  · by_cases e : i = w.length
    · rw [e, upd_s]; exact by_c c h8
    · rw [upd_o _ _ e]; exact hby i hi
  · by_cases e : i < w.length
    · rw [List.getElem?_append_left e] at hi
      rw [upd_o _ _ (by omega)]
      exact hf i x hi
    · have hil : i < w.length + 1 := by
        have := (List.getElem?_eq_some_iff.mp hi).1
        rw [List.length_append] at this
        exact this
      have ei : i = w.length := by omega
      rw [ei] at hi
      rw [List.getElem?_append_right (Nat.le_refl _), Nat.sub_self] at hi
      have ex : c = x := by injection hi
      rw [ei, upd_s, ex]
  · have w16 := fun {β : Type} (K : GS → Option β) => w25_116 (E := E) c1 hEq A (.int (Int32.ofNat (w.length + 1))) K
    simp only [vjava_lang_StringBuilder_append__C_Ljava_lang_StringBuilder_]
    rw [kc c1]
    simp only [fJ7_append, bJ7_append_0, bJ7_append_5, vS_java_lang_StringBuilder_append__C_Ljava_lang_AbstractStringBuilder_, pq_lit]
    rw [kc c1]
    simp only [fJ6_append, bJ6_append_0, bJ6_append_10, bJ6_append_14, bJ6_append_21, pq_lit]
    simp (disch := omega) only [↓r16, ↓gbd_h (en), en, ↓gbd_h (la), la, ↓gbd_h (ca), ca, ↓r13, ↓w16, ← hS1, nc, ↓gw, pq_lit, pq_add, pq_le, pq_lt, pq_eq, pq_en, pq_ne, pq_nle, pq_nlt, pq_len, pq_ltn, pB_z, pB_o, mzt_0, mzt_1, mzt_B, ↓gbd_s, gbd_s, ↓gnn_s, ↓grf_s, eq_self, ↓reduceIte, Nat.reduceEqDiff, Nat.reduceLeDiff, Nat.reduceLT, Nat.reduceMul, Nat.reduceAdd, not_true_eq_false, not_false_eq_true, Bool.false_eq_true]
end RB
