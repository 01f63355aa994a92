/-! making: cells pushed one after the other -/
abbrev Gp : Type := GE × Nat
def gpl (S : GS) : List Gp → GS
  | [] => S
  | p :: L => gpl (gpush S p.1 p.2) L
def gsl : List Gp → Nat
  | [] => 0
  | p :: L => p.2 + gsl L
theorem gsl_a (L L' : List Gp) : gsl (L ++ L') = gsl L + gsl L' := by
  induction L with
  | nil => show gsl L' = 0 + gsl L'; omega
  | cons p L ih => show p.2 + gsl (L ++ L') = p.2 + gsl L + gsl L'; rw [ih]; omega
theorem gpl_2 : ∀ (L : List Gp) (S : GS), (gpl S L).2 = (S.2.1 + L.length, S.2.2.1 + L.length, S.2.2.2 + gsl L)
  | [], S => rfl
  | p :: L, S => by
    show (gpl (gpush S p.1 p.2) L).2 = _
    rw [gpl_2 L, gpush_2]
    show (S.2.1 + 1 + L.length, S.2.2.1 + 1 + L.length, S.2.2.2 + p.2 + gsl L) = (S.2.1 + (L.length + 1), S.2.2.1 + (L.length + 1), S.2.2.2 + (p.2 + gsl L))
    rw [show S.2.1 + 1 + L.length = S.2.1 + (L.length + 1) by omega, show S.2.2.1 + 1 + L.length = S.2.2.1 + (L.length + 1) by omega, show S.2.2.2 + p.2 + gsl L = S.2.2.2 + (p.2 + gsl L) by omega]
theorem gpl_a : ∀ (L L' : List Gp) (S : GS), gpl S (L ++ L') = gpl (gpl S L) L'
  | [], L', S => rfl
  | p :: L, L', S => gpl_a L L' (gpush S p.1 p.2)
theorem gpl_p (L : List Gp) (S : GS) (e : GE) (n : Nat) : gpush (gpl S L) e n = gpl S (L ++ [(e, n)]) := by
  rw [gpl_a]; rfl
theorem gpl_lo : ∀ (L : List Gp) (S : GS) {q : Nat}, q < S.2.1 → (gpl S L).1 q = S.1 q
  | [], S, q, h => rfl
  | p :: L, S, q, h => by
    show (gpl (gpush S p.1 p.2) L).1 q = _
    rw [gpl_lo L (gpush S p.1 p.2) (q := q) (by rw [gpush_2]; show q < S.2.1 + 1; omega)]
    exact (Ext.push S p.1 p.2).2 q h
theorem gpl_rd : ∀ (L : List Gp) (S : GS) (i : Nat) {p : Gp}, L[i]? = some p → (gpl S L).1 (S.2.1 + i) = some p.1
  | [], S, i, p, h => by simp at h
  | p0 :: L, S, 0, p, h => by
    have e : p0 = p := by simpa using h
    subst e
    show (gpl (gpush S p0.1 p0.2) L).1 S.2.1 = _
    rw [gpl_lo L (gpush S p0.1 p0.2) (q := S.2.1) (by rw [gpush_2]; show S.2.1 < S.2.1 + 1; omega)]
    show va_up S.1 S.2.1 (some p0.1) S.2.1 = _
    unfold va_up; rw [if_pos rfl]
  | p0 :: L, S, i + 1, p, h => by
    have h' : L[i]? = some p := by simpa using h
    have := gpl_rd L (gpush S p0.1 p0.2) i h'
    rw [gpush_2] at this
    show (gpl (gpush S p0.1 p0.2) L).1 (S.2.1 + (i + 1)) = _
    rw [show S.2.1 + (i + 1) = S.2.1 + 1 + i by omega]
    exact this
theorem gup_lo : ∀ (L : List Gp) (S : GS) {q : Nat} (e : GE), q < S.2.1 → gup (gpl S L) q e = gpl (gup S q e) L
  | [], S, q, e, h => rfl
  | p :: L, S, q, e, h => by
    show gup (gpl (gpush S p.1 p.2) L) q e = gpl (gpush (gup S q e) p.1 p.2) L
    rw [gup_lo L (gpush S p.1 p.2) e (by rw [gpush_2]; show q < S.2.1 + 1; omega), gpush_gup h]
theorem gup_push (S : GS) (e e' : GE) (n : Nat) : gup (gpush S e n) S.2.1 e' = gpush S e' n := by
  unfold gup gpush
  refine Prod.ext ?_ rfl
  funext q
  show va_up (va_up S.1 S.2.1 (some e)) S.2.1 (some e') q = va_up S.1 S.2.1 (some e') q
  unfold va_up
  by_cases h : q = S.2.1
  · rw [if_pos h, if_pos h]
  · rw [if_neg h, if_neg h, if_neg h]
theorem gpl_up : ∀ (L : List Gp) (S : GS) (i : Nat) {p : Gp} (e : GE), L[i]? = some p → gup (gpl S L) (S.2.1 + i) e = gpl S (L.set i (e, p.2))
  | [], S, i, p, e, h => by simp at h
  | p0 :: L, S, 0, p, e, h => by
    have e0 : p0 = p := by simpa using h
    subst e0
    show gup (gpl (gpush S p0.1 p0.2) L) S.2.1 e = gpl (gpush S e p0.2) L
    rw [gup_lo L (gpush S p0.1 p0.2) e (by rw [gpush_2]; show S.2.1 < S.2.1 + 1; omega), gup_push]
  | p0 :: L, S, i + 1, p, e, h => by
    have h' : L[i]? = some p := by simpa using h
    have := gpl_up L (gpush S p0.1 p0.2) i e h'
    rw [gpush_2] at this
    show gup (gpl (gpush S p0.1 p0.2) L) (S.2.1 + (i + 1)) e = gpl (gpush S p0.1 p0.2) (L.set i (e, p.2))
    rw [show S.2.1 + (i + 1) = S.2.1 + 1 + i by omega]
    exact this
/-- a Times just made, with its seven arrays -/
def tmC (t : Nat) (x : Option Nat) : List Gp := [(.inr (2, [va_rf x, .int (Int32.ofNat 0), .int (Int32.ofNat 0), .int (Int32.ofNat 0), .ref (t + 1), .ref (t + 2), .ref (t + 3), .ref (t + 4), .ref (t + 5), .ref (t + 6), .ref (t + 7), .int (Int32.ofNat 0)]), 12), (.inl (1, 7, .inl (fun _ => Int32.ofNat 0)), 7), (.inl (1, 7, .inl (fun _ => Int32.ofNat 0)), 7), (.inl (1, 6, .inl (fun _ => Int32.ofNat 0)), 6), (.inl (1, 6, .inl (fun _ => Int32.ofNat 0)), 6), (.inl (1, 6, .inl (fun _ => Int32.ofNat 0)), 6), (.inl (1, 6, .inl (fun _ => Int32.ofNat 0)), 6), (.inl (1, 6, .inl (fun _ => Int32.ofNat 0)), 6)]
theorem gna_g {β : Type} {S : GS} {κ n : Nat} (hn : n ≤ 65536) (K : Nat → GS → Option β) : gna S κ (Int32.ofNat n) K = K S.2.1 (gpush S (.inl (κ, n, gdfa κ)) n) := by
  unfold gna
  rw [pq_tn (by omega), if_neg (by
    intro q
    rcases q with q | q
    · rw [show (0 : Int32) = Int32.ofNat 0 from rfl, pq_lt (by omega) (by omega)] at q
      omega
    · omega)]
theorem gdfa_i : gdfa 1 = .inl (fun _ => Int32.ofNat 0) := rfl
theorem t_new {E : gE} {N : Nat} {S : GS} (hE : E.1 ≤ S.2.1) : fX3_init E N (gpush S (.inr (2, gdf 2)) (gdf 2).length) S.2.1 = some (Int32.ofNat 0, gpl S (tmC S.2.1 none)) := by
  have st : ∀ (L : List Gp) (fs : List Value) (k κ : Nat) (v : Value) {β : Type} (K : GS → Option β), gfx 2 κ = some k → k < fs.length → L[0]? = some (.inr (2, fs), 12) → gpv E (gpl S L) (some S.2.1) κ v K = K (gpl S (L.set 0 (.inr (2, fs.set k v), 12))) := by
    intro L fs k κ v β K h1 h2 h3
    have r := gpl_rd L S 0 h3
    rw [Nat.add_zero] at r
    rw [gpv_at r h1 h2 hE]
    have u := gpl_up L S 0 (.inr (2, fs.set k v)) h3
    rw [Nat.add_zero] at u
    rw [u]
  have na : ∀ (L : List Gp) (n : Nat) {β : Type} (K : Nat → GS → Option β), n ≤ 65536 → gna (gpl S L) 1 (Int32.ofNat n) K = K (S.2.1 + L.length) (gpl S (L ++ [(.inl (1, n, .inl (fun _ => Int32.ofNat 0)), n)])) := by
    intro L n β K hn
    rw [gna_g hn, gpl_p, gpl_2, gdfa_i]
  have h0 : gpush S (.inr (2, gdf 2)) (gdf 2).length = gpl S [(.inr (2, [.null, .int (Int32.ofNat 0), .int (Int32.ofNat 0), .int (Int32.ofNat 0), .null, .null, .null, .null, .null, .null, .null, .int (Int32.ofNat 0)]), 12)] := rfl
  rw [h0]
  unfold fX3_init bX3_init_0 bX3_init_4
  simp only [pq_lit]
  rw [na _ _ _ (by omega)]
  unfold bX3_init_9
  simp only [pq_lit, g_rfs, List.length_cons, List.length_nil, List.cons_append, List.nil_append]
  rw [st _ _ 4 _ _ _ rfl (by simp) rfl, na _ _ _ (by omega)]
  unfold bX3_init_17
  simp only [pq_lit, g_rfs, List.length_cons, List.length_nil, List.cons_append, List.nil_append, List.set_cons_zero, List.set_cons_succ]
  rw [st _ _ 5 _ _ _ rfl (by simp) rfl, na _ _ _ (by omega)]
  unfold bX3_init_25
  simp only [pq_lit, g_rfs, List.length_cons, List.length_nil, List.cons_append, List.nil_append, List.set_cons_zero, List.set_cons_succ]
  rw [st _ _ 6 _ _ _ rfl (by simp) rfl, na _ _ _ (by omega)]
  unfold bX3_init_33
  simp only [pq_lit, g_rfs, List.length_cons, List.length_nil, List.cons_append, List.nil_append, List.set_cons_zero, List.set_cons_succ]
  rw [st _ _ 7 _ _ _ rfl (by simp) rfl, na _ _ _ (by omega)]
  unfold bX3_init_41
  simp only [pq_lit, g_rfs, List.length_cons, List.length_nil, List.cons_append, List.nil_append, List.set_cons_zero, List.set_cons_succ]
  rw [st _ _ 8 _ _ _ rfl (by simp) rfl, na _ _ _ (by omega)]
  unfold bX3_init_49
  simp only [pq_lit, g_rfs, List.length_cons, List.length_nil, List.cons_append, List.nil_append, List.set_cons_zero, List.set_cons_succ]
  rw [st _ _ 9 _ _ _ rfl (by simp) rfl, na _ _ _ (by omega)]
  unfold bX3_init_57
  simp only [pq_lit, g_rfs, List.length_cons, List.length_nil, List.cons_append, List.nil_append, List.set_cons_zero, List.set_cons_succ]
  rw [st _ _ 10 _ _ _ rfl (by simp) rfl]
  rfl
