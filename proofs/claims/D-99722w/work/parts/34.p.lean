/-! the component goes through rows of crossings: any walker -/
def runR {Q : Type} (en : List Nat → Q → Int32 → Int32 → Bool × Q) : List Row → Q → Option Row × Q
  | [], w => (none, w)
  | r :: L, w => if (en r.1 w r.2.1 r.2.2).1 = true then (some r, (en r.1 w r.2.1 r.2.2).2) else runR en L (en r.1 w r.2.1 r.2.2).2
theorem runR_app {Q : Type} (en : List Nat → Q → Int32 → Int32 → Bool × Q) : ∀ (L L' : List Row) (w : Q), runR en (L ++ L') w = if (runR en L w).1.isSome = true then runR en L w else runR en L' (runR en L w).2
  | [], L', w => rfl
  | r :: L, L', w => by
    by_cases h : (en r.1 w r.2.1 r.2.2).1 = true
    · simp [runR, h]
    · have e1 : runR en (r :: (L ++ L')) w = runR en (L ++ L') (en r.1 w r.2.1 r.2.2).2 := if_neg h
      have e2 : runR en (r :: L) w = runR en L (en r.1 w r.2.1 r.2.2).2 := if_neg h
      rw [List.cons_append, e1, e2]
      exact runR_app en L L' _
/-- the path as the array holds it -/
def Pth (P : Nat → Int32) (p : List Nat) : Prop := ∀ i l, p[i]? = some l → P i = Int32.ofNat l
theorem Pth.snoc {P : Nat → Int32} {p : List Nat} (h : Pth P p) (l : Nat) : Pth (upd P p.length (Int32.ofNat l)) (p ++ [l]) := by
  intro i l' e
  by_cases q : i < p.length
  · rw [List.getElem?_append_left q] at e
    rw [upd_o _ _ (by omega)]
    exact h i l' e
  · rw [List.getElem?_append_right (by omega)] at e
    have : i - p.length = 0 := by
      cases e2 : i - p.length with
      | zero => rfl
      | succ z => rw [e2] at e; simp at e
    rw [this] at e
    have : i = p.length := by omega
    subst this
    rw [upd_s]
    simp at e
    rw [e]
theorem Pth.pre {P P' : Nat → Int32} {p : List Nat} {l : Nat} (h : Pth P p) (e : ∀ i, i < p.length + 1 → P' i = upd P p.length (Int32.ofNat l) i) : Pth P' p := by
  intro i l' q
  have : i < p.length := by
    obtain ⟨q1, -⟩ := List.getElem?_eq_some_iff.mp q
    exact q1
  rw [e i (by omega), upd_o _ _ (by omega)]
  exact h i l' q
def Wlk {Q : Type} (E : gE) (N b : Nat) (A : FA) (a : Nat) (d : AD) (g ci h : Nat) (sp : Int32) (Sw : (Nat → Int32) → Q → GS) (en : List Nat → Q → Int32 → Int32 → Bool × Q) : Prop :=
  (ci = 13 ∨ ci = 14 ∨ ci = 15) ∧ E.1 ≤ g ∧ (∀ P w, TA b (Sw P w) A 0 a d) ∧ (∀ P w, ∃ xs, Cel b (Sw P w) g (.inr (ci, .ref (tad b 0) :: .int (Int32.ofNat h) :: .int sp :: .ref (g + 1) :: xs))) ∧ (∀ P w, Cel b (Sw P w) (g + 1) (.inl (1, 5, .inl P))) ∧ (∀ P w k v, gup (Sw P w) (g + 1) (.inl (1, 5, .inl (upd P k v))) = Sw (upd P k v) w) ∧ (∀ P w p x t, p.length ≤ 5 → (∀ l, l ∈ p → l < 7) → Pth P p → (∃ l, l < 7 ∧ x = Int32.ofNat l) → vInchBorders_Walk_ends__III_Z E N (put b A (Sw P w)) (some g) (Int32.ofNat p.length) x t = some (pB ((en p w x t).1 = true), put b A (Sw P (en p w x t).2)))
section WK
variable {Q : Type} {E : gE} {N b : Nat} {A : FA} {a : Nat} {d : AD} {g ci h : Nat} {sp : Int32} {Sw : (Nat → Int32) → Q → GS} {en : List Nat → Q → Int32 → Int32 → Bool × Q}
theorem Wlk.g81 {β : Type} (H : Wlk E N b A a d g ci h sp Sw en) (P : Nat → Int32) (w : Q) (K : Option Nat → Option β) : ggr (put b A (Sw P w)) (some g) 81 K = K (some (tad b 0)) := by
  obtain ⟨xs, hx⟩ := H.2.2.2.1 P w
  rcases H.1 with e | e | e <;> subst e <;> exact ggr_as (hx.at A) rfl rfl K
theorem Wlk.g82 {β : Type} (H : Wlk E N b A a d g ci h sp Sw en) (P : Nat → Int32) (w : Q) (K : Int32 → Option β) : ggi (put b A (Sw P w)) (some g) 82 K = K (Int32.ofNat h) := by
  obtain ⟨xs, hx⟩ := H.2.2.2.1 P w
  rcases H.1 with e | e | e <;> subst e <;> exact ggi_at (hx.at A) rfl rfl K
theorem Wlk.g83 {β : Type} (H : Wlk E N b A a d g ci h sp Sw en) (P : Nat → Int32) (w : Q) (K : Int32 → Option β) : ggi (put b A (Sw P w)) (some g) 83 K = K sp := by
  obtain ⟨xs, hx⟩ := H.2.2.2.1 P w
  rcases H.1 with e | e | e <;> subst e <;> exact ggi_at (hx.at A) rfl rfl K
theorem Wlk.g84 {β : Type} (H : Wlk E N b A a d g ci h sp Sw en) (P : Nat → Int32) (w : Q) (K : Option Nat → Option β) : ggr (put b A (Sw P w)) (some g) 84 K = K (some (g + 1)) := by
  obtain ⟨xs, hx⟩ := H.2.2.2.1 P w
  rcases H.1 with e | e | e <;> subst e <;> exact ggr_as (hx.at A) rfl rfl K
theorem Wlk.wr {β : Type} (H : Wlk E N b A a d g ci h sp Sw en) (P : Nat → Int32) (w : Q) {k : Nat} (hk : k < 5) (v : Int32) (K : GS → Option β) : gaw 1 E (put b A (Sw P w)) (some (g + 1)) (Int32.ofNat k) v K = K (put b A (Sw (upd P k v) w)) := by
  have h1 := H.2.2.2.2.1 P w
  have h2 := H.2.1
  rw [gaw_at (h1.at A) hk (by omega) (by omega), gup_o h1.2.1, H.2.2.2.2.2.1]
theorem Wlk.cl {β : Type} (H : Wlk E N b A a d g ci h sp Sw en) (P : Nat → Int32) (w : Q) (f : Nat → Option β) : gvd (put b A (Sw P w)) (some g) (fun b ci => if ci = 13 then f b else if ci = 14 then f b else if ci = 15 then f b else none) = f g := by
  obtain ⟨xs, hx⟩ := H.2.2.2.1 P w
  rcases H.1 with e | e | e <;> subst e <;> (rw [kc hx]; rfl)
/-- how a walker comes back -/
def Rt (b : Nat) (A : FA) (Sw : (Nat → Int32) → Q → GS) (p : List Nat) (P : Nat → Int32) (r : Option Row × Q) (o : Option (Int32 × GS)) : Prop := ∃ P', o = some (pB (r.1.isSome = true), put b A (Sw P' r.2)) ∧ (∀ i, i < p.length → P' i = P i) ∧ ∀ row, r.1 = some row → Pth P' row.1
theorem c_goes (H : Wlk E N b A a d g ci h sp Sw en) (hN : 100 ≤ N) (hh : h < nL (tS A 0)) : ∀ (j D : Nat) (p : List Nat) (P : Nat → Int32) (w : Q) (x t st : Int32), p.length + j ≤ 5 → j < D → (∀ l, l ∈ p → l < 7) → Pth P p → (∃ l, l < 7 ∧ x = Int32.ofNat l) → Rt b A Sw p P (runR en ((rows (tS A 0) h sp j x t st).map (fun r => (p ++ r.1, r.2))) w) (zX19_goes E N D (put b A (Sw P w)) (some g) (Int32.ofNat p.length) (Int32.ofNat (p.length + j)) x t st)
  | 0, 0, p, P, w, x, t, st, hj, hD, hp, hP, hx => by omega
  | 0, D + 1, p, P, w, x, t, st, hj, hD, hp, hP, hx => by
    have h1 := H.2.2.2.2.2.2 P w p x t (by omega) hp hP hx
    refine ⟨P, ?_, fun _ _ => rfl, fun row hr => ?_⟩
    · simp only [zX19_goes, vbInchBorders_Walk_goes__IIIII_Z, H.cl, fX19_goes, bX19_goes_0, Nat.add_zero, if_true, h1, gbd_s, mzt_B, rows, List.map_cons, List.map_nil, List.append_nil, runR]
      cases e : (en p w x t).1 <;> simp [pB]
    · simp only [rows, List.map_cons, List.map_nil, List.append_nil, runR] at hr
      split at hr
      · cases hr
        exact hP
      · cases hr
  | j + 1, 0, p, P, w, x, t, st, hj, hD, hp, hP, hx => by omega
  | j + 1, D + 1, p, P, w, x, t, st, hj, hD, hp, hP, hx => by
    have hI : IvS (tS A 0) := (H.2.2.1 P w).2.2.2
    have h7 := hI.l7
    have ih := c_goes H hN hh j D
    have loop : ∀ (m l n : Nat) (P : Nat → Int32) (w : Q), l + m = nL (tS A 0) → m < n → Pth P p → Rt b A Sw p P (runR en ((frm (tS A 0) h sp (rows (tS A 0) h sp j) x t st l m).map (fun r => (p ++ r.1, r.2))) w) (bX19_goes_17L E N (zX19_goes E N D) g n (put b A (Sw P w)) (Int32.ofNat p.length) (Int32.ofNat (p.length + (j + 1))) x t st (Int32.ofNat l)) := by
      intro m
      induction m with
      | zero =>
        intro l n P w hl hn hP
        obtain ⟨n', rfl⟩ : ∃ n', n = n' + 1 := ⟨n - 1, by omega⟩
        refine ⟨P, ?_, fun _ _ => rfl, fun row hr => ?_⟩
        · simp (disch := omega) only [bX19_goes_17L, bX19_goes_17, H.g81, c_lands (H.2.2.1 P w), pq_lit, pq_add, pq_le, pq_lt, pq_eq, pq_en, pq_ne, pq_nle, pq_nlt, pq_len, pq_ltn, pB_z, pB_o, mzt_0, mzt_1, mzt_B, gbd_s, gnn_s, grf_s, frm, List.map_nil, runR]
          rw [if_pos (by omega)]
          rfl
        · simp only [frm, List.map_nil, runR] at hr
          cases hr
      | succ m ihm =>
        intro l n P w hl hn hP
        obtain ⟨n', rfl⟩ : ∃ n', n = n' + 1 := ⟨n - 1, by omega⟩
        have hT := fun P w => H.2.2.1 P w
        have hl7 : l < nL (tS A 0) := by omega
        have hw := whyS_n (tS A 0) x l t (bt sp (Int32.ofNat l))
        have eq1 : bX19_goes_17L E N (zX19_goes E N D) g (n' + 1) (put b A (Sw P w)) (Int32.ofNat p.length) (Int32.ofNat (p.length + (j + 1))) x t st (Int32.ofNat l) = if wOk (tS A 0) sp x t l = true then gbd (zX19_goes E N D (put b A (Sw (upd P p.length (Int32.ofNat l)) w)) (some g) (Int32.ofNat (p.length + 1)) (Int32.ofNat (p.length + (j + 1))) (Int32.ofNat l) (wTl (tS A 0) h sp t st l) (wSt (tS A 0) h t st l)) (fun r_1 S_2 => if r_1 = Int32.ofNat 0 then bX19_goes_17L E N (zX19_goes E N D) g n' S_2 (Int32.ofNat p.length) (Int32.ofNat (p.length + (j + 1))) x t st (Int32.ofNat (l + 1)) else some (Int32.ofNat 1, S_2)) else bX19_goes_17L E N (zX19_goes E N D) g n' (put b A (Sw P w)) (Int32.ofNat p.length) (Int32.ofNat (p.length + (j + 1))) x t st (Int32.ofNat (l + 1)) := by
          simp (disch := omega) only [bX19_goes_17L, bX19_goes_17, H.g81, H.g83, c_lands (hT _ _), c_bt, c_why (hT P w) hN x t _ hl7, pq_lit, pq_add, pq_le, pq_lt, pq_en, pq_ne, pq_nle, pq_nlt, pq_len, pq_ltn, pB_z, pB_o, mzt_0, mzt_1, mzt_B, gbd_s, gnn_s, grf_s]
          rw [if_neg (by omega)]
          unfold wOk
          by_cases e : whyS (tS A 0) x l t (bt sp (Int32.ofNat l)) = Int32.ofNat 0
          · rw [if_pos e, if_pos (decide_eq_true e)]
            simp (disch := omega) only [H.g84, H.wr, H.g82, H.g81, pq_eq]
            unfold wTl wSt wGot
            by_cases e2 : l = h
            · subst e2
              rw [if_pos rfl]
              simp (disch := omega) only [c_giv (hT _ _) hl7, gbd_s, bX19_goes_92, bX19_goes_119, bX19_goes_149, H.g83, H.g81, c_bt, c_take (hT _ _) hl7, pq_lit, pq_add, pq_le, pq_lt, pq_en, pq_ne, pq_nle, pq_nlt, pq_len, pq_ltn, pB_z, pB_o, mzt_0, mzt_1, mzt_B, gbd_s, gnn_s, grf_s, if_true]
              cases e3 : bt sp (Int32.ofNat l) <;> simp
            · rw [if_neg e2]
              simp (disch := omega) only [if_neg e2, gbd_s, bX19_goes_92, bX19_goes_119, bX19_goes_149, H.g83, H.g81, c_bt, c_take (hT _ _) hl7, pq_lit, pq_add, pq_le, pq_lt, pq_en, pq_ne, pq_nle, pq_nlt, pq_len, pq_ltn, pB_z, pB_o, mzt_0, mzt_1, mzt_B, gbd_s, gnn_s, grf_s]
              cases e3 : bt sp (Int32.ofNat l) <;> simp
          · rw [if_neg e, if_neg (by simpa using e)]
            simp only [bX19_goes_149, pq_lit, pq_add]
        rw [eq1]
        unfold frm
        by_cases ok : wOk (tS A 0) sp x t l = true
        · rw [if_pos ok, if_pos ok, List.map_append, runR_app]
          have hs := hP.snoc l
          have r1 := ih (p ++ [l]) (upd P p.length (Int32.ofNat l)) w (Int32.ofNat l) (wTl (tS A 0) h sp t st l) (wSt (tS A 0) h t st l) (by simp; omega) (by omega) (by
            intro q hq
            rcases List.mem_append.mp hq with q1 | q1
            · exact hp q q1
            · have := List.mem_singleton.mp q1
              omega) hs ⟨l, by omega, rfl⟩
          have em : (fun r : Row => (p ++ [l] ++ r.1, r.2)) = (fun r : Row => (p ++ r.1, r.2)) ∘ (fun r : Row => (l :: r.1, r.2)) := by
            funext r
            simp
          rw [em, ← List.map_map, List.length_append, List.length_singleton, show p.length + 1 + j = p.length + (j + 1) by omega] at r1
          obtain ⟨P', o1, o2, o3⟩ := r1
          rw [List.length_append, List.length_singleton] at o2
          rw [o1, gbd_s]
          generalize runR en (((rows (tS A 0) h sp j (Int32.ofNat l) (wTl (tS A 0) h sp t st l) (wSt (tS A 0) h t st l)).map (fun r : Row => (l :: r.1, r.2))).map (fun r : Row => (p ++ r.1, r.2))) w = R at *
          cases e : R.1 with
          | some row =>
            refine ⟨P', ?_, fun i hi => ?_, fun row' hr => ?_⟩
            · rw [pB_t (by simp), if_neg (by decide)]
              simp [e, pB]
            · rw [o2 i (by omega), upd_o _ _ (by omega)]
            · simp only [e, Option.isSome_some, if_true] at hr
              exact o3 row' (e.trans hr)
          | none =>
            obtain ⟨P2, q1, q2, q3⟩ := ihm (l + 1) n' P' R.2 (by omega) (by omega) (hP.pre o2)
            refine ⟨P2, ?_, fun i hi => ?_, fun row' hr => ?_⟩
            · rw [pB_f (by simp), if_pos rfl, q1]
              simp [e]
            · rw [q2 i hi, o2 i (by omega), upd_o _ _ (by omega)]
            · simp only [e, Option.isSome_none, Bool.false_eq_true, if_false] at hr
              exact q3 row' hr
        · rw [if_neg ok, if_neg ok, List.nil_append]
          exact ihm (l + 1) n' P w (by omega) (by omega) hP
    have r := loop (nL (tS A 0)) 0 N P w (by omega) (by omega) hP
    have e1 : zX19_goes E N (D + 1) (put b A (Sw P w)) (some g) (Int32.ofNat p.length) (Int32.ofNat (p.length + (j + 1))) x t st = bX19_goes_17L E N (zX19_goes E N D) g N (put b A (Sw P w)) (Int32.ofNat p.length) (Int32.ofNat (p.length + (j + 1))) x t st (Int32.ofNat 0) := by
      simp (disch := omega) only [zX19_goes, vbInchBorders_Walk_goes__IIIII_Z, H.cl, fX19_goes, bX19_goes_0, pq_eq, pq_lit]
      rw [if_neg (by omega)]
    rw [e1]
    exact r
theorem c_starts (H : Wlk E N b A a d g ci h sp Sw en) (hN : 100 ≤ N) (hh : h < nL (tS A 0)) {p : Nat} (hp : p < nP (tS A 0)) {j : Nat} (hj : j ≤ 5) (P : Nat → Int32) (w : Q) : Rt b A Sw [] P (runR en (rows (tS A 0) h sp j (tS A 0 (108 + p)) (tS A 0 (114 + p)) (tS A 0 (94 + h))) w) (fX19_starts E N (put b A (Sw P w)) g (Int32.ofNat p) (Int32.ofNat j)) := by
  have hI : IvS (tS A 0) := (H.2.2.1 P w).2.2.2
  have h7 := hI.l7
  have h6 := hI.p6
  have hw := hI.wl hp
  have r := c_goes H hN hh j 64 [] P w (tS A 0 (108 + p)) (tS A 0 (114 + p)) (tS A 0 (94 + h)) (by simpa using hj) (by omega) (by simp) (by intro i l q; simp at q) ⟨wh (tS A 0) p, by omega, hI.wo hp⟩
  simp only [List.nil_append, List.length_nil, Nat.zero_add] at r
  have em : (rows (tS A 0) h sp j (tS A 0 (108 + p)) (tS A 0 (114 + p)) (tS A 0 (94 + h))).map (fun r : Row => (r.1, r.2)) = rows (tS A 0) h sp j (tS A 0 (108 + p)) (tS A 0 (114 + p)) (tS A 0 (94 + h)) := List.map_id' _
  rw [em] at r
  obtain ⟨P', o1, o2, o3⟩ := r
  refine ⟨P', ?_, o2, o3⟩
  simp (disch := omega) only [fX19_starts, bX19_starts_0, H.g81, H.g82, t_a, t_29, t_30, t_31, t_39, t_32, t_33, t_34, t_35, t_36, t_37, t_38, t_g1, t_g2, t_g3, t_g4, t_g5, t_g6, t_g7, t_l1, t_l2, t_l3, t_l4, t_l5, t_l6, t_l7, t_w1, t_w2, t_w3, t_w4, t_w5, t_w6, t_w7, t_p29, t_p30, t_p31, t_p39, t_pa, t_cls, aT_sS, sS_sS, aT_sT, sT_sT, vInchBorders_Walk_goes__IIIII_Z, pq_lit]
  rw [o1, gbd_s, mzt_B]
end WK
