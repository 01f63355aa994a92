/-! caravan: the component's rows -/
def carA (A A' : FA) : Prop := (∀ k, k ∉ [17, 19] → aI A' k = aI A k) ∧ (∀ k, k ∉ [15, 16] → aV A' k = aV A k) ∧ (∀ k, aR A' k = aR A k) ∧ aC A' = aC A ∧ (∀ j, j ≠ 1 → aT A' j = aT A j) ∧ ∀ k, aK A' k = aK A k
theorem carA.rf {A : FA} : carA A A := ⟨fun _ _ => rfl, fun _ _ => rfl, fun _ => rfl, rfl, fun _ _ => rfl, fun _ => rfl⟩
theorem carA.tr {A B C : FA} (h : carA A B) (g : carA B C) : carA A C := ⟨fun k hk => (g.1 k hk).trans (h.1 k hk), fun k hk => (g.2.1 k hk).trans (h.2.1 k hk), fun k => (g.2.2.1 k).trans (h.2.2.1 k), g.2.2.2.1.trans h.2.2.2.1, fun j hj => (g.2.2.2.2.1 j hj).trans (h.2.2.2.2.1 j hj), fun k => (g.2.2.2.2.2 k).trans (h.2.2.2.2.2 k)⟩
theorem carA.sT (A : FA) (t : FT) : carA A (sT A 1 t) := ⟨fun _ _ => rfl, fun _ _ => rfl, fun _ => rfl, rfl, fun _ hj => if_neg hj, fun _ => rfl⟩
theorem carA.sI (A : FA) {k : Nat} (v : Int32) (hk : k ∈ [17, 19]) : carA A (sI A k v) := ⟨fun j hj => if_neg (fun (e : j = k) => hj (e ▸ hk)), fun _ _ => rfl, fun _ => rfl, rfl, fun _ _ => rfl, fun _ => rfl⟩
theorem carA.sV (A : FA) {k : Nat} (f : Nat → Int32) (hk : k ∈ [15, 16]) : carA A (sV A k f) := ⟨fun _ _ => rfl, fun j hj => if_neg (fun (e : j = k) => hj (e ▸ hk)), fun _ => rfl, rfl, fun _ _ => rfl, fun _ => rfl⟩
theorem Hold.cy {f g : Nat → Int32} {L : List Nat} {k : Nat} (h : Hold f L) (hk : L.length = k) : Hold (va_cpy f g 0 0 k) L := by
  intro i hi
  unfold va_cpy
  rw [if_pos (by omega), Nat.zero_add, Nat.sub_zero]
  exact h i hi
theorem set_p : ∀ set, set < 64 → ∀ p, p < 6 → set.testBit p = true → pcn 6 (set ^^^ 2 ^ p) + 1 = pcn 6 set := by decide +kernel
section OT
variable {E : gE} {N b : Nat} {A : FA} {S : GS} {M : MS}
theorem f15g {i : Nat} (hi : i < 6) {β : Type} (K : Int32 → Option β) : gai 1 (put b A S) (some (b + 25)) (Int32.ofNat i) K = K (aV A 15 i) := gai_at f_c15 hi (by omega) K
theorem f15w (hE : E.1 ≤ b) {i : Nat} (hi : i < 6) (v : Int32) {β : Type} (K : GS → Option β) : gaw 1 E (put b A S) (some (b + 25)) (Int32.ofNat i) v K = K (put b (sV A 15 (upd (aV A 15) i v)) S) := by
  rw [gaw_at f_c15 hi (by omega) (by omega), f_u15]
theorem f16c (hE : E.1 ≤ b) {k : Nat} (hk : k ≤ 6) {β : Type} (K : GS → Option β) : gcp E (put b A S) (some (b + 25)) (Int32.ofNat 0) (some (b + 26)) (Int32.ofNat 0) (Int32.ofNat k) K = K (put b (sV A 16 (va_cpy (aV A 15) (aV A 16) 0 0 k)) S) := by
  rw [gcp_at f_c15 f_c16 (by omega) hk hk (by omega) (by omega), f_u16]
noncomputable def klA (A : FA) (k : Nat) (s' : St) : FA := if aI A 19 < lenS s' then sV (sI (sS A 1 s') 19 (lenS s')) 16 (va_cpy (aV A 15) (aV A 16) 0 0 k) else sS A 1 s'
theorem c_klL (hE : E.1 ≤ b) (hN : 1000 ≤ N) {a : Nat} {d : AD} {l k : Nat} (hk : k ≤ 6) : ∀ (T : List Nat) (i q : Nat) (A : FA), TA b S A 1 a d → IvA (tS A 1) → l < nL (tS A 1) → aI A 17 = Int32.ofNat k → (∀ x, x ∈ T → x < nP (tS A 1)) → (∀ j, j < T.length → aV A 15 (i + j) = Int32.ofNat (T.getD j 0)) → i + T.length = k → T.length < q → bX1_keepLonger_14L E N b q (put b A S) (Int32.ofNat l) (Int32.ofNat i) = some (Int32.ofNat 0, put b (klA A k (runS l (tS A 1) T)) S)
  | T, i, 0, A, _, _, _, _, _, _, _, h => by omega
  | [], i, q + 1, A, hT, hI, hl, h17, hx, hh, hi, _ => by
    have z : k ≤ i := by simp at hi; omega
    have cl := c_len (E := E) (N := N) hT (by omega) hI.2.2.1
    have e0 : runS l (tS A 1) [] = tS A 1 := rfl
    have e1 : sS A 1 (tS A 1) = A := sS_id A 1
    unfold klA
    rw [e0, e1]
    simp only [bX1_keepLonger_14L, bX1_keepLonger_14, vInchBorders_Times_lengths___I, pq_lit]
    by_cases w : aI A 19 < lenS (tS A 1)
    · simp (disch := omega) only [↓f_17, h17, z, ↓f_5, ↓t_cls, ↓gbd_h (cl), cl, ↓f_19, w, ↓f_p19, ↓f_15, ↓f_16, pq_lit, pq_add, pq_le, pq_lt, pq_eq, pq_en, pq_ne, pq_nle, pq_nlt, pq_len, pq_ltn, pB_z, pB_o, mzt_0, mzt_1, mzt_B, ↓gbd_s, gbd_s, ↓gnn_s, ↓grf_s, eq_self, ↓reduceIte, Nat.reduceEqDiff, Nat.reduceLeDiff, Nat.reduceLT, Nat.reduceMul, Nat.reduceAdd, not_true_eq_false, not_false_eq_true, Bool.false_eq_true]
      rw [show aI (sI A 19 (lenS (tS A 1))) 17 = Int32.ofNat k from h17, f16c hE hk]
      rfl
    · simp (disch := omega) only [↓f_17, h17, z, ↓f_5, ↓t_cls, ↓gbd_h (cl), cl, ↓f_19, w, pq_lit, pq_add, pq_le, pq_lt, pq_eq, pq_en, pq_ne, pq_nle, pq_nlt, pq_len, pq_ltn, pB_z, pB_o, mzt_0, mzt_1, mzt_B, ↓gbd_s, gbd_s, ↓gnn_s, ↓grf_s, eq_self, ↓reduceIte, Nat.reduceEqDiff, Nat.reduceLeDiff, Nat.reduceLT, Nat.reduceMul, Nat.reduceAdd, not_true_eq_false, not_false_eq_true, Bool.false_eq_true]
  | p :: T, i, q + 1, A, hT, hI, hl, h17, hx, hh, hi, hq => by
    rw [List.length_cons] at hi hq
    have z : ¬ k ≤ i := by omega
    have hp : p < nP (tS A 1) := hx p List.mem_cons_self
    have e : aV A 15 i = Int32.ofNat p := hh 0 (by rw [List.length_cons]; omega)
    have hw := c_whyC (E := E) (N := N) hT (by omega) hp hl
    have hc := c_cr (E := E) (N := N) hT hE hp hl
    obtain ⟨a1, a2, a3, a4⟩ := go_iv hI hp hl
    have hh' : ∀ j, j < T.length → aV A 15 (i + 1 + j) = Int32.ofNat (T.getD j 0) := fun j hj => by
      have := hh (j + 1) (by rw [List.length_cons]; omega)
      rw [show i + 1 + j = i + (j + 1) by omega, this]
      rfl
    have ih := c_klL hE hN (l := l) hk T (i + 1) q (sS A 1 (goS l (tS A 1) p)) (hT.ss a2.mp a1.1) (by rw [tS_ss]; exact a1) (by rw [tS_ss, a4]; exact hl) h17 (fun x hx' => by rw [tS_ss, a3]; exact hx x (List.mem_cons_of_mem _ hx')) hh' (by omega) (by omega)
    rw [tS_ss] at ih
    have ek : klA (sS A 1 (goS l (tS A 1) p)) k (runS l (goS l (tS A 1) p) T) = klA A k (runS l (tS A 1) (p :: T)) := by
      unfold klA
      rw [sS_sS]
      rfl
    rw [ek] at ih
    simp only [bX1_keepLonger_14L, bX1_keepLonger_14, bX1_keepLonger_53, pq_lit]
    by_cases w : whyC (tS A 1) p l = Int32.ofNat 0
    · have eg : goS l (tS A 1) p = crS (tS A 1) p l := if_pos w
      rw [eg] at ih
      simp (disch := omega) only [↓f_17, h17, z, ↓f_5, ↓f_15, ↓f15g, e, ↓gbd_h (hw), hw, w, ↓gbd_h (hc), hc, ih, pq_lit, pq_add, pq_le, pq_lt, pq_eq, pq_en, pq_ne, pq_nle, pq_nlt, pq_len, pq_ltn, pB_z, pB_o, mzt_0, mzt_1, mzt_B, ↓gbd_s, gbd_s, ↓gnn_s, ↓grf_s, eq_self, ↓reduceIte, Nat.reduceEqDiff, Nat.reduceLeDiff, Nat.reduceLT, Nat.reduceMul, Nat.reduceAdd, not_true_eq_false, not_false_eq_true, Bool.false_eq_true]
    · have eg : goS l (tS A 1) p = tS A 1 := if_neg w
      rw [eg, show sS A 1 (tS A 1) = A from sS_id A 1] at ih
      simp (disch := omega) only [↓f_17, h17, z, ↓f_5, ↓f_15, ↓f15g, e, ↓gbd_h (hw), hw, w, ih, pq_lit, pq_add, pq_le, pq_lt, pq_eq, pq_en, pq_ne, pq_nle, pq_nlt, pq_len, pq_ltn, pB_z, pB_o, mzt_0, mzt_1, mzt_B, ↓gbd_s, gbd_s, ↓gnn_s, ↓grf_s, eq_self, ↓reduceIte, Nat.reduceEqDiff, Nat.reduceLeDiff, Nat.reduceLT, Nat.reduceMul, Nat.reduceAdd, not_true_eq_false, not_false_eq_true, Bool.false_eq_true]
/-- what a row's walk keeps -/
def Cin (A0 A : FA) (bst : Int32 × List Nat) (pre : List Nat) : Prop := carA A0 A ∧ aI A 19 = bst.1 ∧ Hold (aV A 16) bst.2 ∧ Hold (aV A 15) pre
theorem c_kl (hE : E.1 ≤ b) (hN : 1000 ≤ N) {a : Nat} {d : AD} {l : Nat} {A0 : FA} {bst : Int32 × List Nat} {pre : List Nat} (hT : TA b S A0 0 a d) (hI : IvA (tS A0 0)) (hl : l < nL (tS A0 0)) (hk : pre.length ≤ 6) (hx : ∀ x, x ∈ pre → x < nP (tS A0 0)) (hC : Cin A0 A bst pre) : ∃ A', Cin A0 A' (kpC (tS A0 0) l bst pre) pre ∧ (gpv E (put b A S) (some b) 17 (.int (Int32.ofNat pre.length)) (fun S_2 => gbd (vInchBorders_keepLonger__I_V E N S_2 (some b) (Int32.ofNat l)) (fun _ S_5 => some (Int32.ofNat 0, S_5)))) = some (Int32.ofNat 0, put b A' S) := by
  obtain ⟨h1, h2, h3, h4⟩ := hC
  have t0 : aT A 0 = aT A0 0 := h1.2.2.2.2.1 0 (by omega)
  have s0 : tS A 0 = tS A0 0 := by unfold tS; rw [t0]
  have hT0 : TA b S (sI A 17 (Int32.ofNat pre.length)) 0 a d := ⟨hT.1, (congrArg (·.1) t0).trans hT.2.1, by show AtD b S a (tS A 0) d; rw [s0]; exact hT.2.2.1, by show IvS (tS A 0); rw [s0]; exact hT.2.2.2⟩
  have e1 : tS (tryA (sI A 17 (Int32.ofNat pre.length))) 1 = tS A0 0 := try_tS.trans s0
  have kl := c_klL (E := E) (N := N) hE hN (l := l) hk pre 0 N (tryA (sI A 17 (Int32.ofNat pre.length))) (try_TA hT0) (by rw [e1]; exact hI) (by rw [e1]; exact hl) rfl (fun x q => by rw [e1]; exact hx x q) (fun j hj => by rw [Nat.zero_add]; exact h4 j hj) (by omega) (by omega)
  rw [e1] at kl
  have as := c_asv (E := E) (N := N) (A := sI A 17 (Int32.ofNat pre.length)) (S := S) hE (j := 1) (i := 0) (by omega) (by omega) (by omega)
  refine ⟨_, ?_, Eq.trans (b := gbd (bX1_keepLonger_14L E N b N (put b (tryA (sI A 17 (Int32.ofNat pre.length))) S) (Int32.ofNat l) (Int32.ofNat 0)) (fun _ S_5 => some (Int32.ofNat 0, S_5))) ?_ (by rw [kl]; rfl)⟩
  · have c1 : carA A0 (sS (tryA (sI A 17 (Int32.ofNat pre.length))) 1 (runS l (tS A0 0) pre)) := ((h1.tr (carA.sI _ _ (by decide))).tr (carA.sT _ _)).tr (carA.sT _ _)
    unfold klA kpC
    have e19 : aI (tryA (sI A 17 (Int32.ofNat pre.length))) 19 = bst.1 := h2
    rw [e19]
    by_cases w : bst.1 < lenS (runS l (tS A0 0) pre)
    · rw [if_pos w, if_pos w]
      refine ⟨(c1.tr (carA.sI _ _ (by decide))).tr (carA.sV _ _ (by decide)), rfl, ?_, h4⟩
      exact h4.cy rfl
    · rw [if_neg w, if_neg w]
      exact ⟨c1, h2, h3, h4⟩
  · simp only [vInchBorders_keepLonger__I_V, fX1_keepLonger, bX1_keepLonger_0, pq_lit]
    simp (disch := omega) only [↓f_p17, ↓f_cls, ↓f_5, ↓f_4, ↓gbd_h (as), as, pq_lit, pq_add, pq_le, pq_lt, pq_eq, pq_en, pq_ne, pq_nle, pq_nlt, pq_len, pq_ltn, pB_z, pB_o, mzt_0, mzt_1, mzt_B, ↓gbd_s, gbd_s, ↓gnn_s, ↓grf_s, eq_self, ↓reduceIte, Nat.reduceEqDiff, Nat.reduceLeDiff, Nat.reduceLT, Nat.reduceMul, Nat.reduceAdd, not_true_eq_false, not_false_eq_true, Bool.false_eq_true]
    rfl
theorem Hold.ap {f : Nat → Int32} {L : List Nat} (h : Hold f L) (p : Nat) : Hold (upd f L.length (Int32.ofNat p)) (L ++ [p]) := by
  intro i hi
  rw [List.length_append, List.length_cons, List.length_nil] at hi
  by_cases e : i = L.length
  · subst e
    rw [upd_s]
    simp [List.getD_eq_getElem?_getD]
  · rw [upd_o _ _ e, h i (by omega)]
    rw [List.getD_eq_getElem?_getD, List.getD_eq_getElem?_getD, List.getElem?_append_left (by omega)]
theorem Hold.pr {f : Nat → Int32} {L T : List Nat} (h : Hold f (L ++ T)) : Hold f L := by
  intro i hi
  rw [h i (by rw [List.length_append]; omega), List.getD_eq_getElem?_getD, List.getD_eq_getElem?_getD, List.getElem?_append_left (by omega)]
theorem c_rf (hE : E.1 ≤ b) (hN : 1000 ≤ N) {a : Nat} {d : AD} {l n : Nat} {A0 : FA} (hT : TA b S A0 0 a d) (h3 : aR A0 3 = some a) (hI : IvA (tS A0 0)) (hl : l < nL (tS A0 0)) (hn : nP (tS A0 0) = n) : ∀ (f dd set : Nat) (pre : List Nat) (bst : Int32 × List Nat) (A : FA), pcn 6 set < f → pcn 6 set < dd → set < 64 → set < 2 ^ n → pre.length + pcn 6 set ≤ 6 → (∀ x, x ∈ pre → x < n) → Cin A0 A bst pre → ∃ A', Cin A0 A' (((perN n f set).map (pre ++ ·)).foldl (kpC (tS A0 0) l) bst) pre ∧ zX1_rowsFrom E N dd (put b A S) (some b) (Int32.ofNat pre.length) (Int32.ofNat set) (Int32.ofNat l) = some (Int32.ofNat 0, put b A' S)
  | 0, dd, set, pre, bst, A, h, _, _, _, _, _, _ => by omega
  | f + 1, 0, set, pre, bst, A, _, h, _, _, _, _, _ => by omega
  | f + 1, dd + 1, set, pre, bst, A, hf, hd, h64, h2n, hp6, hx, hC => by
    have h6 := hI.1.p6
    by_cases s0 : set = 0
    · subst s0
      obtain ⟨A', c1, c2⟩ := c_kl (E := E) (N := N) hE hN hT hI hl (by omega) (fun x q => by rw [hn]; exact hx x q) hC
      refine ⟨A', ?_, ?_⟩
      · have e : perN n (f + 1) 0 = [[]] := by unfold perN; rw [if_pos rfl]
        rw [e]
        show Cin A0 A' (kpC (tS A0 0) l bst (pre ++ [])) pre
        rw [List.append_nil]
        exact c1
      · simp only [zX1_rowsFrom, vbInchBorders_rowsFrom__III_V, fX1_rowsFrom, bX1_rowsFrom_0, pq_lit]
        rw [← c2]
        simp (disch := omega) only [↓f_cls, eq_self, ↓reduceIte, Nat.reduceEqDiff, Nat.reduceLeDiff, Nat.reduceLT, Nat.reduceMul, Nat.reduceAdd, not_true_eq_false, not_false_eq_true, Bool.false_eq_true, pq_lit, pq_add, pq_le, pq_lt, pq_eq, pq_en, pq_ne, pq_nle, pq_nlt, pq_len, pq_ltn, pB_z, pB_o, mzt_0, mzt_1, mzt_B]
    · have loop : ∀ (k i q : Nat) (bst : Int32 × List Nat) (A : FA), i + k = n → k < q → Cin A0 A bst pre → ∃ A', Cin A0 A' (((perL (perN n f) set k i).map (pre ++ ·)).foldl (kpC (tS A0 0) l) bst) pre ∧ bX1_rowsFrom_18L E N (zX1_rowsFrom E N dd) b q (put b A S) (Int32.ofNat pre.length) (Int32.ofNat set) (Int32.ofNat l) (Int32.ofNat i) = some (Int32.ofNat 0, put b A' S) := by
        intro k
        induction k with
        | zero =>
          intro i q bst A hi hq hC
          obtain ⟨q, rfl⟩ : ∃ q', q = q' + 1 := ⟨q - 1, by omega⟩
          refine ⟨A, hC, ?_⟩
          have z : n ≤ i := by omega
          have kp := k_persons (E := E) (N := N) (b := b) (A := A) (S := S) (a := a) (s := tS A0 0) ((hC.1.2.2.1 3).trans h3) hT.2.2.1
          rw [hn] at kp
          simp only [bX1_rowsFrom_18L, bX1_rowsFrom_18, pq_lit]
          simp (disch := omega) only [↓gbd_h (kp), kp, z, pq_lit, pq_add, pq_le, pq_lt, pq_eq, pq_en, pq_ne, pq_nle, pq_nlt, pq_len, pq_ltn, pB_z, pB_o, mzt_0, mzt_1, mzt_B, ↓gbd_s, gbd_s, ↓gnn_s, ↓grf_s, eq_self, ↓reduceIte, Nat.reduceEqDiff, Nat.reduceLeDiff, Nat.reduceLT, Nat.reduceMul, Nat.reduceAdd, not_true_eq_false, not_false_eq_true, Bool.false_eq_true]
        | succ k ih =>
          intro i q bst A hi hq hC
          obtain ⟨q, rfl⟩ : ∃ q', q = q' + 1 := ⟨q - 1, by omega⟩
          have z : ¬ n ≤ i := by omega
          have kp := k_persons (E := E) (N := N) (b := b) (A := A) (S := S) (a := a) (s := tS A0 0) ((hC.1.2.2.1 3).trans h3) hT.2.2.1
          rw [hn] at kp
          have b1 : bt (Int32.ofNat set) (Int32.ofNat i) = set.testBit i := bt_nat (by omega)
          cases c : set.testBit i with
          | false =>
            obtain ⟨A', a1, a2⟩ := ih (i + 1) q bst A (by omega) (by omega) hC
            refine ⟨A', ?_, ?_⟩
            · unfold perL
              rw [c]
              exact a1
            · simp only [bX1_rowsFrom_18L, bX1_rowsFrom_18, bX1_rowsFrom_63, pq_lit]
              simp (disch := omega) only [↓gbd_h (kp), kp, z, ↓gbd_h (c_bt _ _), c_bt _ _, b1, c, pB_F, a2, pq_lit, pq_add, pq_le, pq_lt, pq_eq, pq_en, pq_ne, pq_nle, pq_nlt, pq_len, pq_ltn, pB_z, pB_o, mzt_0, mzt_1, mzt_B, ↓gbd_s, gbd_s, ↓gnn_s, ↓grf_s, eq_self, ↓reduceIte, Nat.reduceEqDiff, Nat.reduceLeDiff, Nat.reduceLT, Nat.reduceMul, Nat.reduceAdd, not_true_eq_false, not_false_eq_true, Bool.false_eq_true]
          | true =>
            obtain ⟨s1, s2, s3⟩ := set_m set h64 i (by omega) c
            have s4 := set_p set h64 i (by omega) c
            have pl : (pre ++ [i]).length = pre.length + 1 := by simp
            have hC' : Cin A0 (sV A 15 (upd (aV A 15) pre.length (Int32.ofNat i))) bst (pre ++ [i]) := ⟨hC.1.tr (carA.sV _ _ (by decide)), hC.2.1, hC.2.2.1, hC.2.2.2.ap i⟩
            obtain ⟨A1, a1, a2⟩ := c_rf hE hN hT h3 hI hl hn f dd (set ^^^ 2 ^ i) (pre ++ [i]) bst _ (by omega) (by omega) s2 (by omega) (by omega) (fun x hx' => by
              rcases List.mem_append.mp hx' with q | q
              · exact hx x q
              · simp at q; omega) hC'
            rw [pl] at a2
            obtain ⟨A2, b1', b2⟩ := ih (i + 1) q _ A1 (by omega) (by omega) ⟨a1.1, a1.2.1, a1.2.2.1, a1.2.2.2.pr⟩
            refine ⟨A2, ?_, ?_⟩
            · have el : (perL (perN n f) set (k + 1) i).map (pre ++ ·) = (perN n f (set ^^^ 2 ^ i)).map ((pre ++ [i]) ++ ·) ++ (perL (perN n f) set k (i + 1)).map (pre ++ ·) := by
                conv => lhs; unfold perL
                rw [c, if_pos rfl, List.map_append, List.map_map]
                congr 1
                apply List.map_congr_left
                intro x _
                simp
              rw [el, List.foldl_append]
              exact b1'
            · simp only [bX1_rowsFrom_18L, bX1_rowsFrom_18, bX1_rowsFrom_63, pq_lit]
              simp (disch := omega) only [↓gbd_h (kp), kp, z, ↓gbd_h (c_bt _ _), c_bt _ _, b1, c, pB_T, ↓f_15, ↓f15w hE, s1, ↓gbd_h (a2), a2, b2, pq_lit, pq_add, pq_le, pq_lt, pq_eq, pq_en, pq_ne, pq_nle, pq_nlt, pq_len, pq_ltn, pB_z, pB_o, mzt_0, mzt_1, mzt_B, ↓gbd_s, gbd_s, ↓gnn_s, ↓grf_s, eq_self, ↓reduceIte, Nat.reduceEqDiff, Nat.reduceLeDiff, Nat.reduceLT, Nat.reduceMul, Nat.reduceAdd, not_true_eq_false, not_false_eq_true, Bool.false_eq_true]
      have e : perN n (f + 1) set = perL (perN n f) set n 0 := by conv => lhs; unfold perN; rw [if_neg s0]
      rw [e]
      obtain ⟨A', a1, a2⟩ := loop n 0 N bst A (by omega) (by omega) hC
      refine ⟨A', a1, ?_⟩
      simp only [zX1_rowsFrom, vbInchBorders_rowsFrom__III_V, fX1_rowsFrom, bX1_rowsFrom_0, pq_lit]
      simp (disch := omega) only [↓f_cls, s0, a2, eq_self, ↓reduceIte, Nat.reduceEqDiff, Nat.reduceLeDiff, Nat.reduceLT, Nat.reduceMul, Nat.reduceAdd, not_true_eq_false, not_false_eq_true, Bool.false_eq_true, pq_lit, pq_add, pq_le, pq_lt, pq_eq, pq_en, pq_ne, pq_nle, pq_nlt, pq_len, pq_ltn, pB_z, pB_o, mzt_0, mzt_1, mzt_B]
end OT
