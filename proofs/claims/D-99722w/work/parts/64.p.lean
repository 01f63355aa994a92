/-! said: what a leaf says -/
def bI (v : Bool) : Int32 := if v then Int32.ofNat 1 else Int32.ofNat 0
theorem bI_t : bI true = Int32.ofNat 1 := rfl
theorem bI_f : bI false = Int32.ofNat 0 := rfl
def thV (g k : Nat) (t : Int32) : Bool := if g = 60 then !decide (Int32.ofNat k ≤ t) else if g = 61 then decide (t = Int32.ofNat k) else !decide (t ≤ Int32.ofNat k)
def tsV (s : St) (p w : Nat) : Int32 := if w = 0 then s (114 + p) else if w = 1 then s (120 + p) else if w = 2 then s (132 + p) else Int32.ofNat p
def ofV (s : St) (p w l : Nat) : Bool := if w = 0 then decide (s (108 + p) = Int32.ofNat l) else if w = 1 then decide (s (79 + p) = Int32.ofNat l) else bt (s (101 + hm s p)) (Int32.ofNat l)
section OW
variable {E : gE} {N b : Nat} {A : FA} {S : GS} {M : MS} {a : Nat} {d : AD} {p : Nat}
theorem c_th {r w g k : Nat} (hg : g = 60 ∨ g = 61 ∨ g = 62) (hc : Cel b S r (.inr (22, [.int (Int32.ofNat w), .int (Int32.ofNat g), .int (Int32.ofNat k)]))) (t : Int32) : bX30_holds_51 E N r (put b A S) t = some (bI (thV g k t), put b A S) := by
  have g5 : ∀ {β : Type} (K : Int32 → Option β), ggi (put b A S) (some r) 105 K = K (Int32.ofNat g) := fun K => ggi_at (hc.at A) rfl rfl K
  have g6 : ∀ {β : Type} (K : Int32 → Option β), ggi (put b A S) (some r) 106 K = K (Int32.ofNat k) := fun K => ggi_at (hc.at A) rfl rfl K
  simp only [bX30_holds_51, bX30_holds_115, pq_lit, thV]
  rcases hg with rfl | rfl | rfl
  · by_cases q : Int32.ofNat k ≤ t
    · simp (disch := omega) only [↓g5, ↓g6, q, mzt_0, mzt_1, decide_true, Bool.not_true, bI_f, pq_lit, pq_add, pq_le, pq_lt, pq_eq, pq_en, pq_ne, pq_nle, pq_nlt, pq_len, pq_ltn, pB_z, pB_o, mzt_0, mzt_1, mzt_B, ↓gbd_s, gbd_s, ↓gnn_s, ↓grf_s, eq_self, ↓reduceIte, Nat.reduceEqDiff, Nat.reduceLeDiff, Nat.reduceLT, Nat.reduceMul, Nat.reduceAdd, not_true_eq_false, not_false_eq_true, Bool.false_eq_true]
    · simp (disch := omega) only [↓g5, ↓g6, q, mzt_0, mzt_1, decide_false, Bool.not_false, bI_t, pq_lit, pq_add, pq_le, pq_lt, pq_eq, pq_en, pq_ne, pq_nle, pq_nlt, pq_len, pq_ltn, pB_z, pB_o, mzt_0, mzt_1, mzt_B, ↓gbd_s, gbd_s, ↓gnn_s, ↓grf_s, eq_self, ↓reduceIte, Nat.reduceEqDiff, Nat.reduceLeDiff, Nat.reduceLT, Nat.reduceMul, Nat.reduceAdd, not_true_eq_false, not_false_eq_true, Bool.false_eq_true]
  · by_cases q : t = Int32.ofNat k
    · simp (disch := omega) only [↓g5, ↓g6, q, mzt_0, mzt_1, decide_true, bI_t, pq_lit, pq_add, pq_le, pq_lt, pq_eq, pq_en, pq_ne, pq_nle, pq_nlt, pq_len, pq_ltn, pB_z, pB_o, mzt_0, mzt_1, mzt_B, ↓gbd_s, gbd_s, ↓gnn_s, ↓grf_s, eq_self, ↓reduceIte, Nat.reduceEqDiff, Nat.reduceLeDiff, Nat.reduceLT, Nat.reduceMul, Nat.reduceAdd, not_true_eq_false, not_false_eq_true, Bool.false_eq_true]
    · simp (disch := omega) only [↓g5, ↓g6, q, mzt_0, mzt_1, decide_false, bI_f, pq_lit, pq_add, pq_le, pq_lt, pq_eq, pq_en, pq_ne, pq_nle, pq_nlt, pq_len, pq_ltn, pB_z, pB_o, mzt_0, mzt_1, mzt_B, ↓gbd_s, gbd_s, ↓gnn_s, ↓grf_s, eq_self, ↓reduceIte, Nat.reduceEqDiff, Nat.reduceLeDiff, Nat.reduceLT, Nat.reduceMul, Nat.reduceAdd, not_true_eq_false, not_false_eq_true, Bool.false_eq_true]
  · by_cases q : t ≤ Int32.ofNat k
    · simp (disch := omega) only [↓g5, ↓g6, q, mzt_0, mzt_1, decide_true, Bool.not_true, bI_f, pq_lit, pq_add, pq_le, pq_lt, pq_eq, pq_en, pq_ne, pq_nle, pq_nlt, pq_len, pq_ltn, pB_z, pB_o, mzt_0, mzt_1, mzt_B, ↓gbd_s, gbd_s, ↓gnn_s, ↓grf_s, eq_self, ↓reduceIte, Nat.reduceEqDiff, Nat.reduceLeDiff, Nat.reduceLT, Nat.reduceMul, Nat.reduceAdd, not_true_eq_false, not_false_eq_true, Bool.false_eq_true]
    · simp (disch := omega) only [↓g5, ↓g6, q, mzt_0, mzt_1, decide_false, Bool.not_false, bI_t, pq_lit, pq_add, pq_le, pq_lt, pq_eq, pq_en, pq_ne, pq_nle, pq_nlt, pq_len, pq_ltn, pB_z, pB_o, mzt_0, mzt_1, mzt_B, ↓gbd_s, gbd_s, ↓gnn_s, ↓grf_s, eq_self, ↓reduceIte, Nat.reduceEqDiff, Nat.reduceLeDiff, Nat.reduceLT, Nat.reduceMul, Nat.reduceAdd, not_true_eq_false, not_false_eq_true, Bool.false_eq_true]
theorem c_lT (hT : TA b S A 0 a d) (hp : p < nP (tS A 0)) {r w g k : Nat} (hw : w < 4) (hg : g = 60 ∨ g = 61 ∨ g = 62) (hc : Cel b S r (.inr (22, [.int (Int32.ofNat w), .int (Int32.ofNat g), .int (Int32.ofNat k)]))) : fX30_holds E N (put b A S) r (some (tad b 0)) (Int32.ofNat p) = some (bI (thV g k (tsV (tS A 0) p w)), put b A S) := by
  have g4 : ∀ {β : Type} (K : Int32 → Option β), ggi (put b A S) (some r) 104 K = K (Int32.ofNat w) := fun K => ggi_at (hc.at A) rfl rfl K
  have h6 := hT.2.2.2.p6
  have c := fun t => c_th (E := E) (N := N) (A := A) hg hc t
  simp only [fX30_holds, bX30_holds_0, pq_lit, tsV, tS]
  match w, hw with
  | 0, _ => simp (disch := omega) only [↓g4, ↓t_35, ↓t_g4, t_g4, c, pq_lit, pq_add, pq_le, pq_lt, pq_eq, pq_en, pq_ne, pq_nle, pq_nlt, pq_len, pq_ltn, pB_z, pB_o, mzt_0, mzt_1, mzt_B, ↓gbd_s, gbd_s, ↓gnn_s, ↓grf_s, eq_self, ↓reduceIte, Nat.reduceEqDiff, Nat.reduceLeDiff, Nat.reduceLT, Nat.reduceMul, Nat.reduceAdd, not_true_eq_false, not_false_eq_true, Bool.false_eq_true]
  | 1, _ => simp (disch := omega) only [↓g4, ↓t_36, ↓t_g5, t_g5, c, pq_lit, pq_add, pq_le, pq_lt, pq_eq, pq_en, pq_ne, pq_nle, pq_nlt, pq_len, pq_ltn, pB_z, pB_o, mzt_0, mzt_1, mzt_B, ↓gbd_s, gbd_s, ↓gnn_s, ↓grf_s, eq_self, ↓reduceIte, Nat.reduceEqDiff, Nat.reduceLeDiff, Nat.reduceLT, Nat.reduceMul, Nat.reduceAdd, not_true_eq_false, not_false_eq_true, Bool.false_eq_true]
  | 2, _ => simp (disch := omega) only [↓g4, ↓t_38, ↓t_g7, t_g7, c, pq_lit, pq_add, pq_le, pq_lt, pq_eq, pq_en, pq_ne, pq_nle, pq_nlt, pq_len, pq_ltn, pB_z, pB_o, mzt_0, mzt_1, mzt_B, ↓gbd_s, gbd_s, ↓gnn_s, ↓grf_s, eq_self, ↓reduceIte, Nat.reduceEqDiff, Nat.reduceLeDiff, Nat.reduceLT, Nat.reduceMul, Nat.reduceAdd, not_true_eq_false, not_false_eq_true, Bool.false_eq_true]
  | 3, _ => simp (disch := omega) only [↓g4, c, pq_lit, pq_add, pq_le, pq_lt, pq_eq, pq_en, pq_ne, pq_nle, pq_nlt, pq_len, pq_ltn, pB_z, pB_o, mzt_0, mzt_1, mzt_B, ↓gbd_s, gbd_s, ↓gnn_s, ↓grf_s, eq_self, ↓reduceIte, Nat.reduceEqDiff, Nat.reduceLeDiff, Nat.reduceLT, Nat.reduceMul, Nat.reduceAdd, not_true_eq_false, not_false_eq_true, Bool.false_eq_true]
theorem c_lO (hT : TA b S A 0 a d) (hp : p < nP (tS A 0)) {r w l : Nat} (hw : w < 3) (hl : l < nL (tS A 0)) (hc : Cel b S r (.inr (21, [.int (Int32.ofNat w), .int (Int32.ofNat l)]))) : fX29_holds E N (put b A S) r (some (tad b 0)) (Int32.ofNat p) = some (bI (ofV (tS A 0) p w l), put b A S) := by
  have g2 : ∀ {β : Type} (K : Int32 → Option β), ggi (put b A S) (some r) 102 K = K (Int32.ofNat w) := fun K => ggi_at (hc.at A) rfl rfl K
  have g3 : ∀ {β : Type} (K : Int32 → Option β), ggi (put b A S) (some r) 103 K = K (Int32.ofNat l) := fun K => ggi_at (hc.at A) rfl rfl K
  have h6 := hT.2.2.2.p6
  have h7 := hT.2.2.2.l7
  have ho := hT.2.2.2.ho hp
  have hl' := hT.2.2.2.hl hp
  have ha := hT.2.1
  have hh := a_home (E := E) (N := N) (A := A) hT.2.2.1 hp
  have e3 : (aT A 0).2.2 (108 + p) = tS A 0 (108 + p) := rfl
  simp only [fX29_holds, bX29_holds_0, bX29_holds_79, pq_lit, ofV]
  match w, hw with
  | 0, _ =>
    by_cases q : tS A 0 (108 + p) = Int32.ofNat l
    · simp (disch := omega) only [↓g2, ↓g3, ↓t_34, ↓t_g3, t_g3, e3, q, decide_true, bI_t, mzt_1, pq_lit, pq_add, pq_le, pq_lt, pq_eq, pq_en, pq_ne, pq_nle, pq_nlt, pq_len, pq_ltn, pB_z, pB_o, mzt_0, mzt_1, mzt_B, ↓gbd_s, gbd_s, ↓gnn_s, ↓grf_s, eq_self, ↓reduceIte, Nat.reduceEqDiff, Nat.reduceLeDiff, Nat.reduceLT, Nat.reduceMul, Nat.reduceAdd, not_true_eq_false, not_false_eq_true, Bool.false_eq_true]
    · simp (disch := omega) only [↓g2, ↓g3, ↓t_34, ↓t_g3, t_g3, e3, q, decide_false, bI_f, mzt_0, pq_lit, pq_add, pq_le, pq_lt, pq_eq, pq_en, pq_ne, pq_nle, pq_nlt, pq_len, pq_ltn, pB_z, pB_o, mzt_0, mzt_1, mzt_B, ↓gbd_s, gbd_s, ↓gnn_s, ↓grf_s, eq_self, ↓reduceIte, Nat.reduceEqDiff, Nat.reduceLeDiff, Nat.reduceLT, Nat.reduceMul, Nat.reduceAdd, not_true_eq_false, not_false_eq_true, Bool.false_eq_true]
  | 1, _ =>
    by_cases q : tS A 0 (79 + p) = Int32.ofNat l
    · simp (disch := omega) only [↓g2, ↓g3, ↓t_a, ha, ↓gbd_h (hh), hh, q, decide_true, bI_t, mzt_1, pq_lit, pq_add, pq_le, pq_lt, pq_eq, pq_en, pq_ne, pq_nle, pq_nlt, pq_len, pq_ltn, pB_z, pB_o, mzt_0, mzt_1, mzt_B, ↓gbd_s, gbd_s, ↓gnn_s, ↓grf_s, eq_self, ↓reduceIte, Nat.reduceEqDiff, Nat.reduceLeDiff, Nat.reduceLT, Nat.reduceMul, Nat.reduceAdd, not_true_eq_false, not_false_eq_true, Bool.false_eq_true]
    · simp (disch := omega) only [↓g2, ↓g3, ↓t_a, ha, ↓gbd_h (hh), hh, q, decide_false, bI_f, mzt_0, pq_lit, pq_add, pq_le, pq_lt, pq_eq, pq_en, pq_ne, pq_nle, pq_nlt, pq_len, pq_ltn, pB_z, pB_o, mzt_0, mzt_1, mzt_B, ↓gbd_s, gbd_s, ↓gnn_s, ↓grf_s, eq_self, ↓reduceIte, Nat.reduceEqDiff, Nat.reduceLeDiff, Nat.reduceLT, Nat.reduceMul, Nat.reduceAdd, not_true_eq_false, not_false_eq_true, Bool.false_eq_true]
  | 2, _ =>
    rw [ho] at hh
    have e4 : (aT A 0).2.2 (101 + hm (tS A 0) p) = tS A 0 (101 + hm (tS A 0) p) := rfl
    cases q : bt (tS A 0 (101 + hm (tS A 0) p)) (Int32.ofNat l) with
    | true => simp (disch := omega) only [↓g2, ↓g3, ↓t_33, ↓t_a, ha, ↓gbd_h (hh), hh, ↓t_g2, t_g2, e4, ↓gbd_h (c_bt _ _), c_bt _ _, q, pB_T, bI_t, mzt_1, pq_lit, pq_add, pq_le, pq_lt, pq_eq, pq_en, pq_ne, pq_nle, pq_nlt, pq_len, pq_ltn, pB_z, pB_o, mzt_0, mzt_1, mzt_B, ↓gbd_s, gbd_s, ↓gnn_s, ↓grf_s, eq_self, ↓reduceIte, Nat.reduceEqDiff, Nat.reduceLeDiff, Nat.reduceLT, Nat.reduceMul, Nat.reduceAdd, not_true_eq_false, not_false_eq_true, Bool.false_eq_true]
    | false => simp (disch := omega) only [↓g2, ↓g3, ↓t_33, ↓t_a, ha, ↓gbd_h (hh), hh, ↓t_g2, t_g2, e4, ↓gbd_h (c_bt _ _), c_bt _ _, q, pB_F, bI_f, mzt_0, pq_lit, pq_add, pq_le, pq_lt, pq_eq, pq_en, pq_ne, pq_nle, pq_nlt, pq_len, pq_ltn, pB_z, pB_o, mzt_0, mzt_1, mzt_B, ↓gbd_s, gbd_s, ↓gnn_s, ↓grf_s, eq_self, ↓reduceIte, Nat.reduceEqDiff, Nat.reduceLeDiff, Nat.reduceLT, Nat.reduceMul, Nat.reduceAdd, not_true_eq_false, not_false_eq_true, Bool.false_eq_true]
theorem c_lH (hT : TA b S A 0 a d) (hp : p < nP (tS A 0)) {r : Nat} (hc : Cel b S r (.inr (20, [.int (Int32.ofNat 1)]))) : fX28_holds E N (put b A S) r (some (tad b 0)) (Int32.ofNat p) = some (bI (decide (tS A 0 (108 + p) = tS A 0 (79 + p))), put b A S) := by
  have g1 : ∀ {β : Type} (K : Int32 → Option β), ggi (put b A S) (some r) 101 K = K (Int32.ofNat 1) := fun K => ggi_at (hc.at A) rfl rfl K
  have h6 := hT.2.2.2.p6
  have ha := hT.2.1
  have hh := a_home (E := E) (N := N) (A := A) hT.2.2.1 hp
  have e3 : (aT A 0).2.2 (108 + p) = tS A 0 (108 + p) := rfl
  simp only [fX28_holds, bX28_holds_0, bX28_holds_45, pq_lit]
  by_cases q : tS A 0 (108 + p) = tS A 0 (79 + p)
  · simp (disch := omega) only [↓g1, ↓t_34, ↓t_g3, t_g3, ↓t_a, ha, ↓gbd_h (hh), hh, e3, q, decide_true, bI_t, mzt_1, pq_lit, pq_add, pq_le, pq_lt, pq_eq, pq_en, pq_ne, pq_nle, pq_nlt, pq_len, pq_ltn, pB_z, pB_o, mzt_0, mzt_1, mzt_B, ↓gbd_s, gbd_s, ↓gnn_s, ↓grf_s, eq_self, ↓reduceIte, Nat.reduceEqDiff, Nat.reduceLeDiff, Nat.reduceLT, Nat.reduceMul, Nat.reduceAdd, not_true_eq_false, not_false_eq_true, Bool.false_eq_true]
  · simp (disch := omega) only [↓g1, ↓t_34, ↓t_g3, t_g3, ↓t_a, ha, ↓gbd_h (hh), hh, e3, q, decide_false, bI_f, mzt_0, pq_lit, pq_add, pq_le, pq_lt, pq_eq, pq_en, pq_ne, pq_nle, pq_nlt, pq_len, pq_ltn, pB_z, pB_o, mzt_0, mzt_1, mzt_B, ↓gbd_s, gbd_s, ↓gnn_s, ↓grf_s, eq_self, ↓reduceIte, Nat.reduceEqDiff, Nat.reduceLeDiff, Nat.reduceLT, Nat.reduceMul, Nat.reduceAdd, not_true_eq_false, not_false_eq_true, Bool.false_eq_true]
theorem c_lC (hT : TA b S A 0 a d) (hN : 100 ≤ N) (hp : p < nP (tS A 0)) {r : Nat} (hc : Cel b S r (.inr (20, [.int (Int32.ofNat 0)]))) : fX28_holds E N (put b A S) r (some (tad b 0)) (Int32.ofNat p) = some (bI (decide (canS (tS A 0) p = Int32.ofNat 0)), put b A S) := by
  have g1 : ∀ {β : Type} (K : Int32 → Option β), ggi (put b A S) (some r) 101 K = K (Int32.ofNat 0) := fun K => ggi_at (hc.at A) rfl rfl K
  have hh := c_can (E := E) (N := N) hT hN hp
  simp only [fX28_holds, bX28_holds_0, bX28_holds_45, vInchBorders_Times_canCross__I_I, pq_lit]
  by_cases q : canS (tS A 0) p = Int32.ofNat 0
  · simp (disch := omega) only [↓g1, ↓t_cls, ↓gbd_h (hh), hh, q, decide_true, bI_t, mzt_1, pq_lit, pq_add, pq_le, pq_lt, pq_eq, pq_en, pq_ne, pq_nle, pq_nlt, pq_len, pq_ltn, pB_z, pB_o, mzt_0, mzt_1, mzt_B, ↓gbd_s, gbd_s, ↓gnn_s, ↓grf_s, eq_self, ↓reduceIte, Nat.reduceEqDiff, Nat.reduceLeDiff, Nat.reduceLT, Nat.reduceMul, Nat.reduceAdd, not_true_eq_false, not_false_eq_true, Bool.false_eq_true]
  · simp (disch := omega) only [↓g1, ↓t_cls, ↓gbd_h (hh), hh, q, decide_false, bI_f, mzt_0, pq_lit, pq_add, pq_le, pq_lt, pq_eq, pq_en, pq_ne, pq_nle, pq_nlt, pq_len, pq_ltn, pB_z, pB_o, mzt_0, mzt_1, mzt_B, ↓gbd_s, gbd_s, ↓gnn_s, ↓grf_s, eq_self, ↓reduceIte, Nat.reduceEqDiff, Nat.reduceLeDiff, Nat.reduceLT, Nat.reduceMul, Nat.reduceAdd, not_true_eq_false, not_false_eq_true, Bool.false_eq_true]
/-! the model's leaves -/
theorem m_th {g k : Nat} (hg : g = 60 ∨ g = 61 ∨ g = 62) (t : Int32) : bX5_isLeaf_195 N M (Int32.ofNat g) (Int32.ofNat k) t = some (bI (thV g k t), M) := by
  simp only [bX5_isLeaf_195, bX5_isLeaf_251, pq_lit, thV]
  rcases hg with rfl | rfl | rfl
  · by_cases q : Int32.ofNat k ≤ t
    · simp (disch := omega) only [q, mzt_0, mzt_1, decide_true, Bool.not_true, bI_f, eq_self, ↓reduceIte, Nat.reduceEqDiff, Nat.reduceLeDiff, Nat.reduceLT, Nat.reduceMul, Nat.reduceAdd, not_true_eq_false, not_false_eq_true, Bool.false_eq_true, pq_lit, pq_add, pq_le, pq_lt, pq_eq, pq_en, pq_ne, pq_nle, pq_nlt, pq_len, pq_ltn, pB_z, pB_o, mzt_0, mzt_1, mzt_B]
    · simp (disch := omega) only [q, mzt_0, mzt_1, decide_false, Bool.not_false, bI_t, eq_self, ↓reduceIte, Nat.reduceEqDiff, Nat.reduceLeDiff, Nat.reduceLT, Nat.reduceMul, Nat.reduceAdd, not_true_eq_false, not_false_eq_true, Bool.false_eq_true, pq_lit, pq_add, pq_le, pq_lt, pq_eq, pq_en, pq_ne, pq_nle, pq_nlt, pq_len, pq_ltn, pB_z, pB_o, mzt_0, mzt_1, mzt_B]
  · by_cases q : t = Int32.ofNat k
    · simp (disch := omega) only [q, mzt_0, mzt_1, decide_true, bI_t, eq_self, ↓reduceIte, Nat.reduceEqDiff, Nat.reduceLeDiff, Nat.reduceLT, Nat.reduceMul, Nat.reduceAdd, not_true_eq_false, not_false_eq_true, Bool.false_eq_true, pq_lit, pq_add, pq_le, pq_lt, pq_eq, pq_en, pq_ne, pq_nle, pq_nlt, pq_len, pq_ltn, pB_z, pB_o, mzt_0, mzt_1, mzt_B]
    · simp (disch := omega) only [q, mzt_0, mzt_1, decide_false, bI_f, eq_self, ↓reduceIte, Nat.reduceEqDiff, Nat.reduceLeDiff, Nat.reduceLT, Nat.reduceMul, Nat.reduceAdd, not_true_eq_false, not_false_eq_true, Bool.false_eq_true, pq_lit, pq_add, pq_le, pq_lt, pq_eq, pq_en, pq_ne, pq_nle, pq_nlt, pq_len, pq_ltn, pB_z, pB_o, mzt_0, mzt_1, mzt_B]
  · by_cases q : t ≤ Int32.ofNat k
    · simp (disch := omega) only [q, mzt_0, mzt_1, decide_true, Bool.not_true, bI_f, eq_self, ↓reduceIte, Nat.reduceEqDiff, Nat.reduceLeDiff, Nat.reduceLT, Nat.reduceMul, Nat.reduceAdd, not_true_eq_false, not_false_eq_true, Bool.false_eq_true, pq_lit, pq_add, pq_le, pq_lt, pq_eq, pq_en, pq_ne, pq_nle, pq_nlt, pq_len, pq_ltn, pB_z, pB_o, mzt_0, mzt_1, mzt_B]
    · simp (disch := omega) only [q, mzt_0, mzt_1, decide_false, Bool.not_false, bI_t, eq_self, ↓reduceIte, Nat.reduceEqDiff, Nat.reduceLeDiff, Nat.reduceLT, Nat.reduceMul, Nat.reduceAdd, not_true_eq_false, not_false_eq_true, Bool.false_eq_true, pq_lit, pq_add, pq_le, pq_lt, pq_eq, pq_en, pq_ne, pq_nle, pq_nlt, pq_len, pq_ltn, pB_z, pB_o, mzt_0, mzt_1, mzt_B]
theorem m_lT (hp : p < 6) {w g k : Nat} (hw : w < 4) (hg : g = 60 ∨ g = 61 ∨ g = 62) : fX5_isLeaf N M (Int32.ofNat p) (Int32.ofNat (5 + w)) (Int32.ofNat g) (Int32.ofNat k) = some (bI (thV g k (tsV (M.2.2.1 6) p w)), M) := by
  have c := fun t => m_th (N := N) (M := M) (k := k) hg t
  simp only [fX5_isLeaf, bX5_isLeaf_0, pq_lit, tsV]
  match w, hw with
  | 0, _ => simp (disch := omega) only [↓mrd_n, mrd_n, pq_add, c, eq_self, ↓reduceIte, Nat.reduceEqDiff, Nat.reduceLeDiff, Nat.reduceLT, Nat.reduceMul, Nat.reduceAdd, not_true_eq_false, not_false_eq_true, Bool.false_eq_true, pq_lit, pq_add, pq_le, pq_lt, pq_eq, pq_en, pq_ne, pq_nle, pq_nlt, pq_len, pq_ltn, pB_z, pB_o, mzt_0, mzt_1, mzt_B]
  | 1, _ => simp (disch := omega) only [↓mrd_n, mrd_n, pq_add, c, eq_self, ↓reduceIte, Nat.reduceEqDiff, Nat.reduceLeDiff, Nat.reduceLT, Nat.reduceMul, Nat.reduceAdd, not_true_eq_false, not_false_eq_true, Bool.false_eq_true, pq_lit, pq_add, pq_le, pq_lt, pq_eq, pq_en, pq_ne, pq_nle, pq_nlt, pq_len, pq_ltn, pB_z, pB_o, mzt_0, mzt_1, mzt_B]
  | 2, _ => simp (disch := omega) only [↓mrd_n, mrd_n, pq_add, c, eq_self, ↓reduceIte, Nat.reduceEqDiff, Nat.reduceLeDiff, Nat.reduceLT, Nat.reduceMul, Nat.reduceAdd, not_true_eq_false, not_false_eq_true, Bool.false_eq_true, pq_lit, pq_add, pq_le, pq_lt, pq_eq, pq_en, pq_ne, pq_nle, pq_nlt, pq_len, pq_ltn, pB_z, pB_o, mzt_0, mzt_1, mzt_B]
  | 3, _ => simp (disch := omega) only [↓mrd_n, mrd_n, pq_add, c, eq_self, ↓reduceIte, Nat.reduceEqDiff, Nat.reduceLeDiff, Nat.reduceLT, Nat.reduceMul, Nat.reduceAdd, not_true_eq_false, not_false_eq_true, Bool.false_eq_true, pq_lit, pq_add, pq_le, pq_lt, pq_eq, pq_en, pq_ne, pq_nle, pq_nlt, pq_len, pq_ltn, pB_z, pB_o, mzt_0, mzt_1, mzt_B]
theorem m_lO (hI : IvS (M.2.2.1 6)) (hp : p < nP (M.2.2.1 6)) {w l : Nat} (g : Int32) (hw : w < 3) (hl : l < 7) : fX5_isLeaf N M (Int32.ofNat p) (Int32.ofNat (2 + w)) g (Int32.ofNat l) = some (bI (ofV (M.2.2.1 6) p w l), M) := by
  have h6 := hI.p6
  have h7 := hI.l7
  have ho := hI.ho hp
  have hl' := hI.hl hp
  simp only [fX5_isLeaf, bX5_isLeaf_0, bX5_isLeaf_96, bX5_isLeaf_116, pq_lit, ofV]
  match w, hw with
  | 0, _ =>
    by_cases q : M.2.2.1 6 (108 + p) = Int32.ofNat l
    · simp (disch := omega) only [↓mrd_n, mrd_n, pq_add, q, decide_true, bI_t, mzt_1, eq_self, ↓reduceIte, Nat.reduceEqDiff, Nat.reduceLeDiff, Nat.reduceLT, Nat.reduceMul, Nat.reduceAdd, not_true_eq_false, not_false_eq_true, Bool.false_eq_true, pq_lit, pq_add, pq_le, pq_lt, pq_eq, pq_en, pq_ne, pq_nle, pq_nlt, pq_len, pq_ltn, pB_z, pB_o, mzt_0, mzt_1, mzt_B]
    · simp (disch := omega) only [↓mrd_n, mrd_n, pq_add, q, decide_false, bI_f, mzt_0, eq_self, ↓reduceIte, Nat.reduceEqDiff, Nat.reduceLeDiff, Nat.reduceLT, Nat.reduceMul, Nat.reduceAdd, not_true_eq_false, not_false_eq_true, Bool.false_eq_true, pq_lit, pq_add, pq_le, pq_lt, pq_eq, pq_en, pq_ne, pq_nle, pq_nlt, pq_len, pq_ltn, pB_z, pB_o, mzt_0, mzt_1, mzt_B]
  | 1, _ =>
    by_cases q : M.2.2.1 6 (79 + p) = Int32.ofNat l
    · simp (disch := omega) only [↓mrd_n, mrd_n, pq_add, q, decide_true, bI_t, mzt_1, eq_self, ↓reduceIte, Nat.reduceEqDiff, Nat.reduceLeDiff, Nat.reduceLT, Nat.reduceMul, Nat.reduceAdd, not_true_eq_false, not_false_eq_true, Bool.false_eq_true, pq_lit, pq_add, pq_le, pq_lt, pq_eq, pq_en, pq_ne, pq_nle, pq_nlt, pq_len, pq_ltn, pB_z, pB_o, mzt_0, mzt_1, mzt_B]
    · simp (disch := omega) only [↓mrd_n, mrd_n, pq_add, q, decide_false, bI_f, mzt_0, eq_self, ↓reduceIte, Nat.reduceEqDiff, Nat.reduceLeDiff, Nat.reduceLT, Nat.reduceMul, Nat.reduceAdd, not_true_eq_false, not_false_eq_true, Bool.false_eq_true, pq_lit, pq_add, pq_le, pq_lt, pq_eq, pq_en, pq_ne, pq_nle, pq_nlt, pq_len, pq_ltn, pB_z, pB_o, mzt_0, mzt_1, mzt_B]
  | 2, _ =>
    cases q : bt (M.2.2.1 6 (101 + hm (M.2.2.1 6) p)) (Int32.ofNat l) with
    | true => simp (disch := omega) only [↓mrd_n, mrd_n, pq_add, ho, ↓mbd_h (m_bt _ _), m_bt _ _, q, pB_T, bI_t, mzt_1, eq_self, ↓reduceIte, Nat.reduceEqDiff, Nat.reduceLeDiff, Nat.reduceLT, Nat.reduceMul, Nat.reduceAdd, not_true_eq_false, not_false_eq_true, Bool.false_eq_true, pq_lit, pq_add, pq_le, pq_lt, pq_eq, pq_en, pq_ne, pq_nle, pq_nlt, pq_len, pq_ltn, pB_z, pB_o, mzt_0, mzt_1, mzt_B]
    | false => simp (disch := omega) only [↓mrd_n, mrd_n, pq_add, ho, ↓mbd_h (m_bt _ _), m_bt _ _, q, pB_F, bI_f, mzt_0, eq_self, ↓reduceIte, Nat.reduceEqDiff, Nat.reduceLeDiff, Nat.reduceLT, Nat.reduceMul, Nat.reduceAdd, not_true_eq_false, not_false_eq_true, Bool.false_eq_true, pq_lit, pq_add, pq_le, pq_lt, pq_eq, pq_en, pq_ne, pq_nle, pq_nlt, pq_len, pq_ltn, pB_z, pB_o, mzt_0, mzt_1, mzt_B]
theorem m_lH (hp : p < 6) (g k : Int32) : fX5_isLeaf N M (Int32.ofNat p) (Int32.ofNat 0) g k = some (bI (decide (M.2.2.1 6 (108 + p) = M.2.2.1 6 (79 + p))), M) := by
  simp only [fX5_isLeaf, bX5_isLeaf_0, bX5_isLeaf_62, pq_lit]
  by_cases q : M.2.2.1 6 (108 + p) = M.2.2.1 6 (79 + p)
  · simp (disch := omega) only [↓mrd_n, mrd_n, pq_add, q, decide_true, bI_t, mzt_1, eq_self, ↓reduceIte, Nat.reduceEqDiff, Nat.reduceLeDiff, Nat.reduceLT, Nat.reduceMul, Nat.reduceAdd, not_true_eq_false, not_false_eq_true, Bool.false_eq_true, pq_lit, pq_add, pq_le, pq_lt, pq_eq, pq_en, pq_ne, pq_nle, pq_nlt, pq_len, pq_ltn, pB_z, pB_o, mzt_0, mzt_1, mzt_B]
  · simp (disch := omega) only [↓mrd_n, mrd_n, pq_add, q, decide_false, bI_f, mzt_0, eq_self, ↓reduceIte, Nat.reduceEqDiff, Nat.reduceLeDiff, Nat.reduceLT, Nat.reduceMul, Nat.reduceAdd, not_true_eq_false, not_false_eq_true, Bool.false_eq_true, pq_lit, pq_add, pq_le, pq_lt, pq_eq, pq_en, pq_ne, pq_nle, pq_nlt, pq_len, pq_ltn, pB_z, pB_o, mzt_0, mzt_1, mzt_B]
theorem m_lC (hI : IvS (M.2.2.1 6)) (hN : 100 ≤ N) (hp : p < nP (M.2.2.1 6)) (g k : Int32) : fX5_isLeaf N M (Int32.ofNat p) (Int32.ofNat 1) g k = some (bI (decide (canS (M.2.2.1 6) p = Int32.ofNat 0)), M) := by
  have c := m_can (N := N) hI hN hp
  simp only [fX5_isLeaf, bX5_isLeaf_0, bX5_isLeaf_76, pq_lit]
  by_cases q : canS (M.2.2.1 6) p = Int32.ofNat 0
  · simp (disch := omega) only [↓mbd_h (c), c, q, decide_true, bI_t, mzt_1, eq_self, ↓reduceIte, Nat.reduceEqDiff, Nat.reduceLeDiff, Nat.reduceLT, Nat.reduceMul, Nat.reduceAdd, not_true_eq_false, not_false_eq_true, Bool.false_eq_true, pq_lit, pq_add, pq_le, pq_lt, pq_eq, pq_en, pq_ne, pq_nle, pq_nlt, pq_len, pq_ltn, pB_z, pB_o, mzt_0, mzt_1, mzt_B]
  · simp (disch := omega) only [↓mbd_h (c), c, q, decide_false, bI_f, mzt_0, eq_self, ↓reduceIte, Nat.reduceEqDiff, Nat.reduceLeDiff, Nat.reduceLT, Nat.reduceMul, Nat.reduceAdd, not_true_eq_false, not_false_eq_true, Bool.false_eq_true, pq_lit, pq_add, pq_le, pq_lt, pq_eq, pq_en, pq_ne, pq_nle, pq_nlt, pq_len, pq_ltn, pB_z, pB_o, mzt_0, mzt_1, mzt_B]
end OW
