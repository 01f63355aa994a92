/-! strings: what is read of one -/
theorem StrAt.op {b : Nat} {S : GS} {r : Nat} {w : List Nat} (h : StrAt b S r w) : ∃ ci fs v f, (ci = 26 ∨ ci = 27) ∧ Cel b S r (.inr (ci, fs)) ∧ gfx ci 117 = some 0 ∧ gfx ci 118 = some 1 ∧ fs[0]? = some (.ref v) ∧ fs[1]? = some (.int (Int32.ofNat 0)) ∧ Cel b S v (.inl (0, w.length, .inl f)) ∧ w.length ≤ 1000 ∧ (∀ c, c ∈ w → c < 128) ∧ ∀ i c, w[i]? = some c → f i = Int32.ofNat c := by
  obtain ⟨v, h1, h2, h3, f, h4, h5⟩ := h
  rcases h1 with ⟨p, q, h1⟩ | h1
  · exact ⟨26, _, v, f, Or.inl rfl, h1, rfl, rfl, rfl, rfl, h4, h2, h3, h5⟩
  · exact ⟨27, _, v, f, Or.inr rfl, h1, rfl, rfl, rfl, rfl, h4, h2, h3, h5⟩
theorem gnt_y {β : Type} {ty : FieldType} {v : Int32} (h : vp_nar ty v = v) (K : Option β) : gnt ty v K = K := if_pos h
theorem nc_0 : vp_nar .byte (Int32.ofNat 0) = Int32.ofNat 0 := by decide
theorem nc_c : ∀ c, c < 128 → vp_nar .char (Int32.ofNat c) = Int32.ofNat c ∧ ((Int32.ofNat c &&& Int32.ofNat 255).toUInt32 % 65536).toInt32 = Int32.ofNat c := by decide
theorem sh_0 (n : Nat) : Int32.ofNat n >>> (Int32.ofNat 0 &&& Int32.ofNat 31) = Int32.ofNat n := by
  rw [← Int32.toBitVec_inj]
  simp [Int32.toBitVec_shiftRight]
section OZ
variable {E : gE} {N b : Nat} {A : FA} {S : GS} {M : MS} {r : Nat} {w : List Nat}
theorem c_cod (h : StrAt b S r w) : vjava_lang_String_coder___B E N (put b A S) (some r) = some (Int32.ofNat 0, put b A S) := by
  obtain ⟨ci, fs, v, f, hci, hc, g1, g2, e1, e2, hv, hl, hw, hf⟩ := h.op
  have r8 : ∀ {β : Type} (K : Int32 → Option β), ggi (put b A S) (some r) 118 K = K (Int32.ofNat 0) := fun K => ggi_at (hc.at A) g2 e2 K
  rcases hci with rfl | rfl <;>
  · simp only [vjava_lang_String_coder___B, fJ8_coder, bJ8_coder_0, bJ8_coder_14, pq_lit]
    rw [kc hc]
    simp (disch := omega) only [↓r8, gnt_y nc_0, pq_lit, pq_add, pq_le, pq_lt, pq_eq, pq_en, pq_ne, pq_nle, pq_nlt, pq_len, pq_ltn, pB_z, pB_o, mzt_0, mzt_1, mzt_B, ↓gbd_s, gbd_s, ↓gnn_s, ↓grf_s, eq_self, ↓reduceIte, Nat.reduceEqDiff, Nat.reduceLeDiff, Nat.reduceLT, Nat.reduceMul, Nat.reduceAdd, not_true_eq_false, not_false_eq_true, Bool.false_eq_true]
theorem c_slen (h : StrAt b S r w) : vjava_lang_String_length___I E N (put b A S) (some r) = some (Int32.ofNat w.length, put b A S) := by
  have cd := c_cod (E := E) (N := N) (A := A) h
  obtain ⟨ci, fs, v, f, hci, hc, g1, g2, e1, e2, hv, hl, hw, hf⟩ := h.op
  have r7 : ∀ {β : Type} (K : Option Nat → Option β), ggr (put b A S) (some r) 117 K = K (some v) := fun K => ggr_as (hc.at A) g1 e1 K
  have rl : ∀ {β : Type} (K : Int32 → Option β), gal (put b A S) (some v) K = K (Int32.ofNat w.length) := fun K => gal_at (hv.at A) (by omega) K
  have s0 := sh_0 w.length
  rcases hci with rfl | rfl <;>
  · simp only [vjava_lang_String_length___I, fJ8_length, bJ8_length_0, pq_lit]
    rw [kc hc]
    simp (disch := omega) only [↓r7, ↓rl, ↓gbd_h (cd), cd, s0, pq_lit, pq_add, pq_le, pq_lt, pq_eq, pq_en, pq_ne, pq_nle, pq_nlt, pq_len, pq_ltn, pB_z, pB_o, mzt_0, mzt_1, mzt_B, ↓gbd_s, gbd_s, ↓gnn_s, ↓grf_s, eq_self, ↓reduceIte, Nat.reduceEqDiff, Nat.reduceLeDiff, Nat.reduceLT, Nat.reduceMul, Nat.reduceAdd, not_true_eq_false, not_false_eq_true, Bool.false_eq_true]
theorem c_lat (h : StrAt b S r w) : vjava_lang_String_isLatin1___Z E N (put b A S) (some r) = some (Int32.ofNat 1, put b A S) := by
  obtain ⟨ci, fs, v, f, hci, hc, g1, g2, e1, e2, hv, hl, hw, hf⟩ := h.op
  have r8 : ∀ {β : Type} (K : Int32 → Option β), ggi (put b A S) (some r) 118 K = K (Int32.ofNat 0) := fun K => ggi_at (hc.at A) g2 e2 K
  rcases hci with rfl | rfl <;>
  · simp only [vjava_lang_String_isLatin1___Z, fJ8_isLatin1, bJ8_isLatin1_0, bJ8_isLatin1_18, bJ8_isLatin1_17, pq_lit]
    rw [kc hc]
    simp (disch := omega) only [↓r8, mzt_1, pq_lit, pq_add, pq_le, pq_lt, pq_eq, pq_en, pq_ne, pq_nle, pq_nlt, pq_len, pq_ltn, pB_z, pB_o, mzt_0, mzt_1, mzt_B, ↓gbd_s, gbd_s, ↓gnn_s, ↓grf_s, eq_self, ↓reduceIte, Nat.reduceEqDiff, Nat.reduceLeDiff, Nat.reduceLT, Nat.reduceMul, Nat.reduceAdd, not_true_eq_false, not_false_eq_true, Bool.false_eq_true]
theorem c_chr (h : StrAt b S r w) {i c : Nat} (hi : w[i]? = some c) : vjava_lang_String_charAt__I_C E N (put b A S) (some r) (Int32.ofNat i) = some (Int32.ofNat c, put b A S) := by
  have la := c_lat (E := E) (N := N) (A := A) h
  obtain ⟨ci, fs, v, f, hci, hc, g1, g2, e1, e2, hv, hl, hw, hf⟩ := h.op
  have hil : i < w.length := (List.getElem?_eq_some_iff.mp hi).1
  have hc8 := hw c (List.mem_of_getElem? hi)
  obtain ⟨n1, n2⟩ := nc_c c hc8
  have hfi := hf i c hi
  have r7 : ∀ {β : Type} (K : Option Nat → Option β), ggr (put b A S) (some r) 117 K = K (some v) := fun K => ggr_as (hc.at A) g1 e1 K
  have rl : ∀ {β : Type} (K : Int32 → Option β), gal (put b A S) (some v) K = K (Int32.ofNat w.length) := fun K => gal_at (hv.at A) (by omega) K
  have rg : ∀ {β : Type} (K : Int32 → Option β), gai 0 (put b A S) (some v) (Int32.ofNat i) K = K (f i) := fun K => gai_at (hv.at A) hil (by omega) K
  have z0 : ¬ i < 0 := by omega
  have ck : fJ8_checkIndex E N (put b A S) (Int32.ofNat i) (Int32.ofNat w.length) = some (Int32.ofNat 0, put b A S) := by
    simp only [fJ8_checkIndex, bJ8_checkIndex_0, fJ5_checkIndex, bJ5_checkIndex_0, bJ5_checkIndex_9, pq_lit]
    simp (disch := omega) only [z0, hil, pq_lit, pq_add, pq_le, pq_lt, pq_eq, pq_en, pq_ne, pq_nle, pq_nlt, pq_len, pq_ltn, pB_z, pB_o, mzt_0, mzt_1, mzt_B, ↓gbd_s, gbd_s, ↓gnn_s, ↓grf_s, eq_self, ↓reduceIte, Nat.reduceEqDiff, Nat.reduceLeDiff, Nat.reduceLT, Nat.reduceMul, Nat.reduceAdd, not_true_eq_false, not_false_eq_true, Bool.false_eq_true]
  have cj : fJ12_charAt E N (put b A S) (some v) (Int32.ofNat i) = some (Int32.ofNat c, put b A S) := by
    simp only [fJ12_charAt, bJ12_charAt_0, pq_lit]
    simp (disch := omega) only [↓rl, ↓gbd_h (ck), ck, ↓rg, hfi, pq_lit, pq_add, pq_le, pq_lt, pq_eq, pq_en, pq_ne, pq_nle, pq_nlt, pq_len, pq_ltn, pB_z, pB_o, mzt_0, mzt_1, mzt_B, ↓gbd_s, gbd_s, ↓gnn_s, ↓grf_s, eq_self, ↓reduceIte, Nat.reduceEqDiff, Nat.reduceLeDiff, Nat.reduceLT, Nat.reduceMul, Nat.reduceAdd, not_true_eq_false, not_false_eq_true, Bool.false_eq_true]
    rw [show (65536 : UInt32) = 65536 from rfl, n2, gnt_y n1]
  rcases hci with rfl | rfl <;>
  · simp only [vjava_lang_String_charAt__I_C, fJ8_charAt, bJ8_charAt_0, pq_lit]
    rw [kc hc]
    simp (disch := omega) only [↓gbd_h (la), la, ↓r7, ↓gbd_h (cj), cj, gnt_y n1, pq_lit, pq_add, pq_le, pq_lt, pq_eq, pq_en, pq_ne, pq_nle, pq_nlt, pq_len, pq_ltn, pB_z, pB_o, mzt_0, mzt_1, mzt_B, ↓gbd_s, gbd_s, ↓gnn_s, ↓grf_s, eq_self, ↓reduceIte, Nat.reduceEqDiff, Nat.reduceLeDiff, Nat.reduceLT, Nat.reduceMul, Nat.reduceAdd, not_true_eq_false, not_false_eq_true, Bool.false_eq_true]
theorem o_byteAt (h : Rel E b A S M) (x : Int32) : Op E b S 0 0 (fX1_byteAt E N (put b A S) b x) (fX5_byteAt N M x) := by
  obtain ⟨r, w, h21, hS, hw, h45, h44⟩ := h.2.2.2.2.2.2.2.2.1
  have sl := c_slen (E := E) (N := N) (A := A) hS
  by_cases e : ∃ k, k < w.length ∧ x = Int32.ofNat k
  · have e1 := (pl_in (x := x) (v := Int32.ofNat w.length) (w := w.length) (by omega) (Or.inl rfl)).mpr e
    obtain ⟨k, hk, rfl⟩ := e
    have hg : w[k]? = some w[k] := List.getElem?_eq_getElem hk
    have cr := c_chr (E := E) (N := N) (A := A) hS hg
    have mr := h44 k _ hg
    refine ⟨Int32.ofNat w[k], A, S, mF M 0 (Int32.ofNat 0), ?_, ?_, h.m0 _, Nat.le_refl _, Nat.le_refl _⟩
    · simp only [bX1_byteAt_29, bX1_byteAt_0, fX1_byteAt, pq_lit]
      simp (disch := omega) only [↓f_21, h21, ↓gbd_h (sl), sl, ↓gbd_h (c_isIn _ _ _), c_isIn _ _ _, e1, and_self, ↓gbd_h (cr), cr, pq_lit, pq_add, pq_le, pq_lt, pq_eq, pq_en, pq_ne, pq_nle, pq_nlt, pq_len, pq_ltn, pB_z, pB_o, mzt_0, mzt_1, mzt_B, ↓gbd_s, gbd_s, ↓gnn_s, ↓grf_s, eq_self, ↓reduceIte, Nat.reduceEqDiff, Nat.reduceLeDiff, Nat.reduceLT, Nat.reduceMul, Nat.reduceAdd, not_true_eq_false, not_false_eq_true, Bool.false_eq_true]
    · simp only [bX5_byteAt_29, bX5_byteAt_0, fX5_byteAt, pq_lit]
      simp (disch := omega) only [↓mpt, mF_ne, mF_a, h45, ↓mbd_h (m_isIn _ _ _), m_isIn _ _ _, e1, and_self, ↓mrd_n, mrd_n, mr, eq_self, ↓reduceIte, Nat.reduceEqDiff, Nat.reduceLeDiff, Nat.reduceLT, Nat.reduceMul, Nat.reduceAdd, not_true_eq_false, not_false_eq_true, Bool.false_eq_true, pq_lit, pq_add, pq_le, pq_lt, pq_eq, pq_en, pq_ne, pq_nle, pq_nlt, pq_len, pq_ltn, pB_z, pB_o, mzt_0, mzt_1, mzt_B]
  · have e1 : ¬ _ := fun q => e ((pl_in (x := x) (v := Int32.ofNat w.length) (w := w.length) (by omega) (Or.inl rfl)).mp q)
    refine ⟨-Int32.ofNat 1, A, S, mF M 0 (Int32.ofNat 0), ?_, ?_, h.m0 _, Nat.le_refl _, Nat.le_refl _⟩
    · simp only [bX1_byteAt_29, bX1_byteAt_0, fX1_byteAt, pq_lit]
      simp (disch := omega) only [↓f_21, h21, ↓gbd_h (sl), sl, ↓gbd_h (c_isIn _ _ _), c_isIn _ _ _, e1, pq_lit, pq_add, pq_le, pq_lt, pq_eq, pq_en, pq_ne, pq_nle, pq_nlt, pq_len, pq_ltn, pB_z, pB_o, mzt_0, mzt_1, mzt_B, ↓gbd_s, gbd_s, ↓gnn_s, ↓grf_s, eq_self, ↓reduceIte, Nat.reduceEqDiff, Nat.reduceLeDiff, Nat.reduceLT, Nat.reduceMul, Nat.reduceAdd, not_true_eq_false, not_false_eq_true, Bool.false_eq_true]
    · simp only [bX5_byteAt_29, bX5_byteAt_0, fX5_byteAt, pq_lit]
      simp (disch := omega) only [↓mpt, mF_ne, mF_a, h45, ↓mbd_h (m_isIn _ _ _), m_isIn _ _ _, e1, eq_self, ↓reduceIte, Nat.reduceEqDiff, Nat.reduceLeDiff, Nat.reduceLT, Nat.reduceMul, Nat.reduceAdd, not_true_eq_false, not_false_eq_true, Bool.false_eq_true, pq_lit, pq_add, pq_le, pq_lt, pq_eq, pq_en, pq_ne, pq_nle, pq_nlt, pq_len, pq_ltn, pB_z, pB_o, mzt_0, mzt_1, mzt_B]
end OZ
