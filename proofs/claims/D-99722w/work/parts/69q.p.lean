/-! strings compared; a fault thrown -/
theorem lg_z (x y : Int64) : (lg_cmp x y = Int32.ofNat 0) = (x = y) := propext (lg_cmp_eq x y)
theorem i_inj {c c' : Nat} (h : c < 128) (h' : c' < 128) (e : Int32.ofNat c = Int32.ofNat c') : c = c' := by
  rw [pq_eq (by omega) (by omega)] at e; exact e
theorem StrAt.un {b : Nat} {S : GS} {r : Nat} {w w' : List Nat} (h : StrAt b S r w) (h' : StrAt b S r w') : w = w' := by
  obtain ⟨ci, fs, v, f, hci, hc, g1, g2, e1, e2, hv, hl, hw, hf⟩ := h.op
  obtain ⟨ci', fs', v', f', hci', hc', g1', g2', e1', e2', hv', hl', hw', hf'⟩ := h'.op
  have e := hc.1.symm.trans hc'.1
  injection e with e
  injection e with e
  injection e with ea eb
  rw [← eb, e1] at e1'
  injection e1' with e1'
  injection e1' with e1'
  subst e1'
  have e := hv.1.symm.trans hv'.1
  injection e with e
  injection e with e
  injection e with ea eb
  injection eb with el ef
  injection ef with ef
  subst ef
  apply List.ext_getElem el
  intro i h1 h2
  have k1 := hf i _ (List.getElem?_eq_getElem h1)
  have k2 := hf' i _ (List.getElem?_eq_getElem h2)
  exact i_inj (hw _ (List.getElem_mem h1)) (hw' _ (List.getElem_mem h2)) (k1.symm.trans k2)
section RF
variable {E : gE} {N b : Nat} {A : FA} {S : GS} {M : MS} {r r' : Nat} {w w' : List Nat}
theorem c_seL {v v' : Nat} {f f' : Nat → Int32} (hv : Cel b S v (.inl (0, w.length, .inl f))) (hv' : Cel b S v' (.inl (0, w'.length, .inl f'))) (hl : w.length ≤ 1000) (hll : w'.length = w.length) (hw : ∀ c, c ∈ w → c < 128) (hw' : ∀ c, c ∈ w' → c < 128) (hf : ∀ i c, w[i]? = some c → f i = Int32.ofNat c) (hf' : ∀ i c, w'[i]? = some c → f' i = Int32.ofNat c) : ∀ (k i m : Nat), i + k = w.length → k < m → bJ12_equals_9L E N m (put b A S) (some v) (some v') (Int32.ofNat i) = some (bI (decide (w.drop i = w'.drop i)), put b A S)
  | k, i, 0, h1, h2 => by omega
  | 0, i, m + 1, h1, h2 => by
    have rl : ∀ {β : Type} (K : Int32 → Option β), gal (put b A S) (some v) K = K (Int32.ofNat w.length) := fun K => gal_at (hv.at A) (by omega) K
    have e1 : w.length ≤ i := by omega
    have e2 : decide (w.drop i = w'.drop i) = true := decide_eq_true (by rw [List.drop_eq_nil_of_le e1, List.drop_eq_nil_of_le (by omega)])
    rw [e2]
    simp only [bJ12_equals_9L, bJ12_equals_9, pq_lit]
    simp (disch := omega) only [↓rl, e1, bI_t, pq_lit, pq_add, pq_le, pq_lt, pq_eq, pq_en, pq_ne, pq_nle, pq_nlt, pq_len, pq_ltn, pB_z, pB_o, mzt_0, mzt_1, mzt_B, ↓gbd_s, gbd_s, ↓gnn_s, ↓grf_s, eq_self, ↓reduceIte, Nat.reduceEqDiff, Nat.reduceLeDiff, Nat.reduceLT, Nat.reduceMul, Nat.reduceAdd, not_true_eq_false, not_false_eq_true, Bool.false_eq_true]
  | k + 1, i, m + 1, h1, h2 => by
    have rl : ∀ {β : Type} (K : Int32 → Option β), gal (put b A S) (some v) K = K (Int32.ofNat w.length) := fun K => gal_at (hv.at A) (by omega) K
    have hi : i < w.length := by omega
    have hi' : i < w'.length := by omega
    have rg : ∀ {β : Type} (K : Int32 → Option β), gai 0 (put b A S) (some v) (Int32.ofNat i) K = K (f i) := fun K => gai_at (hv.at A) hi (by omega) K
    have rg' : ∀ {β : Type} (K : Int32 → Option β), gai 0 (put b A S) (some v') (Int32.ofNat i) K = K (f' i) := fun K => gai_at (hv'.at A) hi' (by omega) K
    have e1 : ¬ w.length ≤ i := by omega
    have k1 := hf i _ (List.getElem?_eq_getElem hi)
    have k2 := hf' i _ (List.getElem?_eq_getElem hi')
    have l1 := hw _ (List.getElem_mem hi)
    have l2 := hw' _ (List.getElem_mem hi')
    have ih := c_seL hv hv' hl hll hw hw' hf hf' k (i + 1) m (by omega) (by omega)
    have d : (w.drop i = w'.drop i) ↔ (w[i] = w'[i] ∧ w.drop (i + 1) = w'.drop (i + 1)) := by
      rw [List.drop_eq_getElem_cons hi, List.drop_eq_getElem_cons hi', List.cons.injEq]
    by_cases e : w[i] = w'[i]
    · have d2 : decide (w.drop i = w'.drop i) = decide (w.drop (i + 1) = w'.drop (i + 1)) := by
        rw [decide_eq_decide, d]; exact ⟨fun h => h.2, fun h => ⟨e, h⟩⟩
      rw [d2, ← ih]
      rw [e] at k1
      simp only [bJ12_equals_9L, bJ12_equals_9, pq_lit]
      simp (disch := omega) only [↓rl, e1, ↓rg, ↓rg', k1, k2, pq_lit, pq_add, pq_le, pq_lt, pq_eq, pq_en, pq_ne, pq_nle, pq_nlt, pq_len, pq_ltn, pB_z, pB_o, mzt_0, mzt_1, mzt_B, ↓gbd_s, gbd_s, ↓gnn_s, ↓grf_s, eq_self, ↓reduceIte, Nat.reduceEqDiff, Nat.reduceLeDiff, Nat.reduceLT, Nat.reduceMul, Nat.reduceAdd, not_true_eq_false, not_false_eq_true, Bool.false_eq_true]
    · have d2 : decide (w.drop i = w'.drop i) = false := decide_eq_false (fun h => e (d.mp h).1)
      rw [d2]
      simp only [bJ12_equals_9L, bJ12_equals_9, pq_lit]
      simp (disch := omega) only [↓rl, e1, ↓rg, ↓rg', k1, k2, e, bI_f, pq_lit, pq_add, pq_le, pq_lt, pq_eq, pq_en, pq_ne, pq_nle, pq_nlt, pq_len, pq_ltn, pB_z, pB_o, mzt_0, mzt_1, mzt_B, ↓gbd_s, gbd_s, ↓gnn_s, ↓grf_s, eq_self, ↓reduceIte, Nat.reduceEqDiff, Nat.reduceLeDiff, Nat.reduceLT, Nat.reduceMul, Nat.reduceAdd, not_true_eq_false, not_false_eq_true, Bool.false_eq_true]
theorem gio_at {β : Type} {S : GS} {a ci : Nat} {fs : List Value} {cis : List Nat} (h : S.1 a = some (.inr (ci, fs))) (hc : ci ∈ cis) (K : Int32 → Option β) : gio S (some a) cis K = K (Int32.ofNat 1) := by
  simp only [gio, h]
  exact if_pos hc
theorem c_seq (h : StrAt b S r w) (h' : StrAt b S r' w') (hN : 2000 ≤ N) : vjava_lang_String_equals__Ljava_lang_Object__Z E N (put b A S) (some r) (some r') = some (bI (decide (w = w')), put b A S) := by
  have hh := h
  have hh' := h'
  obtain ⟨ci, fs, v, f, hci, hc, g1, g2, e1, e2, hv, hl, hw, hf⟩ := h.op
  obtain ⟨ci', fs', v', f', hci', hc', g1', g2', e1', e2', hv', hl', hw', hf'⟩ := h'.op
  have r7 : ∀ {β : Type} (K : Option Nat → Option β), ggr (put b A S) (some r) 117 K = K (some v) := fun K => ggr_as (hc.at A) g1 e1 K
  have r8 : ∀ {β : Type} (K : Int32 → Option β), ggi (put b A S) (some r) 118 K = K (Int32.ofNat 0) := fun K => ggi_at (hc.at A) g2 e2 K
  have r7' : ∀ {β : Type} (K : Option Nat → Option β), ggr (put b A S) (some r') 117 K = K (some v') := fun K => ggr_as (hc'.at A) g1' e1' K
  have r8' : ∀ {β : Type} (K : Int32 → Option β), ggi (put b A S) (some r') 118 K = K (Int32.ofNat 0) := fun K => ggi_at (hc'.at A) g2' e2' K
  have m26 : ci' ∈ [26, 27] := by rcases hci' with rfl | rfl <;> decide
  have ic : ∀ {β : Type} (K : Int32 → Option β), gio (put b A S) (some r') [26, 27] K = K (Int32.ofNat 1) := fun K => gio_at (hc'.at A) m26 K
  have cc : ∀ {β : Type} (K : Option β), gcc (put b A S) (some r') [26, 27] K = K := fun K => gcc_at (hc'.at A) m26 K
  have rl : ∀ {β : Type} (K : Int32 → Option β), gal (put b A S) (some v) K = K (Int32.ofNat w.length) := fun K => gal_at (hv.at A) (by omega) K
  have rl' : ∀ {β : Type} (K : Int32 → Option β), gal (put b A S) (some v') K = K (Int32.ofNat w'.length) := fun K => gal_at (hv'.at A) (by omega) K
  have key : fJ8_equals E N (put b A S) r (some r') = some (bI (decide (w = w')), put b A S) := by
    by_cases er : r = r'
    · subst er
      have ew := hh.un hh'
      subst ew
      rw [decide_eq_true rfl]
      simp only [fJ8_equals, bJ8_equals_0, pq_lit]
      simp (disch := omega) only [bI_t, pq_lit, pq_add, pq_le, pq_lt, pq_eq, pq_en, pq_ne, pq_nle, pq_nlt, pq_len, pq_ltn, pB_z, pB_o, mzt_0, mzt_1, mzt_B, ↓gbd_s, gbd_s, ↓gnn_s, ↓grf_s, eq_self, ↓reduceIte, Nat.reduceEqDiff, Nat.reduceLeDiff, Nat.reduceLT, Nat.reduceMul, Nat.reduceAdd, not_true_eq_false, not_false_eq_true, Bool.false_eq_true]
    · have er' : ¬ (some r = some r') := fun q => er (by injection q)
      have q12 : fJ12_equals E N (put b A S) (some v) (some v') = some (bI (decide (w = w')), put b A S) := by
        by_cases el : w.length = w'.length
        · have lo := c_seL (E := E) (N := N) (A := A) hv hv' hl el.symm hw hw' hf hf' w.length 0 N (by omega) (by omega)
          simp only [List.drop_zero] at lo
          rw [← lo]
          simp only [fJ12_equals, bJ12_equals_0, pq_lit]
          simp (disch := omega) only [↓rl, ↓rl', el, pq_lit, pq_add, pq_le, pq_lt, pq_eq, pq_en, pq_ne, pq_nle, pq_nlt, pq_len, pq_ltn, pB_z, pB_o, mzt_0, mzt_1, mzt_B, ↓gbd_s, gbd_s, ↓gnn_s, ↓grf_s, eq_self, ↓reduceIte, Nat.reduceEqDiff, Nat.reduceLeDiff, Nat.reduceLT, Nat.reduceMul, Nat.reduceAdd, not_true_eq_false, not_false_eq_true, Bool.false_eq_true]
        · have d2 : decide (w = w') = false := decide_eq_false (fun q => el (by rw [q]))
          rw [d2]
          simp only [fJ12_equals, bJ12_equals_0, pq_lit]
          simp (disch := omega) only [↓rl, ↓rl', el, bI_f, pq_lit, pq_add, pq_le, pq_lt, pq_eq, pq_en, pq_ne, pq_nle, pq_nlt, pq_len, pq_ltn, pB_z, pB_o, mzt_0, mzt_1, mzt_B, ↓gbd_s, gbd_s, ↓gnn_s, ↓grf_s, eq_self, ↓reduceIte, Nat.reduceEqDiff, Nat.reduceLeDiff, Nat.reduceLT, Nat.reduceMul, Nat.reduceAdd, not_true_eq_false, not_false_eq_true, Bool.false_eq_true]
      simp only [fJ8_equals, bJ8_equals_0, bJ8_equals_36, bJ8_equals_54, bJ8_equals_55, pq_lit]
      cases ed : decide (w = w') with
      | true =>
        rw [ed] at q12
        simp (disch := omega) only [er', ↓ic, ↓cc, ↓r8, ↓r8', ↓r7, ↓r7', ↓gbd_h (q12), q12, bI_t, pq_lit, pq_add, pq_le, pq_lt, pq_eq, pq_en, pq_ne, pq_nle, pq_nlt, pq_len, pq_ltn, pB_z, pB_o, mzt_0, mzt_1, mzt_B, ↓gbd_s, gbd_s, ↓gnn_s, ↓grf_s, eq_self, ↓reduceIte, Nat.reduceEqDiff, Nat.reduceLeDiff, Nat.reduceLT, Nat.reduceMul, Nat.reduceAdd, not_true_eq_false, not_false_eq_true, Bool.false_eq_true]
      | false =>
        rw [ed] at q12
        simp (disch := omega) only [er', ↓ic, ↓cc, ↓r8, ↓r8', ↓r7, ↓r7', ↓gbd_h (q12), q12, bI_f, pq_lit, pq_add, pq_le, pq_lt, pq_eq, pq_en, pq_ne, pq_nle, pq_nlt, pq_len, pq_ltn, pB_z, pB_o, mzt_0, mzt_1, mzt_B, ↓gbd_s, gbd_s, ↓gnn_s, ↓grf_s, eq_self, ↓reduceIte, Nat.reduceEqDiff, Nat.reduceLeDiff, Nat.reduceLT, Nat.reduceMul, Nat.reduceAdd, not_true_eq_false, not_false_eq_true, Bool.false_eq_true]
  rcases hci with rfl | rfl <;>
  · simp only [vjava_lang_String_equals__Ljava_lang_Object__Z]
    rw [kc hc]
    exact key
end RF
theorem gth_at {β : Type} {S : GS} {a : Nat} {fs : List Value} (h : S.1 a = some (.inr (5, fs))) : gth (β := β) S (some a) = some (Sum.inr a, S) := by
  simp only [gth, gobj, h, if_true]
def FltAt (b : Nat) (S : GS) (fa : Nat) (kd pl : Int32) : Prop := ∃ x0 x1 x2 x3 x4 x5, Cel b S fa (.inr (5, [x0, x1, x2, x3, x4, x5, .int kd, .int pl]))
section RG
variable {E : gE} {N b : Nat} {A : FA} {S : GS} {q ci n lim : Nat} {p kd fr nu sg : Int32} {wr : Nat} {ex : List Value}
theorem c_need1 (k : Int32) : fX6_need E N (put b A S) q (Int32.ofNat 1) k = some (Sum.inl (Int32.ofNat 0), put b A S) := by
  simp only [fX6_need, bX6_need_0, pq_lit]
  simp (disch := omega) only [pq_lit, pq_add, pq_le, pq_lt, pq_eq, pq_en, pq_ne, pq_nle, pq_nlt, pq_len, pq_ltn, pB_z, pB_o, mzt_0, mzt_1, mzt_B, ↓gbd_s, gbd_s, ↓gnn_s, ↓grf_s, eq_self, ↓reduceIte, Nat.reduceEqDiff, Nat.reduceLeDiff, Nat.reduceLT, Nat.reduceMul, Nat.reduceAdd, not_true_eq_false, not_false_eq_true, Bool.false_eq_true]
theorem c_need0 (hk : RdK ci) (hE : E.1 ≤ b) (hb : b + 111 ≤ S.2.1) (h : Cel b S q (.inr (ci, rdV b n lim p kd fr nu sg wr ex))) (k : Int32) : ∃ S', Ext S S' ∧ S'.2 = (S.2.1 + 1, S.2.2.1 + 1, S.2.2.2 + 8) ∧ FltAt b S' S.2.1 (if kd = Int32.ofNat 1 ∨ kd = Int32.ofNat 5 then Int32.ofNat 1 else k) fr ∧ fX6_need E N (put b A S) q (Int32.ofNat 0) k = some (Sum.inr S.2.1, put b A S') := by
  obtain ⟨S1, hS1⟩ : ∃ S1, S1 = gpush S (.inr (5, gdf 5)) (gdf 5).length := ⟨_, rfl⟩
  have x1 : Ext S S1 := by rw [hS1]; exact Ext.push _ _ _
  have c0 : Cel b S1 S.2.1 (.inr (5, [.null, .null, .null, .null, .null, .int (Int32.ofNat 0), .int (Int32.ofNat 0), .int (Int32.ofNat 0)])) := by rw [hS1]; exact Cel.push hb _ _
  have h1 := h.ext x1
  have r47 := fun {β : Type} (K : Int32 → Option β) => rd_47 hk h1 A K
  have r48 := fun {β : Type} (K : Int32 → Option β) => rd_48 hk h1 A K
  have hg : E.1 ≤ S.2.1 := by omega
  have fin : ∀ k' : Int32, bX6_need_29 E N q (put b A S1) (some S.2.1) (some S.2.1) k' = some (Sum.inr S.2.1, put b A (gup S1 S.2.1 (.inr (5, [.null, .null, .null, .null, .null, .int (Int32.ofNat 0), .int k', .int fr])))) := by
    intro k'
    have cf : Cel b (gup S1 S.2.1 (.inr (5, [.null, .null, .null, .null, .null, .int (Int32.ofNat 0), .int k', .int fr]))) S.2.1 (.inr (5, [.null, .null, .null, .null, .null, .int (Int32.ofNat 0), .int k', .int fr])) := c0.up _
    have gt := gth_at (β := Int32) (cf.at A)
    simp only [bX6_need_29, bX6_need_36, bX8_init_0, fX8_init, bJ14_init_0, fJ14_init, fJ13_init_2, bJ13_init_2_0, bJ13_init_2_60, pq_lit]
    simp (disch := omega) only [↓r48, ↓w5_53 c0 hg, ↓w5_54 (c0.up _) hg, ↓w5_55 (c0.up _) hg, ↓w5_56 (c0.up _) hg, ↓w5_53 (c0.up _) hg, ↓w5_59 (c0.up _) hg, ↓w5_60 (c0.up _) hg, gup_gup, show va_rf none = Value.null from rfl, gt, pq_lit, pq_add, pq_le, pq_lt, pq_eq, pq_en, pq_ne, pq_nle, pq_nlt, pq_len, pq_ltn, pB_z, pB_o, mzt_0, mzt_1, mzt_B, ↓gbd_s, gbd_s, ↓gnn_s, ↓grf_s, eq_self, ↓reduceIte, Nat.reduceEqDiff, Nat.reduceLeDiff, Nat.reduceLT, Nat.reduceMul, Nat.reduceAdd, not_true_eq_false, not_false_eq_true, Bool.false_eq_true]
  have n1 : S1.2 = (S.2.1 + 1, S.2.2.1 + 1, S.2.2.2 + 8) := by rw [hS1]; rfl
  by_cases e : kd = Int32.ofNat 1 ∨ kd = Int32.ofNat 5
  · refine ⟨_, x1.gup (Nat.le_refl _), n1, ?_, Eq.trans ?_ (fin (Int32.ofNat 1))⟩
    · rw [if_pos e]; exact ⟨_, _, _, _, _, _, c0.up _⟩
    · simp only [fX6_need, bX6_need_0, bX6_need_7, bX6_need_24, pq_lit]
      rcases e with e | e
      · simp (disch := omega) only [↓gnw_n hb, ← hS1, ↓r47, e, pq_lit, pq_add, pq_le, pq_lt, pq_eq, pq_en, pq_ne, pq_nle, pq_nlt, pq_len, pq_ltn, pB_z, pB_o, mzt_0, mzt_1, mzt_B, ↓gbd_s, gbd_s, ↓gnn_s, ↓grf_s, eq_self, ↓reduceIte, Nat.reduceEqDiff, Nat.reduceLeDiff, Nat.reduceLT, Nat.reduceMul, Nat.reduceAdd, not_true_eq_false, not_false_eq_true, Bool.false_eq_true]
      · simp (disch := omega) only [↓gnw_n hb, ← hS1, ↓r47, e, pq_lit, pq_add, pq_le, pq_lt, pq_eq, pq_en, pq_ne, pq_nle, pq_nlt, pq_len, pq_ltn, pB_z, pB_o, mzt_0, mzt_1, mzt_B, ↓gbd_s, gbd_s, ↓gnn_s, ↓grf_s, eq_self, ↓reduceIte, Nat.reduceEqDiff, Nat.reduceLeDiff, Nat.reduceLT, Nat.reduceMul, Nat.reduceAdd, not_true_eq_false, not_false_eq_true, Bool.false_eq_true]
  · refine ⟨_, x1.gup (Nat.le_refl _), n1, ?_, Eq.trans ?_ (fin k)⟩
    · rw [if_neg e]; exact ⟨_, _, _, _, _, _, c0.up _⟩
    · have e1 : ¬ kd = Int32.ofNat 1 := fun q => e (Or.inl q)
      have e2 : ¬ kd = Int32.ofNat 5 := fun q => e (Or.inr q)
      simp only [fX6_need, bX6_need_0, bX6_need_7, bX6_need_24, pq_lit]
      simp (disch := omega) only [↓gnw_n hb, ← hS1, ↓r47, e1, e2, pq_lit, pq_add, pq_le, pq_lt, pq_eq, pq_en, pq_ne, pq_nle, pq_nlt, pq_len, pq_ltn, pB_z, pB_o, mzt_0, mzt_1, mzt_B, ↓gbd_s, gbd_s, ↓gnn_s, ↓grf_s, eq_self, ↓reduceIte, Nat.reduceEqDiff, Nat.reduceLeDiff, Nat.reduceLT, Nat.reduceMul, Nat.reduceAdd, not_true_eq_false, not_false_eq_true, Bool.false_eq_true]
end RG
