/-! pass: the model lays letters -/
def TxtIn (M : MS) (w : List Nat) : Prop := M.1 45 = Int32.ofNat w.length ∧ ∀ i c, w[i]? = some c → M.2.2.1 44 i = Int32.ofNat c
theorem lay_c : ∀ c, c < 128 → vp_nar .byte (Int32.ofNat c).toInt8.toInt32 = Int32.ofNat c := by decide +kernel
section PG
variable {N : Nat} {M : MS}
theorem m_lay {w : List Nat} {c : Nat} (h : TxtIn M w) (hw : w.length < 40) (hc : c < 128) : ∃ M', mSm [44, 45] M M' ∧ TxtIn M' (w ++ [c]) ∧ fX5_lays N M (Int32.ofNat c) = some (Int32.ofNat 0, M') := by
  refine ⟨mF (mR M 44 (upd (M.2.2.1 44) w.length (Int32.ofNat c))) 45 (Int32.ofNat (w.length + 1)), ((mSm.rf (ks := [44, 45])).mR _ (by decide)).mF _ (by decide), ⟨?_, fun i x hi => ?_⟩, ?_⟩
  · rw [mF_e, List.length_append]; rfl
  · rw [mF_a, mA_e]
    by_cases e : i < w.length
    · rw [List.getElem?_append_left e] at hi
      rw [upd_o _ _ (by omega)]
      exact h.2 i x hi
    · have hil := (List.getElem?_eq_some_iff.mp hi).1
      rw [List.length_append, List.length_cons, List.length_nil] at hil
      have e2 : i = w.length := by omega
      subst e2
      rw [List.getElem?_append_right (by omega), Nat.sub_self] at hi
      injection hi with hi
      rw [upd_s, ← hi]
  · have l := lay_c c hc
    have e45 := h.1
    simp only [fX5_lays, bX5_lays_0, pq_lit]
    simp (disch := omega) only [e45, l, ↓mwr_n, mwr_n, ma_s, ↓mpt, mA_i, pq_add, eq_self, ↓reduceIte, Nat.reduceEqDiff, Nat.reduceLeDiff, Nat.reduceLT, Nat.reduceMul, Nat.reduceAdd, not_true_eq_false, not_false_eq_true, Bool.false_eq_true, pq_lit, pq_add, pq_le, pq_lt, pq_eq, pq_en, pq_ne, pq_nle, pq_nlt, pq_len, pq_ltn, pB_z, pB_o, mzt_0, mzt_1, mzt_B]
end PG
