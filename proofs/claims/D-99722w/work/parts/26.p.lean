/-! the component's Times: copies -/
def cpR (s s2 : Nat → Int32) (o n : Nat) : Nat → Int32 := fun k => if o ≤ k ∧ k < o + n then s2 k else s k
theorem cpR_o {s s2 : Nat → Int32} {o n k : Nat} (h : k < o ∨ o + n ≤ k) : cpR s s2 o n k = s k := if_neg (by omega)
theorem tarr_cpS {s s2 : Nat → Int32} {o n : Nat} : tarr n o (cpR s s2 o n) = tarr n o s2 := by
  funext j
  unfold tarr clip cpR
  by_cases h : j < n
  · rw [if_pos h, if_pos h]
    show (if _ then _ else _) = _
    rw [if_pos (by omega)]
  · rw [if_neg h, if_neg h]
theorem tarr_cpO {s s2 : Nat → Int32} {o n o' n' : Nat} (h : o' + n' ≤ o ∨ o + n ≤ o') : tarr n' o' (cpR s s2 o n) = tarr n' o' s := by
  funext j
  unfold tarr clip
  by_cases h2 : j < n'
  · rw [if_pos h2, if_pos h2]
    exact cpR_o (by omega)
  · rw [if_neg h2, if_neg h2]
theorem cpy_tarr {s s2 : Nat → Int32} {o n : Nat} : va_cpy (tarr n o s2) (tarr n o s) 0 0 n = tarr n o s2 := by
  funext j
  unfold va_cpy
  by_cases h : j < n
  · rw [if_pos (by omega), Nat.zero_add, Nat.sub_zero]
  · rw [if_neg (by omega)]
    unfold tarr clip
    rw [if_neg h, if_neg h]
theorem z_tarr {s : Nat → Int32} {o n : Nat} : (fun k => if k < n then Int32.ofNat 0 else tarr n o s k) = tarr n o (fun _ => Int32.ofNat 0) := by
  funext j
  unfold tarr clip
  by_cases h : j < n
  · rw [if_pos h, if_pos h]
  · rw [if_neg h, if_neg h, if_neg h]
theorem gcp_at {β : Type} {E : gE} {S : GS} {a0 a n0 n1 n : Nat} {f g : Nat → Int32} (h0 : S.1 a0 = some (.inl (1, n0, .inl f))) (h1 : S.1 a = some (.inl (1, n1, .inl g))) (hE : E.1 ≤ a) (hn0 : n ≤ n0) (hn1 : n ≤ n1) (l0 : n0 ≤ 65536) (l1 : n1 ≤ 65536) (K : GS → Option β) : gcp E S (some a0) (Int32.ofNat 0) (some a) (Int32.ofNat 0) (Int32.ofNat n) K = K (gup S a (.inl (1, n1, .inl (va_cpy f g 0 0 n)))) := by
  have e0 : (Int32.ofNat 0).toNatClampNeg = 0 := pq_tn (by omega)
  have en : (Int32.ofNat n).toNatClampNeg = n := pq_tn (by omega)
  have z : ¬ Int32.ofNat 0 < 0 := by decide
  have zn : ¬ Int32.ofNat n < 0 := by
    show ¬ Int32.ofNat n < Int32.ofNat 0
    rw [pq_lt (by omega) (by omega)]; omega
  refine gcp_eq ⟨a0, a, 1, n0, n1, .inl f, .inl g, .inl (va_cpy f g 0 0 n), rfl, rfl, h0, h1, hE, z, z, zn, ?_, ?_, ?_, rfl⟩ K
  · rw [e0, en]; omega
  · rw [e0, en]; omega
  · rw [e0, en]; exact ⟨Or.inl rfl, rfl⟩
theorem gup_gup (S : GS) (a : Nat) (e e' : GE) : gup (gup S a e) a e' = gup S a e' := by
  unfold gup
  refine Prod.ext (funext fun i => ?_) rfl
  simp only [va_up]
  split <;> rfl
theorem gup_s (S : GS) (a : Nat) (e : GE) : (gup S a e).1 a = some e := if_pos rfl
theorem gup_i {S : GS} {a : Nat} {e : GE} (h : S.1 a = some e) : gup S a e = S := by
  unfold gup
  refine Prod.ext (funext fun i => ?_) rfl
  simp only [va_up]
  split
  · rename_i q; subst q; exact h.symm
  · rfl
theorem fill_L {E : gE} {N : Nat} {S : GS} {a n : Nat} (hE : E.1 ≤ a) (hn : n ≤ 65536) : ∀ (k i m : Nat) (f : Nat → Int32), i + k = n → k < m → bJ3_fill_5L E N m (gup S a (.inl (1, n, .inl f))) (some a) (Int32.ofNat 0) (Int32.ofNat i) (Int32.ofNat n) = some (Int32.ofNat 0, gup S a (.inl (1, n, .inl (fun j => if i ≤ j ∧ j < n then Int32.ofNat 0 else f j))))
  | k, i, 0, f, _, h => by omega
  | 0, i, m + 1, f, h, _ => by
    simp (disch := omega) only [bJ3_fill_5L, bJ3_fill_5, bJ3_fill_0, fJ3_fill, pq_lit, pq_add, pq_le, pq_lt, pq_eq, pq_en, pq_ne, pq_nle, pq_nlt, pq_len, pq_ltn, pB_z, pB_o, mzt_0, mzt_1, mzt_B, gbd_s, gnn_s, grf_s]
    rw [if_pos (by omega)]
    congr 7
    funext j
    rw [if_neg (by omega)]
  | k + 1, i, m + 1, f, h, hk => by
    have ih := fill_L (E := E) (N := N) (S := S) hE hn k (i + 1) m (upd f i (Int32.ofNat 0)) (by omega) (by omega)
    simp (disch := omega) only [bJ3_fill_5L, bJ3_fill_5, bJ3_fill_0, fJ3_fill, pq_lit, pq_add, pq_le, pq_lt, pq_eq, pq_en, pq_ne, pq_nle, pq_nlt, pq_len, pq_ltn, pB_z, pB_o, mzt_0, mzt_1, mzt_B, gbd_s, gnn_s, grf_s, gaw_at (gup_s S a _), gup_gup, ih]
    rw [if_neg (by omega)]
    congr 7
    funext j
    unfold upd
    grind
theorem fill_at {E : gE} {N : Nat} {S : GS} {a n : Nat} {f : Nat → Int32} (h : S.1 a = some (.inl (1, n, .inl f))) (hE : E.1 ≤ a) (hn : n ≤ 50) (hN : 100 ≤ N) : fJ3_fill E N S (some a) (Int32.ofNat 0) = some (Int32.ofNat 0, gup S a (.inl (1, n, .inl (fun j => if j < n then Int32.ofNat 0 else f j)))) := by
  have ih := fill_L (E := E) (N := N) (S := S) (n := n) hE (by omega) n 0 N f (by omega) (by omega)
  rw [gup_i h] at ih
  simp only [fJ3_fill, bJ3_fill_0, gal_at h (show 1 < 5 by omega), pq_lit, ih, Nat.zero_le, true_and]
section TC
variable {E : gE} {N b : Nat} {A : FA} {S : GS} {j : Nat}
theorem t_u1 (hj : j < 12) (s2 : Nat → Int32) : gup (put b A S) (tad b j + 1) (.inl (1, 7, .inl (tarr 7 94 s2))) = put b (sS A j (cpR (aT A j).2.2 s2 94 7)) S := by
  refine gup_t hj (by omega) (fun i' hi' => ?_)
  match i', hi' with
  | 0, _ => simp (disch := omega) only [tcell, tfs, cpR_o]; rfl
  | 1, _ => simp only [tcell, if_true, tarr_cpS]
  | 2, _ => simp (disch := omega) only [tcell, tarr_cpO]; rfl
  | 3, _ => simp (disch := omega) only [tcell, tarr_cpO]; rfl
  | 4, _ => simp (disch := omega) only [tcell, tarr_cpO]; rfl
  | 5, _ => simp (disch := omega) only [tcell, tarr_cpO]; rfl
  | 6, _ => simp (disch := omega) only [tcell, tarr_cpO]; rfl
  | 7, _ => simp (disch := omega) only [tcell, tarr_cpO]; rfl
theorem t_c1 (hE : E.1 ≤ b) (hj : j < 12) {i : Nat} (hi : i < 12) : fX3_copy E N (put b A S) (some (tad b i + 1)) (some (tad b j + 1)) = some (Int32.ofNat 0, put b (sS A j (cpR (aT A j).2.2 (aT A i).2.2 94 7)) S) := by
  simp only [fX3_copy, bX3_copy_0, t_l1 hj, pq_lit]
  rw [gcp_at (put_t (i := 1) hi (by omega)) (put_t (i := 1) hj (by omega)) (Nat.le_trans hE (Nat.le_trans (tad_b b j) (Nat.le_add_right _ _))) (Nat.le_refl _) (Nat.le_refl _) (by omega) (by omega), cpy_tarr, t_u1 hj]
theorem t_z1 (hE : E.1 ≤ b) (hN : 100 ≤ N) (hj : j < 12) : fX3_clear E N (put b A S) (some (tad b j + 1)) = some (Int32.ofNat 0, put b (sS A j (cpR (aT A j).2.2 (fun _ => Int32.ofNat 0) 94 7)) S) := by
  simp only [fX3_clear, bX3_clear_0, pq_lit]
  rw [fill_at (put_t (i := 1) hj (by omega)) (Nat.le_trans hE (Nat.le_trans (tad_b b j) (Nat.le_add_right _ _))) (by omega) (by omega), gbd_s, z_tarr, t_u1 hj]
theorem t_u2 (hj : j < 12) (s2 : Nat → Int32) : gup (put b A S) (tad b j + 2) (.inl (1, 7, .inl (tarr 7 101 s2))) = put b (sS A j (cpR (aT A j).2.2 s2 101 7)) S := by
  refine gup_t hj (by omega) (fun i' hi' => ?_)
  match i', hi' with
  | 0, _ => simp (disch := omega) only [tcell, tfs, cpR_o]; rfl
  | 1, _ => simp (disch := omega) only [tcell, tarr_cpO]; rfl
  | 2, _ => simp only [tcell, if_true, tarr_cpS]
  | 3, _ => simp (disch := omega) only [tcell, tarr_cpO]; rfl
  | 4, _ => simp (disch := omega) only [tcell, tarr_cpO]; rfl
  | 5, _ => simp (disch := omega) only [tcell, tarr_cpO]; rfl
  | 6, _ => simp (disch := omega) only [tcell, tarr_cpO]; rfl
  | 7, _ => simp (disch := omega) only [tcell, tarr_cpO]; rfl
theorem t_c2 (hE : E.1 ≤ b) (hj : j < 12) {i : Nat} (hi : i < 12) : fX3_copy E N (put b A S) (some (tad b i + 2)) (some (tad b j + 2)) = some (Int32.ofNat 0, put b (sS A j (cpR (aT A j).2.2 (aT A i).2.2 101 7)) S) := by
  simp only [fX3_copy, bX3_copy_0, t_l2 hj, pq_lit]
  rw [gcp_at (put_t (i := 2) hi (by omega)) (put_t (i := 2) hj (by omega)) (Nat.le_trans hE (Nat.le_trans (tad_b b j) (Nat.le_add_right _ _))) (Nat.le_refl _) (Nat.le_refl _) (by omega) (by omega), cpy_tarr, t_u2 hj]
theorem t_z2 (hE : E.1 ≤ b) (hN : 100 ≤ N) (hj : j < 12) : fX3_clear E N (put b A S) (some (tad b j + 2)) = some (Int32.ofNat 0, put b (sS A j (cpR (aT A j).2.2 (fun _ => Int32.ofNat 0) 101 7)) S) := by
  simp only [fX3_clear, bX3_clear_0, pq_lit]
  rw [fill_at (put_t (i := 2) hj (by omega)) (Nat.le_trans hE (Nat.le_trans (tad_b b j) (Nat.le_add_right _ _))) (by omega) (by omega), gbd_s, z_tarr, t_u2 hj]
theorem t_u3 (hj : j < 12) (s2 : Nat → Int32) : gup (put b A S) (tad b j + 3) (.inl (1, 6, .inl (tarr 6 108 s2))) = put b (sS A j (cpR (aT A j).2.2 s2 108 6)) S := by
  refine gup_t hj (by omega) (fun i' hi' => ?_)
  match i', hi' with
  | 0, _ => simp (disch := omega) only [tcell, tfs, cpR_o]; rfl
  | 1, _ => simp (disch := omega) only [tcell, tarr_cpO]; rfl
  | 2, _ => simp (disch := omega) only [tcell, tarr_cpO]; rfl
  | 3, _ => simp only [tcell, if_true, tarr_cpS]
  | 4, _ => simp (disch := omega) only [tcell, tarr_cpO]; rfl
  | 5, _ => simp (disch := omega) only [tcell, tarr_cpO]; rfl
  | 6, _ => simp (disch := omega) only [tcell, tarr_cpO]; rfl
  | 7, _ => simp (disch := omega) only [tcell, tarr_cpO]; rfl
theorem t_c3 (hE : E.1 ≤ b) (hj : j < 12) {i : Nat} (hi : i < 12) : fX3_copy E N (put b A S) (some (tad b i + 3)) (some (tad b j + 3)) = some (Int32.ofNat 0, put b (sS A j (cpR (aT A j).2.2 (aT A i).2.2 108 6)) S) := by
  simp only [fX3_copy, bX3_copy_0, t_l3 hj, pq_lit]
  rw [gcp_at (put_t (i := 3) hi (by omega)) (put_t (i := 3) hj (by omega)) (Nat.le_trans hE (Nat.le_trans (tad_b b j) (Nat.le_add_right _ _))) (Nat.le_refl _) (Nat.le_refl _) (by omega) (by omega), cpy_tarr, t_u3 hj]
theorem t_z3 (hE : E.1 ≤ b) (hN : 100 ≤ N) (hj : j < 12) : fX3_clear E N (put b A S) (some (tad b j + 3)) = some (Int32.ofNat 0, put b (sS A j (cpR (aT A j).2.2 (fun _ => Int32.ofNat 0) 108 6)) S) := by
  simp only [fX3_clear, bX3_clear_0, pq_lit]
  rw [fill_at (put_t (i := 3) hj (by omega)) (Nat.le_trans hE (Nat.le_trans (tad_b b j) (Nat.le_add_right _ _))) (by omega) (by omega), gbd_s, z_tarr, t_u3 hj]
theorem t_u4 (hj : j < 12) (s2 : Nat → Int32) : gup (put b A S) (tad b j + 4) (.inl (1, 6, .inl (tarr 6 114 s2))) = put b (sS A j (cpR (aT A j).2.2 s2 114 6)) S := by
  refine gup_t hj (by omega) (fun i' hi' => ?_)
  match i', hi' with
  | 0, _ => simp (disch := omega) only [tcell, tfs, cpR_o]; rfl
  | 1, _ => simp (disch := omega) only [tcell, tarr_cpO]; rfl
  | 2, _ => simp (disch := omega) only [tcell, tarr_cpO]; rfl
  | 3, _ => simp (disch := omega) only [tcell, tarr_cpO]; rfl
  | 4, _ => simp only [tcell, if_true, tarr_cpS]
  | 5, _ => simp (disch := omega) only [tcell, tarr_cpO]; rfl
  | 6, _ => simp (disch := omega) only [tcell, tarr_cpO]; rfl
  | 7, _ => simp (disch := omega) only [tcell, tarr_cpO]; rfl
theorem t_c4 (hE : E.1 ≤ b) (hj : j < 12) {i : Nat} (hi : i < 12) : fX3_copy E N (put b A S) (some (tad b i + 4)) (some (tad b j + 4)) = some (Int32.ofNat 0, put b (sS A j (cpR (aT A j).2.2 (aT A i).2.2 114 6)) S) := by
  simp only [fX3_copy, bX3_copy_0, t_l4 hj, pq_lit]
  rw [gcp_at (put_t (i := 4) hi (by omega)) (put_t (i := 4) hj (by omega)) (Nat.le_trans hE (Nat.le_trans (tad_b b j) (Nat.le_add_right _ _))) (Nat.le_refl _) (Nat.le_refl _) (by omega) (by omega), cpy_tarr, t_u4 hj]
theorem t_z4 (hE : E.1 ≤ b) (hN : 100 ≤ N) (hj : j < 12) : fX3_clear E N (put b A S) (some (tad b j + 4)) = some (Int32.ofNat 0, put b (sS A j (cpR (aT A j).2.2 (fun _ => Int32.ofNat 0) 114 6)) S) := by
  simp only [fX3_clear, bX3_clear_0, pq_lit]
  rw [fill_at (put_t (i := 4) hj (by omega)) (Nat.le_trans hE (Nat.le_trans (tad_b b j) (Nat.le_add_right _ _))) (by omega) (by omega), gbd_s, z_tarr, t_u4 hj]
theorem t_u5 (hj : j < 12) (s2 : Nat → Int32) : gup (put b A S) (tad b j + 5) (.inl (1, 6, .inl (tarr 6 120 s2))) = put b (sS A j (cpR (aT A j).2.2 s2 120 6)) S := by
  refine gup_t hj (by omega) (fun i' hi' => ?_)
  match i', hi' with
  | 0, _ => simp (disch := omega) only [tcell, tfs, cpR_o]; rfl
  | 1, _ => simp (disch := omega) only [tcell, tarr_cpO]; rfl
  | 2, _ => simp (disch := omega) only [tcell, tarr_cpO]; rfl
  | 3, _ => simp (disch := omega) only [tcell, tarr_cpO]; rfl
  | 4, _ => simp (disch := omega) only [tcell, tarr_cpO]; rfl
  | 5, _ => simp only [tcell, if_true, tarr_cpS]
  | 6, _ => simp (disch := omega) only [tcell, tarr_cpO]; rfl
  | 7, _ => simp (disch := omega) only [tcell, tarr_cpO]; rfl
theorem t_c5 (hE : E.1 ≤ b) (hj : j < 12) {i : Nat} (hi : i < 12) : fX3_copy E N (put b A S) (some (tad b i + 5)) (some (tad b j + 5)) = some (Int32.ofNat 0, put b (sS A j (cpR (aT A j).2.2 (aT A i).2.2 120 6)) S) := by
  simp only [fX3_copy, bX3_copy_0, t_l5 hj, pq_lit]
  rw [gcp_at (put_t (i := 5) hi (by omega)) (put_t (i := 5) hj (by omega)) (Nat.le_trans hE (Nat.le_trans (tad_b b j) (Nat.le_add_right _ _))) (Nat.le_refl _) (Nat.le_refl _) (by omega) (by omega), cpy_tarr, t_u5 hj]
theorem t_z5 (hE : E.1 ≤ b) (hN : 100 ≤ N) (hj : j < 12) : fX3_clear E N (put b A S) (some (tad b j + 5)) = some (Int32.ofNat 0, put b (sS A j (cpR (aT A j).2.2 (fun _ => Int32.ofNat 0) 120 6)) S) := by
  simp only [fX3_clear, bX3_clear_0, pq_lit]
  rw [fill_at (put_t (i := 5) hj (by omega)) (Nat.le_trans hE (Nat.le_trans (tad_b b j) (Nat.le_add_right _ _))) (by omega) (by omega), gbd_s, z_tarr, t_u5 hj]
theorem t_u6 (hj : j < 12) (s2 : Nat → Int32) : gup (put b A S) (tad b j + 6) (.inl (1, 6, .inl (tarr 6 126 s2))) = put b (sS A j (cpR (aT A j).2.2 s2 126 6)) S := by
  refine gup_t hj (by omega) (fun i' hi' => ?_)
  match i', hi' with
  | 0, _ => simp (disch := omega) only [tcell, tfs, cpR_o]; rfl
  | 1, _ => simp (disch := omega) only [tcell, tarr_cpO]; rfl
  | 2, _ => simp (disch := omega) only [tcell, tarr_cpO]; rfl
  | 3, _ => simp (disch := omega) only [tcell, tarr_cpO]; rfl
  | 4, _ => simp (disch := omega) only [tcell, tarr_cpO]; rfl
  | 5, _ => simp (disch := omega) only [tcell, tarr_cpO]; rfl
  | 6, _ => simp only [tcell, if_true, tarr_cpS]
  | 7, _ => simp (disch := omega) only [tcell, tarr_cpO]; rfl
theorem t_c6 (hE : E.1 ≤ b) (hj : j < 12) {i : Nat} (hi : i < 12) : fX3_copy E N (put b A S) (some (tad b i + 6)) (some (tad b j + 6)) = some (Int32.ofNat 0, put b (sS A j (cpR (aT A j).2.2 (aT A i).2.2 126 6)) S) := by
  simp only [fX3_copy, bX3_copy_0, t_l6 hj, pq_lit]
  rw [gcp_at (put_t (i := 6) hi (by omega)) (put_t (i := 6) hj (by omega)) (Nat.le_trans hE (Nat.le_trans (tad_b b j) (Nat.le_add_right _ _))) (Nat.le_refl _) (Nat.le_refl _) (by omega) (by omega), cpy_tarr, t_u6 hj]
theorem t_z6 (hE : E.1 ≤ b) (hN : 100 ≤ N) (hj : j < 12) : fX3_clear E N (put b A S) (some (tad b j + 6)) = some (Int32.ofNat 0, put b (sS A j (cpR (aT A j).2.2 (fun _ => Int32.ofNat 0) 126 6)) S) := by
  simp only [fX3_clear, bX3_clear_0, pq_lit]
  rw [fill_at (put_t (i := 6) hj (by omega)) (Nat.le_trans hE (Nat.le_trans (tad_b b j) (Nat.le_add_right _ _))) (by omega) (by omega), gbd_s, z_tarr, t_u6 hj]
theorem t_u7 (hj : j < 12) (s2 : Nat → Int32) : gup (put b A S) (tad b j + 7) (.inl (1, 6, .inl (tarr 6 132 s2))) = put b (sS A j (cpR (aT A j).2.2 s2 132 6)) S := by
  refine gup_t hj (by omega) (fun i' hi' => ?_)
  match i', hi' with
  | 0, _ => simp (disch := omega) only [tcell, tfs, cpR_o]; rfl
  | 1, _ => simp (disch := omega) only [tcell, tarr_cpO]; rfl
  | 2, _ => simp (disch := omega) only [tcell, tarr_cpO]; rfl
  | 3, _ => simp (disch := omega) only [tcell, tarr_cpO]; rfl
  | 4, _ => simp (disch := omega) only [tcell, tarr_cpO]; rfl
  | 5, _ => simp (disch := omega) only [tcell, tarr_cpO]; rfl
  | 6, _ => simp (disch := omega) only [tcell, tarr_cpO]; rfl
  | 7, _ => simp only [tcell, if_true, tarr_cpS]
theorem t_c7 (hE : E.1 ≤ b) (hj : j < 12) {i : Nat} (hi : i < 12) : fX3_copy E N (put b A S) (some (tad b i + 7)) (some (tad b j + 7)) = some (Int32.ofNat 0, put b (sS A j (cpR (aT A j).2.2 (aT A i).2.2 132 6)) S) := by
  simp only [fX3_copy, bX3_copy_0, t_l7 hj, pq_lit]
  rw [gcp_at (put_t (i := 7) hi (by omega)) (put_t (i := 7) hj (by omega)) (Nat.le_trans hE (Nat.le_trans (tad_b b j) (Nat.le_add_right _ _))) (Nat.le_refl _) (Nat.le_refl _) (by omega) (by omega), cpy_tarr, t_u7 hj]
theorem t_z7 (hE : E.1 ≤ b) (hN : 100 ≤ N) (hj : j < 12) : fX3_clear E N (put b A S) (some (tad b j + 7)) = some (Int32.ofNat 0, put b (sS A j (cpR (aT A j).2.2 (fun _ => Int32.ofNat 0) 132 6)) S) := by
  simp only [fX3_clear, bX3_clear_0, pq_lit]
  rw [fill_at (put_t (i := 7) hj (by omega)) (Nat.le_trans hE (Nat.le_trans (tad_b b j) (Nat.le_add_right _ _))) (by omega) (by omega), gbd_s, z_tarr, t_u7 hj]
theorem tcell_eq {t : Nat} {x y : FT} (h1 : x.1 = y.1) (h2 : x.2.1 = y.2.1) (h : ∀ k, 91 ≤ k → k < 138 → x.2.2 k = y.2.2 k) (i : Nat) : tcell t x i = tcell t y i := by
  have e : ∀ n o, 91 ≤ o → o + n ≤ 138 → tarr n o x.2.2 = tarr n o y.2.2 := by
    intro n o h3 h4
    funext k
    unfold tarr clip
    by_cases q : k < n
    · rw [if_pos q, if_pos q]
      exact h _ (by omega) (by omega)
    · rw [if_neg q, if_neg q]
  unfold tcell
  split
  · unfold tfs
    rw [h1, h2, h 91 (by omega) (by omega), h 92 (by omega) (by omega), h 93 (by omega) (by omega)]
  · rw [e _ _ (by omega) (by omega)]
  · rw [e _ _ (by omega) (by omega)]
  · rw [e _ _ (by omega) (by omega)]
  · rw [e _ _ (by omega) (by omega)]
  · rw [e _ _ (by omega) (by omega)]
  · rw [e _ _ (by omega) (by omega)]
  · rw [e _ _ (by omega) (by omega)]
  · rfl
theorem put_eq {x y : FT} (h1 : x.1 = y.1) (h2 : x.2.1 = y.2.1) (h : ∀ k, 91 ≤ k → k < 138 → x.2.2 k = y.2.2 k) : put b (sT A j x) S = put b (sT A j y) S := by
  refine Prod.ext (funext fun q => ?_) rfl
  show (if _ then core b (sT A j x) (q - b) else S.1 q) = (if _ then core b (sT A j y) (q - b) else S.1 q)
  split
  · unfold core
    split
    · rename_i j' i' hl
      by_cases e : j' = j
      · subst e
        rw [aT_sT, aT_sT]
        exact tcell_eq h1 h2 h _
      · rw [aT_sTo _ _ e, aT_sTo _ _ e]
    · rfl
  · rfl
theorem c_as (hE : E.1 ≤ b) (hj : j < 12) {i : Nat} (hi : i < 12) (hij : i ≠ j) : fX3_as E N (put b A S) (tad b j) (some (tad b i)) = some (some (tad b j), put b (sT A j ((aT A i).1, (aT A j).2.1, (aT A i).2.2)) S) := by
  simp (disch := omega) only [bX3_as_0, fX3_as, pq_lit, pq_add, pq_le, pq_lt, pq_eq, pq_en, pq_ne, pq_nle, pq_nlt, pq_len, pq_ltn, pB_z, pB_o, mzt_0, mzt_1, mzt_B, gbd_s, gnn_s, grf_s, t_a, t_29, t_30, t_31, t_39, t_32, t_33, t_34, t_35, t_36, t_37, t_38, t_g1, t_g2, t_g3, t_g4, t_g5, t_g6, t_g7, t_l1, t_l2, t_l3, t_l4, t_l5, t_l6, t_l7, t_w1, t_w2, t_w3, t_w4, t_w5, t_w6, t_w7, t_p29, t_p30, t_p31, t_p39, t_pa, t_cls, aT_sS, sS_sS, aT_sT, sT_sT, t_c1, t_c2, t_c3, t_c4, t_c5, t_c6, t_c7, aT_sTo, aT_sSo]
  congr 2
  simp only [sS, sT_sT, aT_sT]
  refine put_eq rfl rfl (fun k h1 h2 => ?_)
  simp only [cpR, upd]
  repeat' split
  all_goals first | rfl | omega | (rename_i q; rw [q])
end TC
