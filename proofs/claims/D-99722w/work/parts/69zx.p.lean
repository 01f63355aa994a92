/-! making: a Times begins on an empty map -/
abbrev tmV (t : Nat) (x : Option Nat) : List Value := [va_rf x, .int (Int32.ofNat 0), .int (Int32.ofNat 0), .int (Int32.ofNat 0), .ref (t + 1), .ref (t + 2), .ref (t + 3), .ref (t + 4), .ref (t + 5), .ref (t + 6), .ref (t + 7), .int (Int32.ofNat 0)]
section MM
variable {E : gE} {N : Nat} {H : GS}
theorem clr_z {a n : Nat} (h : H.1 a = some (.inl (1, n, .inl (fun _ => Int32.ofNat 0)))) (hn : n ≤ 50) (hE : E.1 ≤ a) (hN : 100 ≤ N) : fX3_clear E N H (some a) = some (Int32.ofNat 0, H) := by
  have z : (fun j => if j < n then Int32.ofNat 0 else (fun _ : Nat => Int32.ofNat 0) j) = fun _ => Int32.ofNat 0 := by
    funext j
    by_cases q : j < n
    · exact if_pos q
    · exact if_neg q
  have f := fill_at (E := E) (N := N) h hE hn hN
  rw [z, gup_i h] at f
  simp only [fX3_clear, bX3_clear_0, pq_lit]
  rw [gbd_h f]
theorem sz_0 {l : Nat} {m e : Value} (h : H.1 l = some (.inr (24, [m, e, .int (Int32.ofNat 0)]))) : vjava_util_ArrayList_size___I E N H (some l) = some (Int32.ofNat 0, H) := by
  have r : ∀ {β : Type} (K : Int32 → Option β), ggi H (some l) 112 K = K (Int32.ofNat 0) := fun K => ggi_at (k := 2) h rfl rfl K
  simp only [vjava_util_ArrayList_size___I]
  rw [gvd_at h]
  simp only [bJ2_size_0, fJ2_size, if_true]
  rw [r]
theorem gup_ne {S : GS} {a q : Nat} {e : GE} (h : q ≠ a) : (gup S a e).1 q = S.1 q := by
  show va_up S.1 a _ q = _
  unfold va_up; rw [if_neg h]
theorem c_begin0 (hN : 1000 ≤ N) {t a l0 lr lp : Nat} {ln : Int32} {m0 e0 m1 e1 : Value} (hE : E.1 ≤ t) (ht : H.1 t = some (.inr (2, tmV t none))) (h1 : H.1 (t + 1) = some (.inl (1, 7, .inl (fun _ => Int32.ofNat 0)))) (h2 : H.1 (t + 2) = some (.inl (1, 7, .inl (fun _ => Int32.ofNat 0)))) (h3 : H.1 (t + 3) = some (.inl (1, 6, .inl (fun _ => Int32.ofNat 0)))) (h4 : H.1 (t + 4) = some (.inl (1, 6, .inl (fun _ => Int32.ofNat 0)))) (h5 : H.1 (t + 5) = some (.inl (1, 6, .inl (fun _ => Int32.ofNat 0)))) (h6 : H.1 (t + 6) = some (.inl (1, 6, .inl (fun _ => Int32.ofNat 0)))) (h7 : H.1 (t + 7) = some (.inl (1, 6, .inl (fun _ => Int32.ofNat 0)))) (ha : H.1 a = some (.inr (1, [.int ln, .ref l0, .ref lr, .ref lp]))) (hl : H.1 l0 = some (.inr (24, [m0, e0, .int (Int32.ofNat 0)]))) (hp : H.1 lp = some (.inr (24, [m1, e1, .int (Int32.ofNat 0)]))) (na : a ≠ t) (nl : l0 ≠ t) (np : lp ≠ t) : vInchBorders_Times_begin__LInchBorders_Atlas__LInchBorders_Times_ E N H (some t) (some a) = some (some t, gup H t (.inr (2, tmV t (some a)))) := by
  obtain ⟨G, hG⟩ : ∃ G, G = gup H t (.inr (2, tmV t (some a))) := ⟨_, rfl⟩
  have gt : G.1 t = some (.inr (2, tmV t (some a))) := by rw [hG]; exact gup_s _ _ _
  have g1 : G.1 (t + 1) = some (.inl (1, 7, .inl (fun _ => Int32.ofNat 0))) := by rw [hG, gup_ne (by omega)]; exact h1
  have g2 : G.1 (t + 2) = some (.inl (1, 7, .inl (fun _ => Int32.ofNat 0))) := by rw [hG, gup_ne (by omega)]; exact h2
  have g3 : G.1 (t + 3) = some (.inl (1, 6, .inl (fun _ => Int32.ofNat 0))) := by rw [hG, gup_ne (by omega)]; exact h3
  have g4 : G.1 (t + 4) = some (.inl (1, 6, .inl (fun _ => Int32.ofNat 0))) := by rw [hG, gup_ne (by omega)]; exact h4
  have g5 : G.1 (t + 5) = some (.inl (1, 6, .inl (fun _ => Int32.ofNat 0))) := by rw [hG, gup_ne (by omega)]; exact h5
  have g6 : G.1 (t + 6) = some (.inl (1, 6, .inl (fun _ => Int32.ofNat 0))) := by rw [hG, gup_ne (by omega)]; exact h6
  have g7 : G.1 (t + 7) = some (.inl (1, 6, .inl (fun _ => Int32.ofNat 0))) := by rw [hG, gup_ne (by omega)]; exact h7
  have ga : G.1 a = some (.inr (1, [.int ln, .ref l0, .ref lr, .ref lp])) := by rw [hG, gup_ne na]; exact ha
  have gl : G.1 l0 = some (.inr (24, [m0, e0, .int (Int32.ofNat 0)])) := by rw [hG, gup_ne nl]; exact hl
  have gp : G.1 lp = some (.inr (24, [m1, e1, .int (Int32.ofNat 0)])) := by rw [hG, gup_ne np]; exact hp
  have w28 : ∀ {β : Type} (K : GS → Option β), gpv E H (some t) 28 (va_rf (some a)) K = K G := fun K => by
    rw [gpv_at (k := 0) ht rfl (by simp) hE, hG]; rfl
  have w29 : ∀ {β : Type} (K : GS → Option β), gpv E G (some t) 29 (.int (Int32.ofNat 0)) K = K G := fun K => by
    rw [gpv_at (k := 1) gt rfl (by simp) hE]
    exact congrArg K (gup_i gt)
  have w30 : ∀ {β : Type} (K : GS → Option β), gpv E G (some t) 30 (.int (Int32.ofNat 0)) K = K G := fun K => by
    rw [gpv_at (k := 2) gt rfl (by simp) hE]
    exact congrArg K (gup_i gt)
  have w31 : ∀ {β : Type} (K : GS → Option β), gpv E G (some t) 31 (.int (Int32.ofNat 0)) K = K G := fun K => by
    rw [gpv_at (k := 3) gt rfl (by simp) hE]
    exact congrArg K (gup_i gt)
  have r28 : ∀ {β : Type} (K : Option Nat → Option β), ggr G (some t) 28 K = K (some a) := fun K => ggr_as (k := 0) gt rfl rfl K
  have r32 : ∀ {β : Type} (K : Option Nat → Option β), ggr G (some t) 32 K = K (some (t + 1)) := fun K => ggr_as (k := 4) gt rfl rfl K
  have r33 : ∀ {β : Type} (K : Option Nat → Option β), ggr G (some t) 33 K = K (some (t + 2)) := fun K => ggr_as (k := 5) gt rfl rfl K
  have r34 : ∀ {β : Type} (K : Option Nat → Option β), ggr G (some t) 34 K = K (some (t + 3)) := fun K => ggr_as (k := 6) gt rfl rfl K
  have r35 : ∀ {β : Type} (K : Option Nat → Option β), ggr G (some t) 35 K = K (some (t + 4)) := fun K => ggr_as (k := 7) gt rfl rfl K
  have r36 : ∀ {β : Type} (K : Option Nat → Option β), ggr G (some t) 36 K = K (some (t + 5)) := fun K => ggr_as (k := 8) gt rfl rfl K
  have r37 : ∀ {β : Type} (K : Option Nat → Option β), ggr G (some t) 37 K = K (some (t + 6)) := fun K => ggr_as (k := 9) gt rfl rfl K
  have r38 : ∀ {β : Type} (K : Option Nat → Option β), ggr G (some t) 38 K = K (some (t + 7)) := fun K => ggr_as (k := 10) gt rfl rfl K
  have r25 : ∀ {β : Type} (K : Option Nat → Option β), ggr G (some a) 25 K = K (some l0) := fun K => ggr_as (k := 1) ga rfl rfl K
  have r27 : ∀ {β : Type} (K : Option Nat → Option β), ggr G (some a) 27 K = K (some lp) := fun K => ggr_as (k := 3) ga rfl rfl K
  have ln0 : vInchBorders_Times_lands___I E N G (some t) = some (Int32.ofNat 0, G) := by
    simp only [vInchBorders_Times_lands___I]
    rw [gvd_at gt]
    simp only [if_true, bX3_lands_0, fX3_lands]
    rw [r28, r25, gbd_h (sz_0 gl)]
  have pn0 : vInchBorders_Times_persons___I E N G (some t) = some (Int32.ofNat 0, G) := by
    simp only [vInchBorders_Times_persons___I]
    rw [gvd_at gt]
    simp only [if_true, bX3_persons_0, fX3_persons]
    rw [r28, r27, gbd_h (sz_0 gp)]
  have lp133 : ∀ m, 0 < m → bX3_begin_133L E N t m G (Int32.ofNat 0) = some (some t, G) := fun m hm => by
    obtain ⟨k, rfl⟩ : ∃ k, m = k + 1 := ⟨m - 1, by omega⟩
    show bX3_begin_133 E N t (bX3_begin_133L E N t k) G (Int32.ofNat 0) = _
    unfold bX3_begin_133
    rw [gbd_h pn0, if_pos (by decide)]
  have lp71 : ∀ m, 0 < m → bX3_begin_71L E N t m G (Int32.ofNat 0) = some (some t, G) := fun m hm => by
    obtain ⟨k, rfl⟩ : ∃ k, m = k + 1 := ⟨m - 1, by omega⟩
    show bX3_begin_71 E N t (bX3_begin_71L E N t k) G (Int32.ofNat 0) = _
    unfold bX3_begin_71
    rw [gbd_h ln0, if_pos (by decide)]
    exact lp133 N (by omega)
  rw [← hG]
  have v : vInchBorders_Times_begin__LInchBorders_Atlas__LInchBorders_Times_ E N H (some t) (some a) = fX3_begin E N H t (some a) := by
    simp only [vInchBorders_Times_begin__LInchBorders_Atlas__LInchBorders_Times_]
    rw [gvd_at ht]; rfl
  rw [v]
  unfold fX3_begin bX3_begin_0
  simp only [pq_lit]
  rw [w28, w29, w30, w31, r32, gbd_h (clr_z g1 (by omega) (by omega) (by omega)), r33, gbd_h (clr_z g2 (by omega) (by omega) (by omega)), r34, gbd_h (clr_z g3 (by omega) (by omega) (by omega)), r35, gbd_h (clr_z g4 (by omega) (by omega) (by omega)), r36, gbd_h (clr_z g5 (by omega) (by omega) (by omega)), r37, gbd_h (clr_z g6 (by omega) (by omega) (by omega)), r38, gbd_h (clr_z g7 (by omega) (by omega) (by omega))]
  exact lp71 N (by omega)
end MM
