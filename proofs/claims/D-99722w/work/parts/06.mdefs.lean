/-! printed by gen/mgen.py: what the model's methods compute -/
/-! thrown()I -/
abbrev rX5_thrown : Room := { frames := 0, cells := 0, slots := 0, locals := 0 }
noncomputable def bX5_thrown_0 (N : Nat) (S : MS) : Option (Int32 × MS) :=
  some ((S.1 0), S)
noncomputable def fX5_thrown (N : Nat) (S : MS) : Option (Int32 × MS) := bX5_thrown_0 N S
/-! four(I)V -/
abbrev rX5_four : Room := { frames := 0, cells := 0, slots := 0, locals := 0 }
noncomputable def bX5_four_3 (N : Nat) (K3 : MS → Int32 → Int32 → Option (Int32 × MS)) (S : MS) (x1 : Int32) (x2 : Int32) : Option (Int32 × MS) :=
  if x2 < 0 then
    some (0, S)
  else
    mwr S 1 940 (S.1 2) (vp_nar .byte ((x1 >>> (x2 &&& 31)).toInt8.toInt32)) (fun S_2 =>
    mpt S_2 2 ((S_2.1 2) + (1 : Int32)) (fun S_4 =>
    K3 S_4 x1 (x2 + (-8 : Int32))))
noncomputable def bX5_four_3L (N : Nat) : Nat → MS → Int32 → Int32 → Option (Int32 × MS)
  | 0 => fun _ _ _ => none
  | n + 1 => bX5_four_3 N (bX5_four_3L N n)
noncomputable def bX5_four_0 (N : Nat) (S : MS) (x1 : Int32) : Option (Int32 × MS) :=
  bX5_four_3L N N S x1 (24 : Int32)
noncomputable def fX5_four (N : Nat) (S : MS) (x1 : Int32) : Option (Int32 × MS) := bX5_four_0 N S x1
/-! feed(IIIII)I -/
abbrev rX5_feed : Room := { frames := 1, cells := 0, slots := 0, locals := 22 }
noncomputable def bX5_feed_0 (N : Nat) (S : MS) (x1 : Int32) (x2 : Int32) (x3 : Int32) (x4 : Int32) (x5 : Int32) : Option (Int32 × MS) :=
  mpt S 0 (0 : Int32) (fun S_1 =>
  if ((S_1.1 2) + (20 : Int32)) ≤ (940 : Int32) then
    mbd (fX5_four N S_1 x1) (fun _ S_4 =>
    mbd (fX5_four N S_4 x2) (fun _ S_7 =>
    mbd (fX5_four N S_7 x3) (fun _ S_10 =>
    mbd (fX5_four N S_10 x4) (fun _ S_13 =>
    mbd (fX5_four N S_13 x5) (fun _ S_16 =>
    some ((S_16.1 2), S_16))))))
  else
    some ((-1 : Int32), S_1))
noncomputable def fX5_feed (N : Nat) (S : MS) (x1 : Int32) (x2 : Int32) (x3 : Int32) (x4 : Int32) (x5 : Int32) : Option (Int32 × MS) := bX5_feed_0 N S x1 x2 x3 x4 x5
/-! end(I)Z -/
abbrev rX5_end : Room := { frames := 0, cells := 0, slots := 0, locals := 0 }
noncomputable def bX5_end_17 (N : Nat) (S : MS) : Option (Int32 × MS) :=
  mzt (0 : Int32) (some ((0 : Int32), S))
noncomputable def bX5_end_0 (N : Nat) (S : MS) (x1 : Int32) : Option (Int32 × MS) :=
  mpt S 0 (0 : Int32) (fun S_1 =>
  if x1 < 0 then
    bX5_end_17 N S_1
  else
    if x1 ≤ (S_1.1 2) then
      mpt S_1 2 x1 (fun S_4 =>
      mzt (1 : Int32) (some ((1 : Int32), S_4)))
    else
      bX5_end_17 N S_1)
noncomputable def fX5_end (N : Nat) (S : MS) (x1 : Int32) : Option (Int32 × MS) := bX5_end_0 N S x1
/-! clears()V -/
abbrev rX5_clears : Room := { frames := 0, cells := 0, slots := 0, locals := 0 }
noncomputable def bX5_clears_2 (N : Nat) (K2 : MS → Int32 → Option (Int32 × MS)) (S : MS) (x1 : Int32) : Option (Int32 × MS) :=
  if (91 : Int32) ≤ x1 then
    some (0, S)
  else
    mwr S 7 91 x1 (0 : Int32) (fun S_2 =>
    K2 S_2 (x1 + (1 : Int32)))
noncomputable def bX5_clears_2L (N : Nat) : Nat → MS → Int32 → Option (Int32 × MS)
  | 0 => fun _ _ => none
  | n + 1 => bX5_clears_2 N (bX5_clears_2L N n)
noncomputable def bX5_clears_0 (N : Nat) (S : MS) : Option (Int32 × MS) :=
  bX5_clears_2L N N S (0 : Int32)
noncomputable def fX5_clears (N : Nat) (S : MS) : Option (Int32 × MS) := bX5_clears_0 N S
/-! taken(I)V -/
abbrev rX5_taken : Room := { frames := 0, cells := 0, slots := 0, locals := 0 }
noncomputable def bX5_taken_0 (N : Nat) (S : MS) (x1 : Int32) : Option (Int32 × MS) :=
  mpt S 3 (S.1 2) (fun S_1 =>
  mpt S_1 2 (0 : Int32) (fun S_2 =>
  mpt S_2 4 (0 : Int32) (fun S_3 =>
  mpt S_3 5 x1 (fun S_4 =>
  some (0, S_4)))))
noncomputable def fX5_taken (N : Nat) (S : MS) (x1 : Int32) : Option (Int32 × MS) := bX5_taken_0 N S x1
/-! peek()I -/
abbrev rX5_peek : Room := { frames := 0, cells := 0, slots := 0, locals := 0 }
noncomputable def bX5_peek_28 (N : Nat) (S : MS) (t0 : Int32) : Option (Int32 × MS) :=
  some (t0, S)
noncomputable def bX5_peek_0 (N : Nat) (S : MS) : Option (Int32 × MS) :=
  if (S.1 3) ≤ (S.1 4) then
    bX5_peek_28 N S (-1 : Int32)
  else
    mrd (S.2.2.1 1) 940 (S.1 4) (fun v_2 =>
    bX5_peek_28 N S (v_2 &&& (255 : Int32)))
noncomputable def fX5_peek (N : Nat) (S : MS) : Option (Int32 × MS) := bX5_peek_0 N S
/-! isSmall(I)Z -/
abbrev rX5_isSmall : Room := { frames := 0, cells := 0, slots := 0, locals := 0 }
noncomputable def bX5_isSmall_17 (N : Nat) (S : MS) (t0 : Int32) : Option (Int32 × MS) :=
  mzt t0 (some (t0, S))
noncomputable def bX5_isSmall_16 (N : Nat) (S : MS) : Option (Int32 × MS) :=
  bX5_isSmall_17 N S (0 : Int32)
noncomputable def bX5_isSmall_0 (N : Nat) (S : MS) (x0 : Int32) : Option (Int32 × MS) :=
  if x0 < (97 : Int32) then
    bX5_isSmall_16 N S
  else
    if (122 : Int32) < x0 then
      bX5_isSmall_16 N S
    else
      bX5_isSmall_17 N S (1 : Int32)
noncomputable def fX5_isSmall (N : Nat) (S : MS) (x0 : Int32) : Option (Int32 × MS) := bX5_isSmall_0 N S x0
/-! isDigit(I)Z -/
abbrev rX5_isDigit : Room := { frames := 0, cells := 0, slots := 0, locals := 0 }
noncomputable def bX5_isDigit_17 (N : Nat) (S : MS) (t0 : Int32) : Option (Int32 × MS) :=
  mzt t0 (some (t0, S))
noncomputable def bX5_isDigit_16 (N : Nat) (S : MS) : Option (Int32 × MS) :=
  bX5_isDigit_17 N S (0 : Int32)
noncomputable def bX5_isDigit_0 (N : Nat) (S : MS) (x0 : Int32) : Option (Int32 × MS) :=
  if x0 < (48 : Int32) then
    bX5_isDigit_16 N S
  else
    if (57 : Int32) < x0 then
      bX5_isDigit_16 N S
    else
      bX5_isDigit_17 N S (1 : Int32)
noncomputable def fX5_isDigit (N : Nat) (S : MS) (x0 : Int32) : Option (Int32 × MS) := bX5_isDigit_0 N S x0
/-! next()V -/
abbrev rX5_next : Room := { frames := 1, cells := 0, slots := 0, locals := 20 }
noncomputable def bX5_next_18 (N : Nat) (K0 : MS → Option (Int32 × MS)) (S : MS) : Option (Int32 × MS) :=
  mpt S 4 ((S.1 4) + (1 : Int32)) (fun S_1 =>
  K0 S_1)
noncomputable def bX5_next_145 (N : Nat) (S : MS) (x1 : Int32) (t1 : Int32) : Option (Int32 × MS) :=
  mpt S 11 t1 (fun S_1 =>
  mpt S_1 14 x1 (fun S_2 =>
  mpt S_2 4 ((S_2.1 4) + (1 : Int32)) (fun S_3 =>
  some (0, S_3))))
noncomputable def bX5_next_140 (N : Nat) (S : MS) (x1 : Int32) : Option (Int32 × MS) :=
  bX5_next_145 N S x1 (3 : Int32)
noncomputable def bX5_next_144 (N : Nat) (S : MS) (x1 : Int32) : Option (Int32 × MS) :=
  bX5_next_145 N S x1 (4 : Int32)
noncomputable def bX5_next_275 (N : Nat) (K181 : MS → Int32 → Int32 → Option (Int32 × MS)) (S : MS) (x2 : Int32) (x3 : Int32) : Option (Int32 × MS) :=
  mpt S 13 ((S.1 13) + (1 : Int32)) (fun S_1 =>
  mpt S_1 4 ((S_1.1 4) + (1 : Int32)) (fun S_2 =>
  K181 S_2 x2 x3))
noncomputable def bX5_next_248 (N : Nat) (K181 : MS → Int32 → Int32 → Option (Int32 × MS)) (S : MS) (x2 : Int32) (x3 : Int32) : Option (Int32 × MS) :=
  if (3 : Int32) ≤ (S.1 13) then
    bX5_next_275 N K181 S x2 x3
  else
    mbd (fX5_peek N S) (fun r_2 S_3 =>
    mpt S_3 14 ((((10 : Int32) * (S.1 14)) + r_2) - (48 : Int32)) (fun S_5 =>
    bX5_next_275 N K181 S_5 x2 x3))
noncomputable def bX5_next_221 (N : Nat) (K181 : MS → Int32 → Int32 → Option (Int32 × MS)) (S : MS) (x2 : Int32) (t0 : Int32) : Option (Int32 × MS) :=
  if (7 : Int32) ≤ (S.1 13) then
    bX5_next_248 N K181 S x2 t0
  else
    mbd (fX5_peek N S) (fun r_2 S_3 =>
    mptW S_3 ((S.2.1 <<< ((8 : Int32).toInt64 &&& 63)) ||| r_2.toInt64) (fun S_5 =>
    bX5_next_248 N K181 S_5 x2 t0))
noncomputable def bX5_next_220 (N : Nat) (K181 : MS → Int32 → Int32 → Option (Int32 × MS)) (S : MS) (x2 : Int32) : Option (Int32 × MS) :=
  bX5_next_221 N K181 S x2 (0 : Int32)
noncomputable def bX5_next_201 (N : Nat) (K181 : MS → Int32 → Int32 → Option (Int32 × MS)) (S : MS) (x2 : Int32) (x3 : Int32) : Option (Int32 × MS) :=
  if x3 = 0 then
    bX5_next_220 N K181 S x2
  else
    mbd (fX5_peek N S) (fun r_2 S_3 =>
    mbd (fX5_isSmall N S_3 r_2) (fun r_5 S_6 =>
    if r_5 = x2 then
      bX5_next_221 N K181 S_6 x2 (1 : Int32)
    else
      bX5_next_220 N K181 S_6 x2))
noncomputable def bX5_next_333 (N : Nat) (S : MS) (t1 : Int32) : Option (Int32 × MS) :=
  mpt S 11 t1 (fun S_1 =>
  some (0, S_1))
noncomputable def bX5_next_320 (N : Nat) (S : MS) : Option (Int32 × MS) :=
  bX5_next_333 N S (4 : Int32)
noncomputable def bX5_next_317 (N : Nat) (S : MS) (x2 : Int32) (t1 : Int32) (t2 : Int32) : Option (Int32 × MS) :=
  if t1 ≤ t2 then
    if x2 = 0 then
      bX5_next_333 N S (2 : Int32)
    else
      bX5_next_333 N S (1 : Int32)
  else
    bX5_next_320 N S
noncomputable def bX5_next_181 (N : Nat) (K181 : MS → Int32 → Int32 → Option (Int32 × MS)) (S : MS) (x2 : Int32) (x3 : Int32) : Option (Int32 × MS) :=
  mbd (fX5_peek N S) (fun r_1 S_2 =>
  mbd (fX5_isSmall N S_2 r_1) (fun r_4 S_5 =>
  if r_4 = 0 then
    mbd (fX5_peek N S_5) (fun r_8 S_9 =>
    mbd (fX5_isDigit N S_9 r_8) (fun r_11 S_12 =>
    if r_11 = 0 then
      if x3 = 0 then
        bX5_next_320 N S_12
      else
        if x2 = 0 then
          bX5_next_317 N S_12 x2 (S_12.1 13) (3 : Int32)
        else
          bX5_next_317 N S_12 x2 (S_12.1 13) (7 : Int32)
    else
      bX5_next_201 N K181 S_12 x2 x3))
  else
    bX5_next_201 N K181 S_5 x2 x3))
noncomputable def bX5_next_181L (N : Nat) : Nat → MS → Int32 → Int32 → Option (Int32 × MS)
  | 0 => fun _ _ _ => none
  | n + 1 => bX5_next_181 N (bX5_next_181L N n)
noncomputable def bX5_next_164 (N : Nat) (S : MS) (x1 : Int32) : Option (Int32 × MS) :=
  mbd (fX5_isSmall N S x1) (fun r_1 S_2 =>
  mptW S_2 (0 : Int64) (fun S_4 =>
  mpt S_4 14 (0 : Int32) (fun S_5 =>
  bX5_next_181L N N S_5 r_1 (1 : Int32))))
noncomputable def bX5_next_80 (N : Nat) (S : MS) : Option (Int32 × MS) :=
  mbd (fX5_peek N S) (fun r_1 S_2 =>
  if 0 ≤ r_1 then
    mbd (fX5_isSmall N S_2 r_1) (fun r_5 S_6 =>
    if r_5 = 0 then
      mbd (fX5_isDigit N S_6 r_1) (fun r_9 S_10 =>
      if r_9 = 0 then
        if r_1 = (59 : Int32) then
          bX5_next_140 N S_10 r_1
        else
          if r_1 = (40 : Int32) then
            bX5_next_140 N S_10 r_1
          else
            if r_1 = (41 : Int32) then
              bX5_next_140 N S_10 r_1
            else
              if r_1 < (60 : Int32) then
                bX5_next_144 N S_10 r_1
              else
                if (62 : Int32) < r_1 then
                  bX5_next_144 N S_10 r_1
                else
                  bX5_next_140 N S_10 r_1
      else
        bX5_next_164 N S_10 r_1)
    else
      bX5_next_164 N S_6 r_1)
  else
    mpt S_2 11 (0 : Int32) (fun S_18 =>
    some (0, S_18)))
noncomputable def bX5_next_0 (N : Nat) (K0 : MS → Option (Int32 × MS)) (S : MS) : Option (Int32 × MS) :=
  mbd (fX5_peek N S) (fun r_1 S_2 =>
  if r_1 = (32 : Int32) then
    bX5_next_18 N K0 S_2
  else
    mbd (fX5_peek N S_2) (fun r_5 S_6 =>
    if r_5 = (10 : Int32) then
      bX5_next_18 N K0 S_6
    else
      mpt S_6 12 (S_6.1 4) (fun S_9 =>
      mpt S_9 13 (0 : Int32) (fun S_10 =>
      if (S_10.1 3) ≤ (S_10.1 5) then
        bX5_next_80 N S_10
      else
        if (S_10.1 4) < (S_10.1 5) then
          bX5_next_80 N S_10
        else
          mpt S_10 12 (S_10.1 5) (fun S_13 =>
          mpt S_13 11 (4 : Int32) (fun S_14 =>
          some (0, S_14)))))))
noncomputable def bX5_next_0L (N : Nat) : Nat → MS → Option (Int32 × MS)
  | 0 => fun _ => none
  | n + 1 => bX5_next_0 N (bX5_next_0L N n)
noncomputable def fX5_next (N : Nat) (S : MS) : Option (Int32 × MS) := bX5_next_0L N N S
/-! isWord(J)Z -/
abbrev rX5_isWord : Room := { frames := 0, cells := 0, slots := 0, locals := 0 }
noncomputable def bX5_isWord_22 (N : Nat) (S : MS) (t0 : Int32) : Option (Int32 × MS) :=
  mzt t0 (some (t0, S))
noncomputable def bX5_isWord_21 (N : Nat) (S : MS) : Option (Int32 × MS) :=
  bX5_isWord_22 N S (0 : Int32)
noncomputable def bX5_isWord_0 (N : Nat) (S : MS) (x1 : Int64) : Option (Int32 × MS) :=
  if (S.1 11) = (1 : Int32) then
    if (lg_cmp S.2.1 x1) = 0 then
      bX5_isWord_22 N S (1 : Int32)
    else
      bX5_isWord_21 N S
  else
    bX5_isWord_21 N S
noncomputable def fX5_isWord (N : Nat) (S : MS) (x1 : Int64) : Option (Int32 × MS) := bX5_isWord_0 N S x1
/-! bad(I)Z -/
abbrev rX5_bad : Room := { frames := 0, cells := 0, slots := 0, locals := 0 }
noncomputable def bX5_bad_0 (N : Nat) (S : MS) (x1 : Int32) : Option (Int32 × MS) :=
  mpt S 15 x1 (fun S_1 =>
  mpt S_1 16 (S_1.1 12) (fun S_2 =>
  mzt (0 : Int32) (some ((0 : Int32), S_2))))
noncomputable def fX5_bad (N : Nat) (S : MS) (x1 : Int32) : Option (Int32 × MS) := bX5_bad_0 N S x1
/-! isName()Z -/
abbrev rX5_isName : Room := { frames := 0, cells := 0, slots := 0, locals := 0 }
noncomputable def bX5_isName_45 (N : Nat) (K16 : MS → Int32 → Int32 → Option (Int32 × MS)) (S : MS) (x2 : Int32) (t0 : Int32) : Option (Int32 × MS) :=
  K16 S t0 (x2 + (1 : Int32))
noncomputable def bX5_isName_44 (N : Nat) (K16 : MS → Int32 → Int32 → Option (Int32 × MS)) (S : MS) (x2 : Int32) : Option (Int32 × MS) :=
  bX5_isName_45 N K16 S x2 (0 : Int32)
noncomputable def bX5_isName_16 (N : Nat) (K16 : MS → Int32 → Int32 → Option (Int32 × MS)) (S : MS) (x1 : Int32) (x2 : Int32) : Option (Int32 × MS) :=
  if (24 : Int32) ≤ x2 then
    mzt x1 (some (x1, S))
  else
    if x1 = 0 then
      bX5_isName_44 N K16 S x2
    else
      mrdL (S.2.2.2 10) 24 x2 (fun v_3 =>
      if (lg_cmp S.2.1 v_3) = 0 then
        bX5_isName_44 N K16 S x2
      else
        bX5_isName_45 N K16 S x2 (1 : Int32))
noncomputable def bX5_isName_16L (N : Nat) : Nat → MS → Int32 → Int32 → Option (Int32 × MS)
  | 0 => fun _ _ _ => none
  | n + 1 => bX5_isName_16 N (bX5_isName_16L N n)
noncomputable def bX5_isName_13 (N : Nat) (S : MS) (t0 : Int32) : Option (Int32 × MS) :=
  bX5_isName_16L N N S t0 (0 : Int32)
noncomputable def bX5_isName_0 (N : Nat) (S : MS) : Option (Int32 × MS) :=
  if (S.1 11) = (1 : Int32) then
    bX5_isName_13 N S (1 : Int32)
  else
    bX5_isName_13 N S (0 : Int32)
noncomputable def fX5_isName (N : Nat) (S : MS) : Option (Int32 × MS) := bX5_isName_0 N S
/-! find(II)I -/
abbrev rX5_find : Room := { frames := 0, cells := 0, slots := 0, locals := 0 }
noncomputable def bX5_find_2 (N : Nat) (K2 : MS → Int32 → Int32 → Int32 → Option (Int32 × MS)) (S : MS) (x1 : Int32) (x2 : Int32) (x3 : Int32) : Option (Int32 × MS) :=
  if x2 ≤ x3 then
    some ((-1 : Int32), S)
  else
    mrdL (S.2.2.2 9) 26 (x1 + x3) (fun v_2 =>
    if (lg_cmp v_2 S.2.1) = 0 then
      some (x3, S)
    else
      K2 S x1 x2 (x3 + (1 : Int32)))
noncomputable def bX5_find_2L (N : Nat) : Nat → MS → Int32 → Int32 → Int32 → Option (Int32 × MS)
  | 0 => fun _ _ _ _ => none
  | n + 1 => bX5_find_2 N (bX5_find_2L N n)
noncomputable def bX5_find_0 (N : Nat) (S : MS) (x1 : Int32) (x2 : Int32) : Option (Int32 × MS) :=
  bX5_find_2L N N S x1 x2 (0 : Int32)
noncomputable def fX5_find (N : Nat) (S : MS) (x1 : Int32) (x2 : Int32) : Option (Int32 × MS) := bX5_find_0 N S x1 x2
/-! fresh(I)Z -/
abbrev rX5_fresh : Room := { frames := 2, cells := 0, slots := 0, locals := 43 }
noncomputable def bX5_fresh_43 (N : Nat) (S : MS) : Option (Int32 × MS) :=
  mbd (fX5_bad N S (3 : Int32)) (fun r_1 S_2 =>
  mzt r_1 (some (r_1, S_2)))
noncomputable def bX5_fresh_0 (N : Nat) (S : MS) (x1 : Int32) : Option (Int32 × MS) :=
  mbd (fX5_isName N S) (fun r_1 S_2 =>
  if r_1 = 0 then
    mbd (fX5_bad N S_2 (1 : Int32)) (fun r_22 S_23 =>
    mzt r_22 (some (r_22, S_23)))
  else
    mrd (S_2.2.2.1 7) 91 (0 : Int32) (fun v_5 =>
    mbd (fX5_find N S_2 (13 : Int32) v_5) (fun r_7 S_8 =>
    if 0 ≤ r_7 then
      bX5_fresh_43 N S_8
    else
      mrd (S_8.2.2.1 7) 91 (2 : Int32) (fun v_11 =>
      mbd (fX5_find N S_8 (20 : Int32) v_11) (fun r_13 S_14 =>
      if r_13 < 0 then
        mwrL S_14 9 26 x1 S_14.2.1 (fun S_17 =>
        mbd (fX5_next N S_17) (fun _ S_20 =>
        mzt (1 : Int32) (some ((1 : Int32), S_20))))
      else
        bX5_fresh_43 N S_14)))))
noncomputable def fX5_fresh (N : Nat) (S : MS) (x1 : Int32) : Option (Int32 × MS) := bX5_fresh_0 N S x1
/-! isIn(III)Z -/
abbrev rX5_isIn : Room := { frames := 0, cells := 0, slots := 0, locals := 0 }
noncomputable def bX5_isIn_15 (N : Nat) (S : MS) (t0 : Int32) : Option (Int32 × MS) :=
  mzt t0 (some (t0, S))
noncomputable def bX5_isIn_14 (N : Nat) (S : MS) : Option (Int32 × MS) :=
  bX5_isIn_15 N S (0 : Int32)
noncomputable def bX5_isIn_0 (N : Nat) (S : MS) (x0 : Int32) (x1 : Int32) (x2 : Int32) : Option (Int32 × MS) :=
  if x0 < x1 then
    bX5_isIn_14 N S
  else
    if x2 < x0 then
      bX5_isIn_14 N S
    else
      bX5_isIn_15 N S (1 : Int32)
noncomputable def fX5_isIn (N : Nat) (S : MS) (x0 : Int32) (x1 : Int32) (x2 : Int32) : Option (Int32 × MS) := bX5_isIn_0 N S x0 x1 x2
/-! takes(II)Z -/
abbrev rX5_takes : Room := { frames := 2, cells := 0, slots := 0, locals := 43 }
noncomputable def bX5_takes_0 (N : Nat) (S : MS) (x1 : Int32) (x2 : Int32) : Option (Int32 × MS) :=
  if (S.1 11) = (2 : Int32) then
    mbd (fX5_isIn N S (S.1 14) x1 x2) (fun r_2 S_3 =>
    if r_2 = 0 then
      mbd (fX5_bad N S_3 (2 : Int32)) (fun r_10 S_11 =>
      mzt r_10 (some (r_10, S_11)))
    else
      mpt S_3 18 (S_3.1 14) (fun S_6 =>
      mbd (fX5_next N S_6) (fun _ S_8 =>
      mzt (1 : Int32) (some ((1 : Int32), S_8)))))
  else
    mbd (fX5_bad N S (1 : Int32)) (fun r_13 S_14 =>
    mzt r_13 (some (r_13, S_14)))
noncomputable def fX5_takes (N : Nat) (S : MS) (x1 : Int32) (x2 : Int32) : Option (Int32 × MS) := bX5_takes_0 N S x1 x2
/-! puts(III)Z -/
abbrev rX5_puts : Room := { frames := 3, cells := 0, slots := 0, locals := 65 }
noncomputable def bX5_puts_0 (N : Nat) (S : MS) (x1 : Int32) (x2 : Int32) (x3 : Int32) : Option (Int32 × MS) :=
  mbd (fX5_takes N S x2 x3) (fun r_1 S_2 =>
  if r_1 = 0 then
    mzt (0 : Int32) (some ((0 : Int32), S_2))
  else
    mwr S_2 7 91 x1 (S_2.1 18) (fun S_5 =>
    mzt (1 : Int32) (some ((1 : Int32), S_5))))
noncomputable def fX5_puts (N : Nat) (S : MS) (x1 : Int32) (x2 : Int32) (x3 : Int32) : Option (Int32 × MS) := bX5_puts_0 N S x1 x2 x3
/-! readLand()Z -/
abbrev rX5_readLand : Room := { frames := 4, cells := 0, slots := 0, locals := 88 }
noncomputable def bX5_readLand_61 (N : Nat) (S : MS) : Option (Int32 × MS) :=
  mzt (0 : Int32) (some ((0 : Int32), S))
noncomputable def bX5_readLand_0 (N : Nat) (S : MS) : Option (Int32 × MS) :=
  mrd (S.2.2.1 7) 91 (0 : Int32) (fun v_1 =>
  if v_1 = (7 : Int32) then
    mbd (fX5_bad N S (4 : Int32)) (fun r_23 S_24 =>
    mzt r_23 (some (r_23, S_24)))
  else
    mbd (fX5_next N S) (fun _ S_5 =>
    mbd (fX5_fresh N S_5 ((13 : Int32) + v_1)) (fun r_7 S_8 =>
    if r_7 = 0 then
      bX5_readLand_61 N S_8
    else
      mbd (fX5_puts N S_8 ((3 : Int32) + v_1) (0 : Int32) (20 : Int32)) (fun r_11 S_12 =>
      if r_11 = 0 then
        bX5_readLand_61 N S_12
      else
        mbd (fX5_puts N S_12 ((10 : Int32) + v_1) (0 : Int32) (20 : Int32)) (fun r_15 S_16 =>
        if r_15 = 0 then
          bX5_readLand_61 N S_16
        else
          mrd (S_16.2.2.1 7) 91 (0 : Int32) (fun v_19 =>
          mwr S_16 7 91 (0 : Int32) (v_19 + (1 : Int32)) (fun S_21 =>
          mzt (1 : Int32) (some ((1 : Int32), S_21)))))))))
noncomputable def fX5_readLand (N : Nat) (S : MS) : Option (Int32 × MS) := bX5_readLand_0 N S
/-! looksAt(II)Z -/
abbrev rX5_looksAt : Room := { frames := 1, cells := 0, slots := 0, locals := 23 }
noncomputable def bX5_looksAt_43 (N : Nat) (S : MS) (t0 : Int32) : Option (Int32 × MS) :=
  mzt t0 (some (t0, S))
noncomputable def bX5_looksAt_38 (N : Nat) (S : MS) : Option (Int32 × MS) :=
  bX5_looksAt_43 N S (1 : Int32)
noncomputable def bX5_looksAt_0 (N : Nat) (S : MS) (x1 : Int32) (x2 : Int32) : Option (Int32 × MS) :=
  mbd (fX5_isName N S) (fun r_1 S_2 =>
  if r_1 = 0 then
    mbd (fX5_bad N S_2 (1 : Int32)) (fun r_14 S_15 =>
    mzt r_14 (some (r_14, S_15)))
  else
    mbd (fX5_find N S_2 x1 x2) (fun r_5 S_6 =>
    mpt S_6 18 r_5 (fun S_8 =>
    if 0 ≤ (S_8.1 18) then
      bX5_looksAt_38 N S_8
    else
      mbd (fX5_bad N S_8 (3 : Int32)) (fun r_10 S_11 =>
      if r_10 = 0 then
        bX5_looksAt_43 N S_11 (0 : Int32)
      else
        bX5_looksAt_38 N S_11))))
noncomputable def fX5_looksAt (N : Nat) (S : MS) (x1 : Int32) (x2 : Int32) : Option (Int32 × MS) := bX5_looksAt_0 N S x1 x2
/-! bitOf(II)Z -/
abbrev rX5_bitOf : Room := { frames := 0, cells := 0, slots := 0, locals := 0 }
noncomputable def bX5_bitOf_14 (N : Nat) (S : MS) (t0 : Int32) : Option (Int32 × MS) :=
  mzt t0 (some (t0, S))
noncomputable def bX5_bitOf_0 (N : Nat) (S : MS) (x0 : Int32) (x1 : Int32) : Option (Int32 × MS) :=
  if ((x0 >>> (x1 &&& 31)) &&& (1 : Int32)) = (1 : Int32) then
    bX5_bitOf_14 N S (1 : Int32)
  else
    bX5_bitOf_14 N S (0 : Int32)
noncomputable def fX5_bitOf (N : Nat) (S : MS) (x0 : Int32) (x1 : Int32) : Option (Int32 × MS) := bX5_bitOf_0 N S x0 x1
/-! readStore()Z -/
abbrev rX5_readStore : Room := { frames := 4, cells := 0, slots := 0, locals := 88 }
noncomputable def bX5_readStore_0 (N : Nat) (S : MS) : Option (Int32 × MS) :=
  mbd (fX5_next N S) (fun _ S_2 =>
  mrd (S_2.2.2.1 7) 91 (0 : Int32) (fun v_4 =>
  mbd (fX5_looksAt N S_2 (13 : Int32) v_4) (fun r_6 S_7 =>
  if r_6 = 0 then
    mzt (0 : Int32) (some ((0 : Int32), S_7))
  else
    mbd (fX5_bitOf N S_7 (S_7.1 20) (S_7.1 18)) (fun r_10 S_11 =>
    if r_10 = 0 then
      mpt S_11 20 ((S_11.1 20) ||| ((1 : Int32) <<< ((S_7.1 18) &&& 31))) (fun S_14 =>
      mbd (fX5_next N S_14) (fun _ S_16 =>
      mbd (fX5_puts N S_16 ((17 : Int32) + (S_7.1 18)) (0 : Int32) (99 : Int32)) (fun r_18 S_19 =>
      mzt r_18 (some (r_18, S_19)))))
    else
      mbd (fX5_bad N S_11 (3 : Int32)) (fun r_21 S_22 =>
      mzt r_21 (some (r_21, S_22)))))))
noncomputable def fX5_readStore (N : Nat) (S : MS) : Option (Int32 × MS) := bX5_readStore_0 N S
/-! takesName(II)Z -/
abbrev rX5_takesName : Room := { frames := 2, cells := 0, slots := 0, locals := 45 }
noncomputable def bX5_takesName_0 (N : Nat) (S : MS) (x1 : Int32) (x2 : Int32) : Option (Int32 × MS) :=
  mbd (fX5_looksAt N S x1 x2) (fun r_1 S_2 =>
  if r_1 = 0 then
    mzt (0 : Int32) (some ((0 : Int32), S_2))
  else
    mbd (fX5_next N S_2) (fun _ S_6 =>
    mzt (1 : Int32) (some ((1 : Int32), S_6))))
noncomputable def fX5_takesName (N : Nat) (S : MS) (x1 : Int32) (x2 : Int32) : Option (Int32 × MS) := bX5_takesName_0 N S x1 x2
/-! readRoad()Z -/
abbrev rX5_readRoad : Room := { frames := 4, cells := 0, slots := 0, locals := 88 }
noncomputable def bX5_readRoad_141 (N : Nat) (S : MS) : Option (Int32 × MS) :=
  mbd (fX5_bad N S (3 : Int32)) (fun r_1 S_2 =>
  mzt r_1 (some (r_1, S_2)))
noncomputable def bX5_readRoad_147 (N : Nat) (K78 : MS → Int32 → Int32 → Int32 → Option (Int32 × MS)) (S : MS) (x1 : Int32) (x2 : Int32) (x3 : Int32) : Option (Int32 × MS) :=
  K78 S x1 x2 (x3 + (1 : Int32))
noncomputable def bX5_readRoad_112 (N : Nat) (K78 : MS → Int32 → Int32 → Int32 → Option (Int32 × MS)) (S : MS) (x1 : Int32) (x2 : Int32) (x3 : Int32) : Option (Int32 × MS) :=
  mrd (S.2.2.1 7) 91 ((24 : Int32) + x3) (fun v_1 =>
  if v_1 = (S.1 18) then
    mrd (S.2.2.1 7) 91 ((36 : Int32) + x3) (fun v_4 =>
    if v_4 = x2 then
      bX5_readRoad_141 N S
    else
      bX5_readRoad_147 N K78 S x1 x2 x3)
  else
    bX5_readRoad_147 N K78 S x1 x2 x3)
noncomputable def bX5_readRoad_218 (N : Nat) (S : MS) : Option (Int32 × MS) :=
  mzt (0 : Int32) (some ((0 : Int32), S))
noncomputable def bX5_readRoad_78 (N : Nat) (K78 : MS → Int32 → Int32 → Int32 → Option (Int32 × MS)) (S : MS) (x1 : Int32) (x2 : Int32) (x3 : Int32) : Option (Int32 × MS) :=
  if x1 ≤ x3 then
    mwr S 7 91 ((24 : Int32) + x1) x2 (fun S_2 =>
    mwr S_2 7 91 ((36 : Int32) + x1) (S_2.1 18) (fun S_4 =>
    mbd (fX5_next N S_4) (fun _ S_7 =>
    mbd (fX5_puts N S_7 ((48 : Int32) + x1) (0 : Int32) (240 : Int32)) (fun r_9 S_10 =>
    if r_9 = 0 then
      bX5_readRoad_218 N S_10
    else
      mrd (S_10.2.2.1 7) 91 ((48 : Int32) + x1) (fun v_13 =>
      mbd (fX5_puts N S_10 ((60 : Int32) + x1) v_13 (240 : Int32)) (fun r_15 S_16 =>
      if r_15 = 0 then
        bX5_readRoad_218 N S_16
      else
        mrd (S_16.2.2.1 7) 91 (1 : Int32) (fun v_19 =>
        mwr S_16 7 91 (1 : Int32) (v_19 + (1 : Int32)) (fun S_21 =>
        mzt (1 : Int32) (some ((1 : Int32), S_21))))))))))
  else
    mrd (S.2.2.1 7) 91 ((24 : Int32) + x3) (fun v_23 =>
    if v_23 = x2 then
      mrd (S.2.2.1 7) 91 ((36 : Int32) + x3) (fun v_26 =>
      if v_26 = (S.1 18) then
        bX5_readRoad_141 N S
      else
        bX5_readRoad_112 N K78 S x1 x2 x3)
    else
      bX5_readRoad_112 N K78 S x1 x2 x3)
noncomputable def bX5_readRoad_78L (N : Nat) : Nat → MS → Int32 → Int32 → Int32 → Option (Int32 × MS)
  | 0 => fun _ _ _ _ => none
  | n + 1 => bX5_readRoad_78 N (bX5_readRoad_78L N n)
noncomputable def bX5_readRoad_0 (N : Nat) (S : MS) : Option (Int32 × MS) :=
  mrd (S.2.2.1 7) 91 (1 : Int32) (fun v_1 =>
  if v_1 = (12 : Int32) then
    mbd (fX5_bad N S (4 : Int32)) (fun r_23 S_24 =>
    mzt r_23 (some (r_23, S_24)))
  else
    mbd (fX5_next N S) (fun _ S_5 =>
    mrd (S_5.2.2.1 7) 91 (0 : Int32) (fun v_7 =>
    mbd (fX5_takesName N S_5 (13 : Int32) v_7) (fun r_9 S_10 =>
    if r_9 = 0 then
      mzt (0 : Int32) (some ((0 : Int32), S_10))
    else
      mrd (S_10.2.2.1 7) 91 (0 : Int32) (fun v_13 =>
      mbd (fX5_looksAt N S_10 (13 : Int32) v_13) (fun r_15 S_16 =>
      if r_15 = 0 then
        mzt (0 : Int32) (some ((0 : Int32), S_16))
      else
        if (S_16.1 18) = (S_10.1 18) then
          mbd (fX5_bad N S_16 (3 : Int32)) (fun r_20 S_21 =>
          mzt r_20 (some (r_20, S_21)))
        else
          bX5_readRoad_78L N N S_16 v_1 (S_10.1 18) (0 : Int32)))))))
noncomputable def fX5_readRoad (N : Nat) (S : MS) : Option (Int32 × MS) := bX5_readRoad_0 N S
/-! readTreaty()Z -/
abbrev rX5_readTreaty : Room := { frames := 3, cells := 0, slots := 0, locals := 67 }
noncomputable def bX5_readTreaty_70 (N : Nat) (S : MS) : Option (Int32 × MS) :=
  mbd (fX5_bad N S (3 : Int32)) (fun r_1 S_2 =>
  mzt r_1 (some (r_1, S_2)))
noncomputable def bX5_readTreaty_0 (N : Nat) (S : MS) : Option (Int32 × MS) :=
  mbd (fX5_next N S) (fun _ S_2 =>
  mrd (S_2.2.2.1 7) 91 (0 : Int32) (fun v_4 =>
  mbd (fX5_takesName N S_2 (13 : Int32) v_4) (fun r_6 S_7 =>
  if r_6 = 0 then
    mzt (0 : Int32) (some ((0 : Int32), S_7))
  else
    mrd (S_7.2.2.1 7) 91 (0 : Int32) (fun v_10 =>
    mbd (fX5_looksAt N S_7 (13 : Int32) v_10) (fun r_12 S_13 =>
    if r_12 = 0 then
      mzt (0 : Int32) (some ((0 : Int32), S_13))
    else
      if (S_13.1 18) = (S_7.1 18) then
        bX5_readTreaty_70 N S_13
      else
        mrd (S_13.2.2.1 7) 91 ((72 : Int32) + (S_7.1 18)) (fun v_17 =>
        mbd (fX5_bitOf N S_13 v_17 (S_13.1 18)) (fun r_19 S_20 =>
        if r_19 = 0 then
          mrd (S_20.2.2.1 7) 91 ((72 : Int32) + (S_7.1 18)) (fun v_23 =>
          mwr S_20 7 91 ((72 : Int32) + (S_7.1 18)) (v_23 ||| ((1 : Int32) <<< ((S_20.1 18) &&& 31))) (fun S_25 =>
          mbd (fX5_next N S_25) (fun _ S_28 =>
          mzt (1 : Int32) (some ((1 : Int32), S_28)))))
        else
          bX5_readTreaty_70 N S_20)))))))
noncomputable def fX5_readTreaty (N : Nat) (S : MS) : Option (Int32 × MS) := bX5_readTreaty_0 N S
/-! readPerson()Z -/
abbrev rX5_readPerson : Room := { frames := 4, cells := 0, slots := 0, locals := 88 }
noncomputable def bX5_readPerson_49 (N : Nat) (S : MS) : Option (Int32 × MS) :=
  mzt (0 : Int32) (some ((0 : Int32), S))
noncomputable def bX5_readPerson_0 (N : Nat) (S : MS) : Option (Int32 × MS) :=
  mrd (S.2.2.1 7) 91 (2 : Int32) (fun v_1 =>
  if v_1 = (6 : Int32) then
    mbd (fX5_bad N S (4 : Int32)) (fun r_27 S_28 =>
    mzt r_27 (some (r_27, S_28)))
  else
    mbd (fX5_next N S) (fun _ S_5 =>
    mbd (fX5_fresh N S_5 ((20 : Int32) + v_1)) (fun r_7 S_8 =>
    if r_7 = 0 then
      bX5_readPerson_49 N S_8
    else
      mrd (S_8.2.2.1 7) 91 (0 : Int32) (fun v_11 =>
      mbd (fX5_takesName N S_8 (13 : Int32) v_11) (fun r_13 S_14 =>
      if r_13 = 0 then
        bX5_readPerson_49 N S_14
      else
        mwr S_14 7 91 ((79 : Int32) + v_1) (S_14.1 18) (fun S_17 =>
        mbd (fX5_puts N S_17 ((85 : Int32) + v_1) (1 : Int32) (240 : Int32)) (fun r_19 S_20 =>
        if r_19 = 0 then
          mzt (0 : Int32) (some ((0 : Int32), S_20))
        else
          mrd (S_20.2.2.1 7) 91 (2 : Int32) (fun v_23 =>
          mwr S_20 7 91 (2 : Int32) (v_23 + (1 : Int32)) (fun S_25 =>
          mzt (1 : Int32) (some ((1 : Int32), S_25)))))))))))
noncomputable def fX5_readPerson (N : Nat) (S : MS) : Option (Int32 × MS) := bX5_readPerson_0 N S
/-! line()Z -/
abbrev rX5_line : Room := { frames := 5, cells := 0, slots := 0, locals := 111 }
noncomputable def bX5_line_82 (N : Nat) (S : MS) (t0 : Int32) : Option (Int32 × MS) :=
  mzt t0 (some (t0, S))
noncomputable def bX5_line_0 (N : Nat) (S : MS) : Option (Int32 × MS) :=
  mbd (fX5_isWord N S (1818324580 : Int64)) (fun r_1 S_2 =>
  if r_1 = 0 then
    mbd (fX5_isWord N S_2 (495874699877 : Int64)) (fun r_5 S_6 =>
    if r_5 = 0 then
      mbd (fX5_isWord N S_6 (1919902052 : Int64)) (fun r_9 S_10 =>
      if r_9 = 0 then
        mbd (fX5_isWord N S_10 (128034675979385 : Int64)) (fun r_13 S_14 =>
        if r_13 = 0 then
          mbd (fX5_isWord N S_14 (123581014175598 : Int64)) (fun r_17 S_18 =>
          if r_17 = 0 then
            mbd (fX5_bad N S_18 (1 : Int32)) (fun r_21 S_22 =>
            bX5_line_82 N S_22 r_21)
          else
            mbd (fX5_readPerson N S_18) (fun r_24 S_25 =>
            bX5_line_82 N S_25 r_24))
        else
          mbd (fX5_readTreaty N S_14) (fun r_27 S_28 =>
          mzt r_27 (some (r_27, S_28))))
      else
        mbd (fX5_readRoad N S_10) (fun r_30 S_31 =>
        mzt r_30 (some (r_30, S_31))))
    else
      mbd (fX5_readStore N S_6) (fun r_33 S_34 =>
      mzt r_33 (some (r_33, S_34))))
  else
    mbd (fX5_readLand N S_2) (fun r_36 S_37 =>
    mzt r_36 (some (r_36, S_37))))
noncomputable def fX5_line (N : Nat) (S : MS) : Option (Int32 × MS) := bX5_line_0 N S
/-! isSign(I)Z -/
abbrev rX5_isSign : Room := { frames := 0, cells := 0, slots := 0, locals := 0 }
noncomputable def bX5_isSign_21 (N : Nat) (S : MS) (t0 : Int32) : Option (Int32 × MS) :=
  mzt t0 (some (t0, S))
noncomputable def bX5_isSign_20 (N : Nat) (S : MS) : Option (Int32 × MS) :=
  bX5_isSign_21 N S (0 : Int32)
noncomputable def bX5_isSign_0 (N : Nat) (S : MS) (x1 : Int32) : Option (Int32 × MS) :=
  if (S.1 11) = (3 : Int32) then
    if (S.1 14) = x1 then
      bX5_isSign_21 N S (1 : Int32)
    else
      bX5_isSign_20 N S
  else
    bX5_isSign_20 N S
noncomputable def fX5_isSign (N : Nat) (S : MS) (x1 : Int32) : Option (Int32 × MS) := bX5_isSign_0 N S x1
/-! sign(I)Z -/
abbrev rX5_sign : Room := { frames := 2, cells := 0, slots := 0, locals := 43 }
noncomputable def bX5_sign_0 (N : Nat) (S : MS) (x1 : Int32) : Option (Int32 × MS) :=
  mbd (fX5_isSign N S x1) (fun r_1 S_2 =>
  if r_1 = 0 then
    mbd (fX5_bad N S_2 (1 : Int32)) (fun r_8 S_9 =>
    mzt r_8 (some (r_8, S_9)))
  else
    mbd (fX5_next N S_2) (fun _ S_6 =>
    mzt (1 : Int32) (some ((1 : Int32), S_6))))
noncomputable def fX5_sign (N : Nat) (S : MS) (x1 : Int32) : Option (Int32 × MS) := bX5_sign_0 N S x1
/-! map()I -/
abbrev rX5_map : Room := { frames := 6, cells := 0, slots := 0, locals := 131 }
noncomputable def bX5_map_58 (N : Nat) (S : MS) : Option (Int32 × MS) :=
  some (((-1 : Int32) - (S.1 16)), S)
noncomputable def bX5_map_108 (N : Nat) (K80 : MS → Int32 → Option (Int32 × MS)) (S : MS) (x1 : Int32) (t1 : Int32) (t2 : Int32) : Option (Int32 × MS) :=
  mwr S 6 319 t1 t2 (fun S_1 =>
  K80 S_1 (x1 + (1 : Int32)))
noncomputable def bX5_map_196 (N : Nat) (K196 : MS → Int32 → Option (Int32 × MS)) (S : MS) (x1 : Int32) : Option (Int32 × MS) :=
  if (6 : Int32) ≤ x1 then
    mpt S 23 (0 : Int32) (fun S_2 =>
    some ((S_2.1 19), S_2))
  else
    mrd (S.2.2.1 6) 319 ((79 : Int32) + x1) (fun v_3 =>
    mwr S 6 319 ((108 : Int32) + x1) v_3 (fun S_5 =>
    mrd (S_5.2.2.1 6) 319 ((85 : Int32) + x1) (fun v_7 =>
    mwr S_5 6 319 ((114 : Int32) + x1) v_7 (fun S_9 =>
    K196 S_9 (x1 + (1 : Int32))))))
noncomputable def bX5_map_196L (N : Nat) : Nat → MS → Int32 → Option (Int32 × MS)
  | 0 => fun _ _ => none
  | n + 1 => bX5_map_196 N (bX5_map_196L N n)
noncomputable def bX5_map_146 (N : Nat) (K146 : MS → Int32 → Option (Int32 × MS)) (S : MS) (x1 : Int32) : Option (Int32 × MS) :=
  if (7 : Int32) ≤ x1 then
    bX5_map_196L N N S (0 : Int32)
  else
    mrd (S.2.2.1 6) 319 ((17 : Int32) + x1) (fun v_2 =>
    mwr S 6 319 ((94 : Int32) + x1) v_2 (fun S_4 =>
    mrd (S_4.2.2.1 6) 319 ((72 : Int32) + x1) (fun v_6 =>
    mwr S_4 6 319 ((101 : Int32) + x1) v_6 (fun S_8 =>
    K146 S_8 (x1 + (1 : Int32))))))
noncomputable def bX5_map_146L (N : Nat) : Nat → MS → Int32 → Option (Int32 × MS)
  | 0 => fun _ _ => none
  | n + 1 => bX5_map_146 N (bX5_map_146L N n)
noncomputable def bX5_map_117 (N : Nat) (K117 : MS → Int32 → Option (Int32 × MS)) (S : MS) (x1 : Int32) : Option (Int32 × MS) :=
  if (13 : Int32) ≤ x1 then
    bX5_map_146L N N S (0 : Int32)
  else
    mrdL (S.2.2.2 9) 26 ((13 : Int32) + x1) (fun v_2 =>
    mwrL S 9 26 x1 v_2 (fun S_4 =>
    K117 S_4 (x1 + (1 : Int32))))
noncomputable def bX5_map_117L (N : Nat) : Nat → MS → Int32 → Option (Int32 × MS)
  | 0 => fun _ _ => none
  | n + 1 => bX5_map_117 N (bX5_map_117L N n)
noncomputable def bX5_map_80 (N : Nat) (K80 : MS → Int32 → Option (Int32 × MS)) (S : MS) (x1 : Int32) : Option (Int32 × MS) :=
  if (319 : Int32) ≤ x1 then
    bX5_map_117L N N S (0 : Int32)
  else
    if (91 : Int32) ≤ x1 then
      bX5_map_108 N K80 S x1 x1 (0 : Int32)
    else
      mrd (S.2.2.1 7) 91 x1 (fun v_3 =>
      bX5_map_108 N K80 S x1 x1 v_3)
noncomputable def bX5_map_80L (N : Nat) : Nat → MS → Int32 → Option (Int32 × MS)
  | 0 => fun _ _ => none
  | n + 1 => bX5_map_80 N (bX5_map_80L N n)
noncomputable def bX5_map_35 (N : Nat) (K35 : MS → Option (Int32 × MS)) (S : MS) : Option (Int32 × MS) :=
  if (S.1 11) = 0 then
    bX5_map_80L N N S (0 : Int32)
  else
    mbd (fX5_line N S) (fun r_2 S_3 =>
    if r_2 = 0 then
      bX5_map_58 N S_3
    else
      mbd (fX5_sign N S_3 (59 : Int32)) (fun r_6 S_7 =>
      if r_6 = 0 then
        bX5_map_58 N S_7
      else
        mpt S_7 19 ((S_7.1 19) + (1 : Int32)) (fun S_10 =>
        K35 S_10)))
noncomputable def bX5_map_35L (N : Nat) : Nat → MS → Option (Int32 × MS)
  | 0 => fun _ => none
  | n + 1 => bX5_map_35 N (bX5_map_35L N n)
noncomputable def bX5_map_0 (N : Nat) (S : MS) : Option (Int32 × MS) :=
  mpt S 0 (0 : Int32) (fun S_1 =>
  mbd (fX5_taken N S_1 (900 : Int32)) (fun _ S_3 =>
  mpt S_3 15 (0 : Int32) (fun S_5 =>
  mpt S_5 19 (0 : Int32) (fun S_6 =>
  mpt S_6 20 (0 : Int32) (fun S_7 =>
  mbd (fX5_clears N S_7) (fun _ S_9 =>
  mbd (fX5_next N S_9) (fun _ S_12 =>
  bX5_map_35L N N S_12)))))))
noncomputable def fX5_map (N : Nat) (S : MS) : Option (Int32 × MS) := bX5_map_0 N S
/-! fault()I -/
abbrev rX5_fault : Room := { frames := 0, cells := 0, slots := 0, locals := 0 }
noncomputable def bX5_fault_0 (N : Nat) (S : MS) : Option (Int32 × MS) :=
  mpt S 0 (0 : Int32) (fun S_1 =>
  some ((S_1.1 15), S_1))
noncomputable def fX5_fault (N : Nat) (S : MS) : Option (Int32 × MS) := bX5_fault_0 N S
/-! isPerson(I)Z -/
abbrev rX5_isPerson : Room := { frames := 1, cells := 0, slots := 0, locals := 22 }
noncomputable def bX5_isPerson_0 (N : Nat) (S : MS) (x1 : Int32) : Option (Int32 × MS) :=
  mrd (S.2.2.1 6) 319 (2 : Int32) (fun v_1 =>
  mbd (fX5_isIn N S x1 (0 : Int32) (v_1 - (1 : Int32))) (fun r_3 S_4 =>
  mzt r_3 (some (r_3, S_4))))
noncomputable def fX5_isPerson (N : Nat) (S : MS) (x1 : Int32) : Option (Int32 × MS) := bX5_isPerson_0 N S x1
/-! throwsIf(Z)Z -/
abbrev rX5_throwsIf : Room := { frames := 0, cells := 0, slots := 0, locals := 0 }
noncomputable def bX5_throwsIf_10 (N : Nat) (S : MS) (x1 : Int32) (t1 : Int32) : Option (Int32 × MS) :=
  mpt S 0 t1 (fun S_1 =>
  mzt x1 (some (x1, S_1)))
noncomputable def bX5_throwsIf_0 (N : Nat) (S : MS) (x1 : Int32) : Option (Int32 × MS) :=
  if x1 = 0 then
    bX5_throwsIf_10 N S x1 (0 : Int32)
  else
    bX5_throwsIf_10 N S x1 (1 : Int32)
noncomputable def fX5_throwsIf (N : Nat) (S : MS) (x1 : Int32) : Option (Int32 × MS) := bX5_throwsIf_0 N S x1
/-! sparedIn(I)I -/
abbrev rX5_sparedIn : Room := { frames := 0, cells := 0, slots := 0, locals := 0 }
noncomputable def bX5_sparedIn_0 (N : Nat) (S : MS) (x1 : Int32) : Option (Int32 × MS) :=
  mrd (S.2.2.1 6) 319 ((79 : Int32) + x1) (fun v_1 =>
  mrd (S.2.2.1 6) 319 ((101 : Int32) + v_1) (fun v_3 =>
  mrd (S.2.2.1 6) 319 ((79 : Int32) + x1) (fun v_5 =>
  some ((v_3 ||| ((1 : Int32) <<< (v_5 &&& 31))), S))))
noncomputable def fX5_sparedIn (N : Nat) (S : MS) (x1 : Int32) : Option (Int32 × MS) := bX5_sparedIn_0 N S x1
/-! roadOf(II)I -/
abbrev rX5_roadOf : Room := { frames := 0, cells := 0, slots := 0, locals := 0 }
noncomputable def bX5_roadOf_64 (N : Nat) (S : MS) (x3 : Int32) : Option (Int32 × MS) :=
  some (x3, S)
noncomputable def bX5_roadOf_66 (N : Nat) (K2 : MS → Int32 → Int32 → Int32 → Option (Int32 × MS)) (S : MS) (x1 : Int32) (x2 : Int32) (x3 : Int32) : Option (Int32 × MS) :=
  K2 S x1 x2 (x3 + (1 : Int32))
noncomputable def bX5_roadOf_38 (N : Nat) (K2 : MS → Int32 → Int32 → Int32 → Option (Int32 × MS)) (S : MS) (x1 : Int32) (x2 : Int32) (x3 : Int32) : Option (Int32 × MS) :=
  mrd (S.2.2.1 6) 319 ((24 : Int32) + x3) (fun v_1 =>
  if v_1 = x2 then
    mrd (S.2.2.1 6) 319 ((36 : Int32) + x3) (fun v_4 =>
    if v_4 = x1 then
      bX5_roadOf_64 N S x3
    else
      bX5_roadOf_66 N K2 S x1 x2 x3)
  else
    bX5_roadOf_66 N K2 S x1 x2 x3)
noncomputable def bX5_roadOf_2 (N : Nat) (K2 : MS → Int32 → Int32 → Int32 → Option (Int32 × MS)) (S : MS) (x1 : Int32) (x2 : Int32) (x3 : Int32) : Option (Int32 × MS) :=
  mrd (S.2.2.1 6) 319 (1 : Int32) (fun v_1 =>
  if v_1 ≤ x3 then
    some ((-1 : Int32), S)
  else
    mrd (S.2.2.1 6) 319 ((24 : Int32) + x3) (fun v_4 =>
    if v_4 = x1 then
      mrd (S.2.2.1 6) 319 ((36 : Int32) + x3) (fun v_7 =>
      if v_7 = x2 then
        bX5_roadOf_64 N S x3
      else
        bX5_roadOf_38 N K2 S x1 x2 x3)
    else
      bX5_roadOf_38 N K2 S x1 x2 x3))
noncomputable def bX5_roadOf_2L (N : Nat) : Nat → MS → Int32 → Int32 → Int32 → Option (Int32 × MS)
  | 0 => fun _ _ _ _ => none
  | n + 1 => bX5_roadOf_2 N (bX5_roadOf_2L N n)
noncomputable def bX5_roadOf_0 (N : Nat) (S : MS) (x1 : Int32) (x2 : Int32) : Option (Int32 × MS) :=
  bX5_roadOf_2L N N S x1 x2 (0 : Int32)
noncomputable def fX5_roadOf (N : Nat) (S : MS) (x1 : Int32) (x2 : Int32) : Option (Int32 × MS) := bX5_roadOf_0 N S x1 x2
/-! isOpen(I)Z -/
abbrev rX5_isOpen : Room := { frames := 1, cells := 0, slots := 0, locals := 21 }
noncomputable def bX5_isOpen_19 (N : Nat) (S : MS) (t0 : Int32) : Option (Int32 × MS) :=
  mzt t0 (some (t0, S))
noncomputable def bX5_isOpen_0 (N : Nat) (S : MS) (x1 : Int32) : Option (Int32 × MS) :=
  mrd (S.2.2.1 6) 319 (93 : Int32) (fun v_1 =>
  mbd (fX5_bitOf N S v_1 x1) (fun r_3 S_4 =>
  if r_3 = 0 then
    bX5_isOpen_19 N S_4 (1 : Int32)
  else
    bX5_isOpen_19 N S_4 (0 : Int32)))
noncomputable def fX5_isOpen (N : Nat) (S : MS) (x1 : Int32) : Option (Int32 × MS) := bX5_isOpen_0 N S x1
/-! whyBy(IIII)I -/
abbrev rX5_whyBy : Room := { frames := 2, cells := 0, slots := 0, locals := 42 }
noncomputable def bX5_whyBy_84 (N : Nat) (S : MS) (t0 : Int32) : Option (Int32 × MS) :=
  some (t0, S)
noncomputable def bX5_whyBy_83 (N : Nat) (S : MS) : Option (Int32 × MS) :=
  bX5_whyBy_84 N S (0 : Int32)
noncomputable def bX5_whyBy_0 (N : Nat) (S : MS) (x1 : Int32) (x2 : Int32) (x3 : Int32) (x4 : Int32) : Option (Int32 × MS) :=
  mbd (fX5_roadOf N S x1 x2) (fun r_1 S_2 =>
  if 0 ≤ r_1 then
    mbd (fX5_isOpen N S_2 r_1) (fun r_5 S_6 =>
    if r_5 = 0 then
      some ((2 : Int32), S_6)
    else
      mrd (S_6.2.2.1 6) 319 ((48 : Int32) + r_1) (fun v_9 =>
      if v_9 ≤ x3 then
        mrd (S_6.2.2.1 6) 319 ((60 : Int32) + r_1) (fun v_12 =>
        if x3 ≤ v_12 then
          mbd (fX5_bitOf N S_6 x4 x2) (fun r_15 S_16 =>
          if r_15 = 0 then
            mrd (S_16.2.2.1 6) 319 ((3 : Int32) + x2) (fun v_19 =>
            if v_19 < x3 then
              bX5_whyBy_83 N S_16
            else
              bX5_whyBy_84 N S_16 (5 : Int32))
          else
            bX5_whyBy_83 N S_16)
        else
          some ((4 : Int32), S_6))
      else
        some ((3 : Int32), S_6)))
  else
    some ((1 : Int32), S_2))
noncomputable def fX5_whyBy (N : Nat) (S : MS) (x1 : Int32) (x2 : Int32) (x3 : Int32) (x4 : Int32) : Option (Int32 × MS) := bX5_whyBy_0 N S x1 x2 x3 x4
/-! whyCross(II)I -/
abbrev rX5_whyCross : Room := { frames := 3, cells := 0, slots := 0, locals := 67 }
noncomputable def bX5_whyCross_0 (N : Nat) (S : MS) (x1 : Int32) (x2 : Int32) : Option (Int32 × MS) :=
  mrd (S.2.2.1 6) 319 ((108 : Int32) + x1) (fun v_1 =>
  mrd (S.2.2.1 6) 319 ((114 : Int32) + x1) (fun v_3 =>
  mbd (fX5_sparedIn N S x1) (fun r_5 S_6 =>
  mbd (fX5_whyBy N S_6 v_1 x2 v_3 r_5) (fun r_8 S_9 =>
  some (r_8, S_9)))))
noncomputable def fX5_whyCross (N : Nat) (S : MS) (x1 : Int32) (x2 : Int32) : Option (Int32 × MS) := bX5_whyCross_0 N S x1 x2
/-! couldOf(I)I -/
abbrev rX5_couldOf : Room := { frames := 4, cells := 0, slots := 0, locals := 89 }
noncomputable def bX5_couldOf_31 (N : Nat) (K4 : MS → Int32 → Int32 → Int32 → Option (Int32 × MS)) (S : MS) (x1 : Int32) (x3 : Int32) (t0 : Int32) (t1 : Int32) : Option (Int32 × MS) :=
  K4 S x1 (t0 ||| t1) (x3 + (1 : Int32))
noncomputable def bX5_couldOf_4 (N : Nat) (K4 : MS → Int32 → Int32 → Int32 → Option (Int32 × MS)) (S : MS) (x1 : Int32) (x2 : Int32) (x3 : Int32) : Option (Int32 × MS) :=
  mrd (S.2.2.1 6) 319 (0 : Int32) (fun v_1 =>
  if v_1 ≤ x3 then
    some (x2, S)
  else
    mbd (fX5_whyCross N S x1 x3) (fun r_4 S_5 =>
    if r_4 = 0 then
      bX5_couldOf_31 N K4 S_5 x1 x3 x2 ((1 : Int32) <<< (x3 &&& 31))
    else
      bX5_couldOf_31 N K4 S_5 x1 x3 x2 (0 : Int32)))
noncomputable def bX5_couldOf_4L (N : Nat) : Nat → MS → Int32 → Int32 → Int32 → Option (Int32 × MS)
  | 0 => fun _ _ _ _ => none
  | n + 1 => bX5_couldOf_4 N (bX5_couldOf_4L N n)
noncomputable def bX5_couldOf_0 (N : Nat) (S : MS) (x1 : Int32) : Option (Int32 × MS) :=
  bX5_couldOf_4L N N S x1 (0 : Int32) (0 : Int32)
noncomputable def fX5_couldOf (N : Nat) (S : MS) (x1 : Int32) : Option (Int32 × MS) := bX5_couldOf_0 N S x1
/-! person(II)I -/
abbrev rX5_person : Room := { frames := 5, cells := 0, slots := 0, locals := 112 }
noncomputable def bX5_person_24 (N : Nat) (S : MS) (x1 : Int32) (x2 : Int32) (t1 : Int32) : Option (Int32 × MS) :=
  mbd (fX5_throwsIf N S t1) (fun r_1 S_2 =>
  if r_1 = 0 then
    if x2 = (0 : Int32) then
      mrd (S_2.2.2.1 6) 319 ((79 : Int32) + x1) (fun v_6 =>
      some (v_6, S_2))
    else
      if x2 = (1 : Int32) then
        mrd (S_2.2.2.1 6) 319 ((108 : Int32) + x1) (fun v_9 =>
        some (v_9, S_2))
      else
        if x2 = (2 : Int32) then
          mrd (S_2.2.2.1 6) 319 ((114 : Int32) + x1) (fun v_12 =>
          some (v_12, S_2))
        else
          if x2 = (3 : Int32) then
            mrd (S_2.2.2.1 6) 319 ((120 : Int32) + x1) (fun v_15 =>
            some (v_15, S_2))
          else
            if x2 = (4 : Int32) then
              mrd (S_2.2.2.1 6) 319 ((126 : Int32) + x1) (fun v_18 =>
              some (v_18, S_2))
            else
              if x2 = (5 : Int32) then
                mrd (S_2.2.2.1 6) 319 ((132 : Int32) + x1) (fun v_21 =>
                some (v_21, S_2))
              else
                mbd (fX5_couldOf N S_2 x1) (fun r_23 S_24 =>
                some (r_23, S_24))
  else
    some ((0 : Int32), S_2))
noncomputable def bX5_person_19 (N : Nat) (S : MS) (x1 : Int32) (x2 : Int32) : Option (Int32 × MS) :=
  bX5_person_24 N S x1 x2 (1 : Int32)
noncomputable def bX5_person_0 (N : Nat) (S : MS) (x1 : Int32) (x2 : Int32) : Option (Int32 × MS) :=
  mbd (fX5_isPerson N S x1) (fun r_1 S_2 =>
  if r_1 = 0 then
    bX5_person_19 N S_2 x1 x2
  else
    mbd (fX5_isIn N S_2 x2 (0 : Int32) (6 : Int32)) (fun r_5 S_6 =>
    if r_5 = 0 then
      bX5_person_19 N S_6 x1 x2
    else
      bX5_person_24 N S_6 x1 x2 (0 : Int32)))
noncomputable def fX5_person (N : Nat) (S : MS) (x1 : Int32) (x2 : Int32) : Option (Int32 × MS) := bX5_person_0 N S x1 x2
/-! isLand(I)Z -/
abbrev rX5_isLand : Room := { frames := 1, cells := 0, slots := 0, locals := 22 }
noncomputable def bX5_isLand_0 (N : Nat) (S : MS) (x1 : Int32) : Option (Int32 × MS) :=
  mrd (S.2.2.1 6) 319 (0 : Int32) (fun v_1 =>
  mbd (fX5_isIn N S x1 (0 : Int32) (v_1 - (1 : Int32))) (fun r_3 S_4 =>
  mzt r_3 (some (r_3, S_4))))
noncomputable def fX5_isLand (N : Nat) (S : MS) (x1 : Int32) : Option (Int32 × MS) := bX5_isLand_0 N S x1
/-! land(II)I -/
abbrev rX5_land : Room := { frames := 2, cells := 0, slots := 0, locals := 43 }
noncomputable def bX5_land_54 (N : Nat) (K20 : MS → Int32 → Int32 → Int32 → Int32 → Option (Int32 × MS)) (S : MS) (x1 : Int32) (x2 : Int32) (x4 : Int32) (t0 : Int32) (t1 : Int32) : Option (Int32 × MS) :=
  K20 S x1 x2 (t0 ||| t1) (x4 + (1 : Int32))
noncomputable def bX5_land_20 (N : Nat) (K20 : MS → Int32 → Int32 → Int32 → Int32 → Option (Int32 × MS)) (S : MS) (x1 : Int32) (x2 : Int32) (x3 : Int32) (x4 : Int32) : Option (Int32 × MS) :=
  mrd (S.2.2.1 6) 319 (2 : Int32) (fun v_1 =>
  if v_1 ≤ x4 then
    if x2 = (0 : Int32) then
      mrd (S.2.2.1 6) 319 ((3 : Int32) + x1) (fun v_5 =>
      some (v_5, S))
    else
      if x2 = (1 : Int32) then
        mrd (S.2.2.1 6) 319 ((10 : Int32) + x1) (fun v_8 =>
        some (v_8, S))
      else
        if x2 = (2 : Int32) then
          mrd (S.2.2.1 6) 319 ((94 : Int32) + x1) (fun v_11 =>
          some (v_11, S))
        else
          if x2 = (3 : Int32) then
            mrd (S.2.2.1 6) 319 ((101 : Int32) + x1) (fun v_14 =>
            some (v_14, S))
          else
            if x2 = (4 : Int32) then
              some (x3, S)
            else
              some ((-1 : Int32), S)
  else
    mrd (S.2.2.1 6) 319 ((108 : Int32) + x4) (fun v_17 =>
    if v_17 = x1 then
      bX5_land_54 N K20 S x1 x2 x4 x3 ((1 : Int32) <<< (x4 &&& 31))
    else
      bX5_land_54 N K20 S x1 x2 x4 x3 (0 : Int32)))
noncomputable def bX5_land_20L (N : Nat) : Nat → MS → Int32 → Int32 → Int32 → Int32 → Option (Int32 × MS)
  | 0 => fun _ _ _ _ _ => none
  | n + 1 => bX5_land_20 N (bX5_land_20L N n)
noncomputable def bX5_land_0 (N : Nat) (S : MS) (x1 : Int32) (x2 : Int32) : Option (Int32 × MS) :=
  mpt S 0 (0 : Int32) (fun S_1 =>
  mbd (fX5_isLand N S_1 x1) (fun r_2 S_3 =>
  if r_2 = 0 then
    some ((-1 : Int32), S_3)
  else
    bX5_land_20L N N S_3 x1 x2 (0 : Int32) (0 : Int32)))
noncomputable def fX5_land (N : Nat) (S : MS) (x1 : Int32) (x2 : Int32) : Option (Int32 × MS) := bX5_land_0 N S x1 x2
/-! road(II)I -/
abbrev rX5_road : Room := { frames := 2, cells := 0, slots := 0, locals := 42 }
noncomputable def bX5_road_113 (N : Nat) (S : MS) (t0 : Int32) : Option (Int32 × MS) :=
  some (t0, S)
noncomputable def bX5_road_0 (N : Nat) (S : MS) (x1 : Int32) (x2 : Int32) : Option (Int32 × MS) :=
  mpt S 0 (0 : Int32) (fun S_1 =>
  mrd (S_1.2.2.1 6) 319 (1 : Int32) (fun v_2 =>
  mbd (fX5_isIn N S_1 x1 (0 : Int32) (v_2 - (1 : Int32))) (fun r_4 S_5 =>
  if r_4 = 0 then
    some ((-1 : Int32), S_5)
  else
    if x2 = (0 : Int32) then
      mrd (S_5.2.2.1 6) 319 ((24 : Int32) + x1) (fun v_9 =>
      some (v_9, S_5))
    else
      if x2 = (1 : Int32) then
        mrd (S_5.2.2.1 6) 319 ((36 : Int32) + x1) (fun v_12 =>
        some (v_12, S_5))
      else
        if x2 = (2 : Int32) then
          mrd (S_5.2.2.1 6) 319 ((48 : Int32) + x1) (fun v_15 =>
          some (v_15, S_5))
        else
          if x2 = (3 : Int32) then
            mrd (S_5.2.2.1 6) 319 ((60 : Int32) + x1) (fun v_18 =>
            some (v_18, S_5))
          else
            if x2 = (4 : Int32) then
              mbd (fX5_isOpen N S_5 x1) (fun r_21 S_22 =>
              if r_21 = 0 then
                bX5_road_113 N S_22 (1 : Int32)
              else
                bX5_road_113 N S_22 (0 : Int32))
            else
              some ((-1 : Int32), S_5))))
noncomputable def fX5_road (N : Nat) (S : MS) (x1 : Int32) (x2 : Int32) : Option (Int32 × MS) := bX5_road_0 N S x1 x2
/-! bits(I)I -/
abbrev rX5_bits : Room := { frames := 0, cells := 0, slots := 0, locals := 0 }
noncomputable def bX5_bits_4 (N : Nat) (K4 : MS → Int32 → Int32 → Option (Int32 × MS)) (S : MS) (x1 : Int32) (x2 : Int32) : Option (Int32 × MS) :=
  if x2 = 0 then
    some (x1, S)
  else
    K4 S (x1 + (1 : Int32)) (x2 &&& (x2 - (1 : Int32)))
noncomputable def bX5_bits_4L (N : Nat) : Nat → MS → Int32 → Int32 → Option (Int32 × MS)
  | 0 => fun _ _ _ => none
  | n + 1 => bX5_bits_4 N (bX5_bits_4L N n)
noncomputable def bX5_bits_0 (N : Nat) (S : MS) (x0 : Int32) : Option (Int32 × MS) :=
  bX5_bits_4L N N S (0 : Int32) x0
noncomputable def fX5_bits (N : Nat) (S : MS) (x0 : Int32) : Option (Int32 × MS) := bX5_bits_0 N S x0
/-! allLong()I -/
abbrev rX5_allLong : Room := { frames := 0, cells := 0, slots := 0, locals := 0 }
noncomputable def bX5_allLong_4 (N : Nat) (K4 : MS → Int32 → Int32 → Option (Int32 × MS)) (S : MS) (x1 : Int32) (x2 : Int32) : Option (Int32 × MS) :=
  mrd (S.2.2.1 6) 319 (2 : Int32) (fun v_1 =>
  if v_1 ≤ x2 then
    some (x1, S)
  else
    mrd (S.2.2.1 6) 319 ((114 : Int32) + x2) (fun v_4 =>
    K4 S (x1 + v_4) (x2 + (1 : Int32))))
noncomputable def bX5_allLong_4L (N : Nat) : Nat → MS → Int32 → Int32 → Option (Int32 × MS)
  | 0 => fun _ _ _ => none
  | n + 1 => bX5_allLong_4 N (bX5_allLong_4L N n)
noncomputable def bX5_allLong_0 (N : Nat) (S : MS) : Option (Int32 × MS) :=
  bX5_allLong_4L N N S (0 : Int32) (0 : Int32)
noncomputable def fX5_allLong (N : Nat) (S : MS) : Option (Int32 × MS) := bX5_allLong_0 N S
/-! now(I)I -/
abbrev rX5_now : Room := { frames := 5, cells := 0, slots := 0, locals := 112 }
noncomputable def bX5_now_81 (N : Nat) (K18 : MS → Int32 → Int32 → Int32 → Int32 → Int32 → Int32 → Option (Int32 × MS)) (S : MS) (x1 : Int32) (x2 : Int32) (x4 : Int32) (x5 : Int32) (x6 : Int32) (t0 : Int32) (t1 : Int32) : Option (Int32 × MS) :=
  K18 S x1 x2 (t0 ||| t1) x4 x5 (x6 + (1 : Int32))
noncomputable def bX5_now_61 (N : Nat) (K18 : MS → Int32 → Int32 → Int32 → Int32 → Int32 → Int32 → Option (Int32 × MS)) (S : MS) (x1 : Int32) (x3 : Int32) (x4 : Int32) (x5 : Int32) (x6 : Int32) (t0 : Int32) (t1 : Int32) : Option (Int32 × MS) :=
  mbd (fX5_couldOf N S x6) (fun r_1 S_2 =>
  if r_1 = 0 then
    bX5_now_81 N K18 S_2 x1 (t0 ||| t1) x4 x5 x6 x3 ((1 : Int32) <<< (x6 &&& 31))
  else
    bX5_now_81 N K18 S_2 x1 (t0 ||| t1) x4 x5 x6 x3 (0 : Int32))
noncomputable def bX5_now_92 (N : Nat) (K92 : MS → Int32 → Int32 → Int32 → Int32 → Int32 → Int32 → Option (Int32 × MS)) (S : MS) (x1 : Int32) (x2 : Int32) (x3 : Int32) (x4 : Int32) (x5 : Int32) (x6 : Int32) : Option (Int32 × MS) :=
  mrd (S.2.2.1 6) 319 (0 : Int32) (fun v_1 =>
  if v_1 ≤ x6 then
    if x1 = (0 : Int32) then
      mrd (S.2.2.1 6) 319 (91 : Int32) (fun v_5 =>
      some (v_5, S))
    else
      if x1 = (1 : Int32) then
        mbd (fX5_allLong N S) (fun r_8 S_9 =>
        some (r_8, S_9))
      else
        if x1 = (2 : Int32) then
          some (x4, S)
        else
          if x1 = (3 : Int32) then
            mrd (S.2.2.1 6) 319 (92 : Int32) (fun v_13 =>
            some (v_13, S))
          else
            if x1 = (4 : Int32) then
              mrd (S.2.2.1 6) 319 (93 : Int32) (fun v_16 =>
              some (v_16, S))
            else
              if x1 = (5 : Int32) then
                some (x2, S)
              else
                if x1 = (6 : Int32) then
                  some (x3, S)
                else
                  if x1 = (7 : Int32) then
                    some (x5, S)
                  else
                    some ((-1 : Int32), S)
  else
    mrd (S.2.2.1 6) 319 ((94 : Int32) + x6) (fun v_21 =>
    mrd (S.2.2.1 6) 319 ((101 : Int32) + x6) (fun v_23 =>
    mbd (fX5_bits N S v_23) (fun r_25 S_26 =>
    K92 S_26 x1 x2 x3 (x4 + v_21) (x5 + r_25) (x6 + (1 : Int32))))))
noncomputable def bX5_now_92L (N : Nat) : Nat → MS → Int32 → Int32 → Int32 → Int32 → Int32 → Int32 → Option (Int32 × MS)
  | 0 => fun _ _ _ _ _ _ _ => none
  | n + 1 => bX5_now_92 N (bX5_now_92L N n)
noncomputable def bX5_now_18 (N : Nat) (K18 : MS → Int32 → Int32 → Int32 → Int32 → Int32 → Int32 → Option (Int32 × MS)) (S : MS) (x1 : Int32) (x2 : Int32) (x3 : Int32) (x4 : Int32) (x5 : Int32) (x6 : Int32) : Option (Int32 × MS) :=
  mrd (S.2.2.1 6) 319 (2 : Int32) (fun v_1 =>
  if v_1 ≤ x6 then
    bX5_now_92L N N S x1 x2 x3 x4 x5 (0 : Int32)
  else
    mrd (S.2.2.1 6) 319 ((108 : Int32) + x6) (fun v_4 =>
    mrd (S.2.2.1 6) 319 ((79 : Int32) + x6) (fun v_6 =>
    if v_4 = v_6 then
      bX5_now_61 N K18 S x1 x3 x4 x5 x6 x2 ((1 : Int32) <<< (x6 &&& 31))
    else
      bX5_now_61 N K18 S x1 x3 x4 x5 x6 x2 (0 : Int32))))
noncomputable def bX5_now_18L (N : Nat) : Nat → MS → Int32 → Int32 → Int32 → Int32 → Int32 → Int32 → Option (Int32 × MS)
  | 0 => fun _ _ _ _ _ _ _ => none
  | n + 1 => bX5_now_18 N (bX5_now_18L N n)
noncomputable def bX5_now_0 (N : Nat) (S : MS) (x1 : Int32) : Option (Int32 × MS) :=
  mpt S 0 (0 : Int32) (fun S_1 =>
  bX5_now_18L N N S_1 x1 (0 : Int32) (0 : Int32) (0 : Int32) (0 : Int32) (0 : Int32))
noncomputable def fX5_now (N : Nat) (S : MS) (x1 : Int32) : Option (Int32 × MS) := bX5_now_0 N S x1
/-! keep()V -/
abbrev rX5_keep : Room := { frames := 0, cells := 0, slots := 0, locals := 0 }
noncomputable def bX5_keep_47 (N : Nat) (K47 : MS → Int32 → Option (Int32 × MS)) (S : MS) (x1 : Int32) : Option (Int32 × MS) :=
  if (47 : Int32) ≤ x1 then
    mpt S 23 ((S.1 23) + (1 : Int32)) (fun S_2 =>
    some (0, S_2))
  else
    mrd (S.2.2.1 6) 319 ((91 : Int32) + x1) (fun v_3 =>
    mwr S 21 376 (((47 : Int32) * (S.1 23)) + x1) v_3 (fun S_5 =>
    K47 S_5 (x1 + (1 : Int32))))
noncomputable def bX5_keep_47L (N : Nat) : Nat → MS → Int32 → Option (Int32 × MS)
  | 0 => fun _ _ => none
  | n + 1 => bX5_keep_47 N (bX5_keep_47L N n)
noncomputable def bX5_keep_45 (N : Nat) (S : MS) : Option (Int32 × MS) :=
  bX5_keep_47L N N S (0 : Int32)
noncomputable def bX5_keep_11 (N : Nat) (K11 : MS → Int32 → Option (Int32 × MS)) (S : MS) (x1 : Int32) : Option (Int32 × MS) :=
  if (329 : Int32) ≤ x1 then
    mpt S 23 (7 : Int32) (fun S_2 =>
    bX5_keep_45 N S_2)
  else
    mrd (S.2.2.1 21) 376 (x1 + (47 : Int32)) (fun v_3 =>
    mwr S 21 376 x1 v_3 (fun S_5 =>
    K11 S_5 (x1 + (1 : Int32))))
noncomputable def bX5_keep_11L (N : Nat) : Nat → MS → Int32 → Option (Int32 × MS)
  | 0 => fun _ _ => none
  | n + 1 => bX5_keep_11 N (bX5_keep_11L N n)
noncomputable def bX5_keep_0 (N : Nat) (S : MS) : Option (Int32 × MS) :=
  if (S.1 23) = (8 : Int32) then
    bX5_keep_11L N N S (0 : Int32)
  else
    bX5_keep_45 N S
noncomputable def fX5_keep (N : Nat) (S : MS) : Option (Int32 × MS) := bX5_keep_0 N S
/-! lesser(II)I -/
abbrev rX5_lesser : Room := { frames := 0, cells := 0, slots := 0, locals := 0 }
noncomputable def bX5_lesser_10 (N : Nat) (S : MS) (t0 : Int32) : Option (Int32 × MS) :=
  some (t0, S)
noncomputable def bX5_lesser_0 (N : Nat) (S : MS) (x0 : Int32) (x1 : Int32) : Option (Int32 × MS) :=
  if x1 ≤ x0 then
    bX5_lesser_10 N S x1
  else
    bX5_lesser_10 N S x0
noncomputable def fX5_lesser (N : Nat) (S : MS) (x0 : Int32) (x1 : Int32) : Option (Int32 × MS) := bX5_lesser_0 N S x0 x1
/-! given(III)I -/
abbrev rX5_given : Room := { frames := 1, cells := 0, slots := 0, locals := 21 }
noncomputable def bX5_given_0 (N : Nat) (S : MS) (x1 : Int32) (x2 : Int32) (x3 : Int32) : Option (Int32 × MS) :=
  mrd (S.2.2.1 6) 319 ((10 : Int32) + x1) (fun v_1 =>
  mbd (fX5_lesser N S x3 ((240 : Int32) - x2)) (fun r_3 S_4 =>
  mbd (fX5_lesser N S_4 v_1 r_3) (fun r_6 S_7 =>
  some (r_6, S_7))))
noncomputable def fX5_given (N : Nat) (S : MS) (x1 : Int32) (x2 : Int32) (x3 : Int32) : Option (Int32 × MS) := bX5_given_0 N S x1 x2 x3
/-! crosses(II)V -/
abbrev rX5_crosses : Room := { frames := 2, cells := 0, slots := 0, locals := 44 }
noncomputable def bX5_crosses_186 (N : Nat) (S : MS) : Option (Int32 × MS) :=
  some (0, S)
noncomputable def bX5_crosses_0 (N : Nat) (S : MS) (x1 : Int32) (x2 : Int32) : Option (Int32 × MS) :=
  mwr S 6 319 ((108 : Int32) + x1) x2 (fun S_1 =>
  mrd (S_1.2.2.1 6) 319 ((132 : Int32) + x1) (fun v_3 =>
  mwr S_1 6 319 ((132 : Int32) + x1) (v_3 + (1 : Int32)) (fun S_5 =>
  mrd (S_5.2.2.1 6) 319 (92 : Int32) (fun v_7 =>
  mwr S_5 6 319 (92 : Int32) (v_7 + (1 : Int32)) (fun S_9 =>
  mrd (S_9.2.2.1 6) 319 ((79 : Int32) + x1) (fun v_11 =>
  if x2 = v_11 then
    mrd (S_9.2.2.1 6) 319 ((114 : Int32) + x1) (fun v_39 =>
    mrd (S_9.2.2.1 6) 319 ((94 : Int32) + x2) (fun v_41 =>
    mbd (fX5_given N S_9 x2 v_39 v_41) (fun r_43 S_44 =>
    mrd (S_44.2.2.1 6) 319 ((94 : Int32) + x2) (fun v_46 =>
    mwr S_44 6 319 ((94 : Int32) + x2) (v_46 - r_43) (fun S_48 =>
    mrd (S_48.2.2.1 6) 319 ((114 : Int32) + x1) (fun v_50 =>
    mwr S_48 6 319 ((114 : Int32) + x1) (v_50 + r_43) (fun S_52 =>
    mrd (S_52.2.2.1 6) 319 ((126 : Int32) + x1) (fun v_54 =>
    mwr S_52 6 319 ((126 : Int32) + x1) (v_54 + r_43) (fun S_56 =>
    bX5_crosses_186 N S_56)))))))))
  else
    mbd (fX5_sparedIn N S_9 x1) (fun r_14 S_15 =>
    mbd (fX5_bitOf N S_15 r_14 x2) (fun r_17 S_18 =>
    if r_17 = 0 then
      mrd (S_18.2.2.1 6) 319 ((114 : Int32) + x1) (fun v_21 =>
      mrd (S_18.2.2.1 6) 319 ((3 : Int32) + x2) (fun v_23 =>
      mwr S_18 6 319 ((114 : Int32) + x1) (v_21 - v_23) (fun S_25 =>
      mrd (S_25.2.2.1 6) 319 ((94 : Int32) + x2) (fun v_27 =>
      mrd (S_25.2.2.1 6) 319 ((3 : Int32) + x2) (fun v_29 =>
      mwr S_25 6 319 ((94 : Int32) + x2) (v_27 + v_29) (fun S_31 =>
      mrd (S_31.2.2.1 6) 319 ((120 : Int32) + x1) (fun v_33 =>
      mrd (S_31.2.2.1 6) 319 ((3 : Int32) + x2) (fun v_35 =>
      mwr S_31 6 319 ((120 : Int32) + x1) (v_33 + v_35) (fun S_37 =>
      bX5_crosses_186 N S_37)))))))))
    else
      bX5_crosses_186 N S_18))))))))
noncomputable def fX5_crosses (N : Nat) (S : MS) (x1 : Int32) (x2 : Int32) : Option (Int32 × MS) := bX5_crosses_0 N S x1 x2
/-! cross(II)I -/
abbrev rX5_cross : Room := { frames := 4, cells := 0, slots := 0, locals := 89 }
noncomputable def bX5_cross_21 (N : Nat) (S : MS) : Option (Int32 × MS) :=
  some ((-1 : Int32), S)
noncomputable def bX5_cross_0 (N : Nat) (S : MS) (x1 : Int32) (x2 : Int32) : Option (Int32 × MS) :=
  mpt S 0 (0 : Int32) (fun S_1 =>
  mbd (fX5_isPerson N S_1 x1) (fun r_2 S_3 =>
  if r_2 = 0 then
    bX5_cross_21 N S_3
  else
    mbd (fX5_isLand N S_3 x2) (fun r_6 S_7 =>
    if r_6 = 0 then
      bX5_cross_21 N S_7
    else
      mbd (fX5_whyCross N S_7 x1 x2) (fun r_10 S_11 =>
      if r_10 ≤ 0 then
        mbd (fX5_keep N S_11) (fun _ S_15 =>
        mbd (fX5_crosses N S_15 x1 x2) (fun _ S_18 =>
        some ((0 : Int32), S_18)))
      else
        some (r_10, S_11)))))
noncomputable def fX5_cross (N : Nat) (S : MS) (x1 : Int32) (x2 : Int32) : Option (Int32 × MS) := bX5_cross_0 N S x1 x2
/-! whyPact(II)I -/
abbrev rX5_whyPact : Room := { frames := 1, cells := 0, slots := 0, locals := 21 }
noncomputable def bX5_whyPact_30 (N : Nat) (S : MS) (t0 : Int32) : Option (Int32 × MS) :=
  some (t0, S)
noncomputable def bX5_whyPact_0 (N : Nat) (S : MS) (x1 : Int32) (x2 : Int32) : Option (Int32 × MS) :=
  if x1 = x2 then
    bX5_whyPact_30 N S (1 : Int32)
  else
    mrd (S.2.2.1 6) 319 ((101 : Int32) + x1) (fun v_2 =>
    mbd (fX5_bitOf N S v_2 x2) (fun r_4 S_5 =>
    if r_4 = 0 then
      bX5_whyPact_30 N S_5 (0 : Int32)
    else
      bX5_whyPact_30 N S_5 (2 : Int32)))
noncomputable def fX5_whyPact (N : Nat) (S : MS) (x1 : Int32) (x2 : Int32) : Option (Int32 × MS) := bX5_whyPact_0 N S x1 x2
/-! pact(II)I -/
abbrev rX5_pact : Room := { frames := 2, cells := 0, slots := 0, locals := 43 }
noncomputable def bX5_pact_21 (N : Nat) (S : MS) : Option (Int32 × MS) :=
  some ((-1 : Int32), S)
noncomputable def bX5_pact_0 (N : Nat) (S : MS) (x1 : Int32) (x2 : Int32) : Option (Int32 × MS) :=
  mpt S 0 (0 : Int32) (fun S_1 =>
  mbd (fX5_isLand N S_1 x1) (fun r_2 S_3 =>
  if r_2 = 0 then
    bX5_pact_21 N S_3
  else
    mbd (fX5_isLand N S_3 x2) (fun r_6 S_7 =>
    if r_6 = 0 then
      bX5_pact_21 N S_7
    else
      mbd (fX5_whyPact N S_7 x1 x2) (fun r_10 S_11 =>
      if r_10 ≤ 0 then
        mbd (fX5_keep N S_11) (fun _ S_15 =>
        mrd (S_15.2.2.1 6) 319 ((101 : Int32) + x1) (fun v_17 =>
        mwr S_15 6 319 ((101 : Int32) + x1) (v_17 ||| ((1 : Int32) <<< (x2 &&& 31))) (fun S_19 =>
        some ((0 : Int32), S_19))))
      else
        some (r_10, S_11)))))
noncomputable def fX5_pact (N : Nat) (S : MS) (x1 : Int32) (x2 : Int32) : Option (Int32 × MS) := bX5_pact_0 N S x1 x2
/-! breaks(II)I -/
abbrev rX5_breaks : Room := { frames := 2, cells := 0, slots := 0, locals := 43 }
noncomputable def bX5_breaks_21 (N : Nat) (S : MS) : Option (Int32 × MS) :=
  some ((-1 : Int32), S)
noncomputable def bX5_breaks_0 (N : Nat) (S : MS) (x1 : Int32) (x2 : Int32) : Option (Int32 × MS) :=
  mpt S 0 (0 : Int32) (fun S_1 =>
  mbd (fX5_isLand N S_1 x1) (fun r_2 S_3 =>
  if r_2 = 0 then
    bX5_breaks_21 N S_3
  else
    mbd (fX5_isLand N S_3 x2) (fun r_6 S_7 =>
    if r_6 = 0 then
      bX5_breaks_21 N S_7
    else
      mrd (S_7.2.2.1 6) 319 ((101 : Int32) + x1) (fun v_10 =>
      mbd (fX5_bitOf N S_7 v_10 x2) (fun r_12 S_13 =>
      if r_12 = 0 then
        some ((1 : Int32), S_13)
      else
        mbd (fX5_keep N S_13) (fun _ S_17 =>
        mrd (S_17.2.2.1 6) 319 ((101 : Int32) + x1) (fun v_19 =>
        mwr S_17 6 319 ((101 : Int32) + x1) (v_19 ^^^ ((1 : Int32) <<< (x2 &&& 31))) (fun S_21 =>
        some ((0 : Int32), S_21)))))))))
noncomputable def fX5_breaks (N : Nat) (S : MS) (x1 : Int32) (x2 : Int32) : Option (Int32 × MS) := bX5_breaks_0 N S x1 x2
/-! whyTurn(IZ)I -/
abbrev rX5_whyTurn : Room := { frames := 2, cells := 0, slots := 0, locals := 42 }
noncomputable def bX5_whyTurn_28 (N : Nat) (S : MS) (t0 : Int32) : Option (Int32 × MS) :=
  some (t0, S)
noncomputable def bX5_whyTurn_0 (N : Nat) (S : MS) (x1 : Int32) (x2 : Int32) : Option (Int32 × MS) :=
  mrd (S.2.2.1 6) 319 (1 : Int32) (fun v_1 =>
  if x1 < v_1 then
    mbd (fX5_isOpen N S x1) (fun r_4 S_5 =>
    if r_4 = x2 then
      bX5_whyTurn_28 N S_5 (0 : Int32)
    else
      bX5_whyTurn_28 N S_5 (2 : Int32))
  else
    bX5_whyTurn_28 N S (1 : Int32))
noncomputable def fX5_whyTurn (N : Nat) (S : MS) (x1 : Int32) (x2 : Int32) : Option (Int32 × MS) := bX5_whyTurn_0 N S x1 x2
/-! turns(IZ)I -/
abbrev rX5_turns : Room := { frames := 3, cells := 0, slots := 0, locals := 64 }
noncomputable def bX5_turns_0 (N : Nat) (S : MS) (x1 : Int32) (x2 : Int32) : Option (Int32 × MS) :=
  mpt S 0 (0 : Int32) (fun S_1 =>
  mbd (fX5_isIn N S_1 x1 (0 : Int32) (11 : Int32)) (fun r_2 S_3 =>
  if r_2 = 0 then
    some ((-1 : Int32), S_3)
  else
    mbd (fX5_whyTurn N S_3 x1 x2) (fun r_6 S_7 =>
    if r_6 ≤ 0 then
      mbd (fX5_keep N S_7) (fun _ S_11 =>
      mrd (S_11.2.2.1 6) 319 (93 : Int32) (fun v_13 =>
      mwr S_11 6 319 (93 : Int32) (v_13 ^^^ ((1 : Int32) <<< (x1 &&& 31))) (fun S_15 =>
      some ((0 : Int32), S_15))))
    else
      some (r_6, S_7))))
noncomputable def fX5_turns (N : Nat) (S : MS) (x1 : Int32) (x2 : Int32) : Option (Int32 × MS) := bX5_turns_0 N S x1 x2
/-! close(I)I -/
abbrev rX5_close : Room := { frames := 4, cells := 0, slots := 0, locals := 87 }
noncomputable def bX5_close_0 (N : Nat) (S : MS) (x1 : Int32) : Option (Int32 × MS) :=
  mbd (fX5_turns N S x1 (1 : Int32)) (fun r_1 S_2 =>
  some (r_1, S_2))
noncomputable def fX5_close (N : Nat) (S : MS) (x1 : Int32) : Option (Int32 × MS) := bX5_close_0 N S x1
/-! open(I)I -/
abbrev rX5_open : Room := { frames := 4, cells := 0, slots := 0, locals := 87 }
noncomputable def bX5_open_0 (N : Nat) (S : MS) (x1 : Int32) : Option (Int32 × MS) :=
  mbd (fX5_turns N S x1 (0 : Int32)) (fun r_1 S_2 =>
  some (r_1, S_2))
noncomputable def fX5_open (N : Nat) (S : MS) (x1 : Int32) : Option (Int32 × MS) := bX5_open_0 N S x1
/-! whyLend(III)I -/
abbrev rX5_whyLend : Room := { frames := 0, cells := 0, slots := 0, locals := 0 }
noncomputable def bX5_whyLend_27 (N : Nat) (S : MS) (t0 : Int32) : Option (Int32 × MS) :=
  some (t0, S)
noncomputable def bX5_whyLend_0 (N : Nat) (S : MS) (x1 : Int32) (x2 : Int32) (x3 : Int32) : Option (Int32 × MS) :=
  if x1 = x2 then
    bX5_whyLend_27 N S (1 : Int32)
  else
    mrd (S.2.2.1 6) 319 ((94 : Int32) + x1) (fun v_2 =>
    if x3 ≤ v_2 then
      bX5_whyLend_27 N S (0 : Int32)
    else
      bX5_whyLend_27 N S (2 : Int32))
noncomputable def fX5_whyLend (N : Nat) (S : MS) (x1 : Int32) (x2 : Int32) (x3 : Int32) : Option (Int32 × MS) := bX5_whyLend_0 N S x1 x2 x3
/-! lends(III)V -/
abbrev rX5_lends : Room := { frames := 0, cells := 0, slots := 0, locals := 0 }
noncomputable def bX5_lends_0 (N : Nat) (S : MS) (x1 : Int32) (x2 : Int32) (x3 : Int32) : Option (Int32 × MS) :=
  mrd (S.2.2.1 6) 319 ((94 : Int32) + x1) (fun v_1 =>
  mwr S 6 319 ((94 : Int32) + x1) (v_1 - x3) (fun S_3 =>
  mrd (S_3.2.2.1 6) 319 ((94 : Int32) + x2) (fun v_5 =>
  mwr S_3 6 319 ((94 : Int32) + x2) (v_5 + x3) (fun S_7 =>
  some (0, S_7)))))
noncomputable def fX5_lends (N : Nat) (S : MS) (x1 : Int32) (x2 : Int32) (x3 : Int32) : Option (Int32 × MS) := bX5_lends_0 N S x1 x2 x3
/-! lend(III)I -/
abbrev rX5_lend : Room := { frames := 2, cells := 0, slots := 0, locals := 43 }
noncomputable def bX5_lend_31 (N : Nat) (S : MS) : Option (Int32 × MS) :=
  some ((-1 : Int32), S)
noncomputable def bX5_lend_0 (N : Nat) (S : MS) (x1 : Int32) (x2 : Int32) (x3 : Int32) : Option (Int32 × MS) :=
  mpt S 0 (0 : Int32) (fun S_1 =>
  mbd (fX5_isLand N S_1 x1) (fun r_2 S_3 =>
  if r_2 = 0 then
    bX5_lend_31 N S_3
  else
    mbd (fX5_isLand N S_3 x2) (fun r_6 S_7 =>
    if r_6 = 0 then
      bX5_lend_31 N S_7
    else
      mbd (fX5_isIn N S_7 x3 (1 : Int32) (99 : Int32)) (fun r_10 S_11 =>
      if r_10 = 0 then
        bX5_lend_31 N S_11
      else
        mbd (fX5_whyLend N S_11 x1 x2 x3) (fun r_14 S_15 =>
        if r_14 ≤ 0 then
          mbd (fX5_keep N S_15) (fun _ S_19 =>
          mbd (fX5_lends N S_19 x1 x2 x3) (fun _ S_22 =>
          some ((0 : Int32), S_22)))
        else
          some (r_14, S_15))))))
noncomputable def fX5_lend (N : Nat) (S : MS) (x1 : Int32) (x2 : Int32) (x3 : Int32) : Option (Int32 × MS) := bX5_lend_0 N S x1 x2 x3
/-! grows(I)Z -/
abbrev rX5_grows : Room := { frames := 0, cells := 0, slots := 0, locals := 0 }
noncomputable def bX5_grows_61 (N : Nat) (S : MS) (t0 : Int32) : Option (Int32 × MS) :=
  mzt t0 (some (t0, S))
noncomputable def bX5_grows_60 (N : Nat) (S : MS) : Option (Int32 × MS) :=
  bX5_grows_61 N S (0 : Int32)
noncomputable def bX5_grows_0 (N : Nat) (S : MS) (x1 : Int32) : Option (Int32 × MS) :=
  mrd (S.2.2.1 6) 319 ((108 : Int32) + x1) (fun v_1 =>
  mrd (S.2.2.1 6) 319 ((79 : Int32) + x1) (fun v_3 =>
  if v_1 = v_3 then
    mrd (S.2.2.1 6) 319 ((114 : Int32) + x1) (fun v_6 =>
    if (240 : Int32) ≤ v_6 then
      bX5_grows_60 N S
    else
      mrd (S.2.2.1 6) 319 ((79 : Int32) + x1) (fun v_9 =>
      mrd (S.2.2.1 6) 319 ((94 : Int32) + v_9) (fun v_11 =>
      if v_11 ≤ 0 then
        bX5_grows_60 N S
      else
        bX5_grows_61 N S (1 : Int32))))
  else
    bX5_grows_60 N S))
noncomputable def fX5_grows (N : Nat) (S : MS) (x1 : Int32) : Option (Int32 × MS) := bX5_grows_0 N S x1
/-! day()V -/
abbrev rX5_day : Room := { frames := 1, cells := 0, slots := 0, locals := 21 }
noncomputable def bX5_day_57 (N : Nat) (K2 : MS → Int32 → Option (Int32 × MS)) (S : MS) (x1 : Int32) : Option (Int32 × MS) :=
  K2 S (x1 + (1 : Int32))
noncomputable def bX5_day_2 (N : Nat) (K2 : MS → Int32 → Option (Int32 × MS)) (S : MS) (x1 : Int32) : Option (Int32 × MS) :=
  mrd (S.2.2.1 6) 319 (2 : Int32) (fun v_1 =>
  if v_1 ≤ x1 then
    mrd (S.2.2.1 6) 319 (91 : Int32) (fun v_4 =>
    mwr S 6 319 (91 : Int32) (v_4 + (1 : Int32)) (fun S_6 =>
    some (0, S_6)))
  else
    mbd (fX5_grows N S x1) (fun r_8 S_9 =>
    if r_8 = 0 then
      bX5_day_57 N K2 S_9 x1
    else
      mrd (S_9.2.2.1 6) 319 ((114 : Int32) + x1) (fun v_12 =>
      mwr S_9 6 319 ((114 : Int32) + x1) (v_12 + (1 : Int32)) (fun S_14 =>
      mrd (S_14.2.2.1 6) 319 ((79 : Int32) + x1) (fun v_16 =>
      mrd (S_14.2.2.1 6) 319 ((94 : Int32) + v_16) (fun v_18 =>
      mwr S_14 6 319 ((94 : Int32) + v_16) (v_18 - (1 : Int32)) (fun S_20 =>
      bX5_day_57 N K2 S_20 x1)))))))
noncomputable def bX5_day_2L (N : Nat) : Nat → MS → Int32 → Option (Int32 × MS)
  | 0 => fun _ _ => none
  | n + 1 => bX5_day_2 N (bX5_day_2L N n)
noncomputable def bX5_day_0 (N : Nat) (S : MS) : Option (Int32 × MS) :=
  bX5_day_2L N N S (0 : Int32)
noncomputable def fX5_day (N : Nat) (S : MS) : Option (Int32 × MS) := bX5_day_0 N S
/-! goesOn(I)I -/
abbrev rX5_goesOn : Room := { frames := 2, cells := 0, slots := 0, locals := 42 }
noncomputable def bX5_goesOn_30 (N : Nat) (S : MS) (x2 : Int32) : Option (Int32 × MS) :=
  some (x2, S)
noncomputable def bX5_goesOn_2 (N : Nat) (K2 : MS → Int32 → Int32 → Option (Int32 × MS)) (S : MS) (x1 : Int32) (x2 : Int32) : Option (Int32 × MS) :=
  if x1 ≤ x2 then
    bX5_goesOn_30 N S x2
  else
    mrd (S.2.2.1 6) 319 (91 : Int32) (fun v_2 =>
    if (400 : Int32) ≤ v_2 then
      bX5_goesOn_30 N S x2
    else
      mbd (fX5_day N S) (fun _ S_6 =>
      K2 S_6 x1 (x2 + (1 : Int32))))
noncomputable def bX5_goesOn_2L (N : Nat) : Nat → MS → Int32 → Int32 → Option (Int32 × MS)
  | 0 => fun _ _ _ => none
  | n + 1 => bX5_goesOn_2 N (bX5_goesOn_2L N n)
noncomputable def bX5_goesOn_0 (N : Nat) (S : MS) (x1 : Int32) : Option (Int32 × MS) :=
  bX5_goesOn_2L N N S x1 (0 : Int32)
noncomputable def fX5_goesOn (N : Nat) (S : MS) (x1 : Int32) : Option (Int32 × MS) := bX5_goesOn_0 N S x1
/-! days(I)I -/
abbrev rX5_days : Room := { frames := 3, cells := 0, slots := 0, locals := 64 }
noncomputable def bX5_days_0 (N : Nat) (S : MS) (x1 : Int32) : Option (Int32 × MS) :=
  mpt S 0 (0 : Int32) (fun S_1 =>
  mbd (fX5_isIn N S_1 x1 (1 : Int32) (60 : Int32)) (fun r_2 S_3 =>
  if r_2 = 0 then
    some ((-1 : Int32), S_3)
  else
    mrd (S_3.2.2.1 6) 319 (91 : Int32) (fun v_6 =>
    if v_6 = (400 : Int32) then
      some ((0 : Int32), S_3)
    else
      mbd (fX5_keep N S_3) (fun _ S_10 =>
      mbd (fX5_goesOn N S_10 x1) (fun r_12 S_13 =>
      some (r_12, S_13))))))
noncomputable def fX5_days (N : Nat) (S : MS) (x1 : Int32) : Option (Int32 × MS) := bX5_days_0 N S x1
/-! undo()I -/
abbrev rX5_undo : Room := { frames := 0, cells := 0, slots := 0, locals := 0 }
noncomputable def bX5_undo_26 (N : Nat) (K26 : MS → Int32 → Option (Int32 × MS)) (S : MS) (x1 : Int32) : Option (Int32 × MS) :=
  if (47 : Int32) ≤ x1 then
    some ((S.1 23), S)
  else
    mrd (S.2.2.1 21) 376 (((47 : Int32) * (S.1 23)) + x1) (fun v_2 =>
    mwr S 6 319 ((91 : Int32) + x1) v_2 (fun S_4 =>
    K26 S_4 (x1 + (1 : Int32))))
noncomputable def bX5_undo_26L (N : Nat) : Nat → MS → Int32 → Option (Int32 × MS)
  | 0 => fun _ _ => none
  | n + 1 => bX5_undo_26 N (bX5_undo_26L N n)
noncomputable def bX5_undo_0 (N : Nat) (S : MS) : Option (Int32 × MS) :=
  mpt S 0 (0 : Int32) (fun S_1 =>
  if (S_1.1 23) = 0 then
    some ((-1 : Int32), S_1)
  else
    mpt S_1 23 ((S_1.1 23) - (1 : Int32)) (fun S_3 =>
    bX5_undo_26L N N S_3 (0 : Int32)))
noncomputable def fX5_undo (N : Nat) (S : MS) : Option (Int32 × MS) := bX5_undo_0 N S
/-! starts(I)V -/
abbrev rX5_starts : Room := { frames := 1, cells := 0, slots := 0, locals := 21 }
noncomputable def bX5_starts_0 (N : Nat) (S : MS) (x1 : Int32) : Option (Int32 × MS) :=
  mrd (S.2.2.1 6) 319 ((79 : Int32) + x1) (fun v_1 =>
  mpt S 30 v_1 (fun S_3 =>
  mbd (fX5_sparedIn N S_3 x1) (fun r_4 S_5 =>
  mpt S_5 29 r_4 (fun S_7 =>
  mpt S_7 28 (0 : Int32) (fun S_8 =>
  mrd (S_8.2.2.1 6) 319 ((108 : Int32) + x1) (fun v_9 =>
  mwr S_8 24 6 (0 : Int32) v_9 (fun S_11 =>
  mrd (S_11.2.2.1 6) 319 ((114 : Int32) + x1) (fun v_13 =>
  mwr S_11 25 6 (0 : Int32) v_13 (fun S_15 =>
  mrd (S_15.2.2.1 6) 319 ((94 : Int32) + (S_15.1 30)) (fun v_17 =>
  mwr S_15 26 6 (0 : Int32) v_17 (fun S_19 =>
  mwr S_19 27 6 (0 : Int32) (-1 : Int32) (fun S_21 =>
  some (0, S_21)))))))))))))
noncomputable def fX5_starts (N : Nat) (S : MS) (x1 : Int32) : Option (Int32 × MS) := bX5_starts_0 N S x1
/-! steps(I)Z -/
abbrev rX5_steps : Room := { frames := 3, cells := 0, slots := 0, locals := 67 }
noncomputable def bX5_steps_126 (N : Nat) (S : MS) (x1 : Int32) (t1 : Int32) (t2 : Int32) (t3 : Int32) : Option (Int32 × MS) :=
  mwr S 25 6 t1 (t2 - t3) (fun S_1 =>
  mwr S_1 27 6 (x1 + (1 : Int32)) (-1 : Int32) (fun S_3 =>
  mzt (1 : Int32) (some ((1 : Int32), S_3))))
noncomputable def bX5_steps_62 (N : Nat) (S : MS) (x1 : Int32) (x2 : Int32) (t0 : Int32) : Option (Int32 × MS) :=
  mwr S 24 6 (x1 + (1 : Int32)) x2 (fun S_1 =>
  mrd (S_1.2.2.1 26) 6 x1 (fun v_3 =>
  mwr S_1 26 6 (x1 + (1 : Int32)) (v_3 - t0) (fun S_5 =>
  mrd (S_5.2.2.1 25) 6 x1 (fun v_7 =>
  mbd (fX5_bitOf N S_5 (S_5.1 29) x2) (fun r_9 S_10 =>
  if r_9 = 0 then
    mrd (S_10.2.2.1 6) 319 ((3 : Int32) + x2) (fun v_13 =>
    bX5_steps_126 N S_10 x1 (x1 + (1 : Int32)) (v_7 + t0) v_13)
  else
    bX5_steps_126 N S_10 x1 (x1 + (1 : Int32)) (v_7 + t0) (0 : Int32))))))
noncomputable def bX5_steps_0 (N : Nat) (S : MS) (x1 : Int32) : Option (Int32 × MS) :=
  mrd (S.2.2.1 27) 6 x1 (fun v_1 =>
  mrd (S.2.2.1 24) 6 x1 (fun v_3 =>
  mrd (S.2.2.1 25) 6 x1 (fun v_5 =>
  mbd (fX5_whyBy N S v_3 v_1 v_5 (S.1 29)) (fun r_7 S_8 =>
  if r_7 ≤ 0 then
    if v_1 = (S_8.1 30) then
      mrd (S_8.2.2.1 25) 6 x1 (fun v_12 =>
      mrd (S_8.2.2.1 26) 6 x1 (fun v_14 =>
      mbd (fX5_given N S_8 v_1 v_12 v_14) (fun r_16 S_17 =>
      bX5_steps_62 N S_17 x1 v_1 r_16)))
    else
      bX5_steps_62 N S_8 x1 v_1 (0 : Int32)
  else
    mzt (0 : Int32) (some ((0 : Int32), S_8))))))
noncomputable def fX5_steps (N : Nat) (S : MS) (x1 : Int32) : Option (Int32 × MS) := bX5_steps_0 N S x1
/-! goesTo(I)Z -/
abbrev rX5_goesTo : Room := { frames := 4, cells := 0, slots := 0, locals := 90 }
noncomputable def bX5_goesTo_18 (N : Nat) (K18 : MS → Int32 → Option (Int32 × MS)) (S : MS) (x1 : Int32) : Option (Int32 × MS) :=
  if (S.1 28) < 0 then
    mzt (0 : Int32) (some ((0 : Int32), S))
  else
    mrd (S.2.2.1 27) 6 (S.1 28) (fun v_2 =>
    mwr S 27 6 (S.1 28) (v_2 + (1 : Int32)) (fun S_4 =>
    mrd (S_4.2.2.1 27) 6 (S_4.1 28) (fun v_6 =>
    mrd (S_4.2.2.1 6) 319 (0 : Int32) (fun v_8 =>
    if v_6 < v_8 then
      mbd (fX5_steps N S_4 (S_4.1 28)) (fun r_11 S_12 =>
      if r_11 = 0 then
        K18 S_12 x1
      else
        mpt S_12 28 ((S_12.1 28) + (1 : Int32)) (fun S_15 =>
        if (S_15.1 28) = x1 then
          mzt (1 : Int32) (some ((1 : Int32), S_15))
        else
          K18 S_15 x1))
    else
      mpt S_4 28 ((S_4.1 28) - (1 : Int32)) (fun S_17 =>
      K18 S_17 x1)))))
noncomputable def bX5_goesTo_18L (N : Nat) : Nat → MS → Int32 → Option (Int32 × MS)
  | 0 => fun _ _ => none
  | n + 1 => bX5_goesTo_18 N (bX5_goesTo_18L N n)
noncomputable def bX5_goesTo_0 (N : Nat) (S : MS) (x1 : Int32) : Option (Int32 × MS) :=
  if (S.1 28) = x1 then
    mpt S 28 ((S.1 28) - (1 : Int32)) (fun S_2 =>
    bX5_goesTo_18L N N S_2 x1)
  else
    bX5_goesTo_18L N N S x1
noncomputable def fX5_goesTo (N : Nat) (S : MS) (x1 : Int32) : Option (Int32 × MS) := bX5_goesTo_0 N S x1
/-! fewest(IIII)I -/
abbrev rX5_fewest : Room := { frames := 5, cells := 0, slots := 0, locals := 111 }
noncomputable def bX5_fewest_91 (N : Nat) (K3 : MS → Int32 → Int32 → Int32 → Int32 → Int32 → Option (Int32 × MS)) (S : MS) (x1 : Int32) (x2 : Int32) (x3 : Int32) (x4 : Int32) (x5 : Int32) : Option (Int32 × MS) :=
  K3 S x1 x2 x3 x4 (x5 + (1 : Int32))
noncomputable def bX5_fewest_52 (N : Nat) (K3 : MS → Int32 → Int32 → Int32 → Int32 → Int32 → Option (Int32 × MS)) (K52 : MS → Int32 → Int32 → Int32 → Int32 → Int32 → Option (Int32 × MS)) (S : MS) (x1 : Int32) (x2 : Int32) (x3 : Int32) (x4 : Int32) (x5 : Int32) : Option (Int32 × MS) :=
  if x5 ≤ 0 then
    bX5_fewest_91 N K3 S x1 x2 x3 x4 x5
  else
    mbd (fX5_goesTo N S x5) (fun r_2 S_3 =>
    if r_2 = 0 then
      bX5_fewest_91 N K3 S_3 x1 x2 x3 x4 x5
    else
      mrd (S_3.2.2.1 24) 6 x5 (fun v_6 =>
      if v_6 = x2 then
        mrd (S_3.2.2.1 25) 6 x5 (fun v_9 =>
        if v_9 < x3 then
          K52 S_3 x1 x2 x3 x4 x5
        else
          some (x5, S_3))
      else
        K52 S_3 x1 x2 x3 x4 x5))
noncomputable def bX5_fewest_52L (N : Nat) (K3 : MS → Int32 → Int32 → Int32 → Int32 → Int32 → Option (Int32 × MS)) : Nat → MS → Int32 → Int32 → Int32 → Int32 → Int32 → Option (Int32 × MS)
  | 0 => fun _ _ _ _ _ _ => none
  | n + 1 => bX5_fewest_52 N K3 (bX5_fewest_52L N K3 n)
noncomputable def bX5_fewest_3 (N : Nat) (K3 : MS → Int32 → Int32 → Int32 → Int32 → Int32 → Option (Int32 × MS)) (S : MS) (x1 : Int32) (x2 : Int32) (x3 : Int32) (x4 : Int32) (x5 : Int32) : Option (Int32 × MS) :=
  if (5 : Int32) < x5 then
    some ((1000000 : Int32), S)
  else
    mbd (fX5_starts N S x1) (fun _ S_3 =>
    mpt S_3 29 ((S_3.1 29) ||| x4) (fun S_5 =>
    if x5 = 0 then
      mrd (S_5.2.2.1 24) 6 (0 : Int32) (fun v_7 =>
      if v_7 = x2 then
        mrd (S_5.2.2.1 25) 6 (0 : Int32) (fun v_10 =>
        if v_10 < x3 then
          bX5_fewest_52L N K3 N S_5 x1 x2 x3 x4 x5
        else
          some ((0 : Int32), S_5))
      else
        bX5_fewest_52L N K3 N S_5 x1 x2 x3 x4 x5)
    else
      bX5_fewest_52L N K3 N S_5 x1 x2 x3 x4 x5))
noncomputable def bX5_fewest_3L (N : Nat) : Nat → MS → Int32 → Int32 → Int32 → Int32 → Int32 → Option (Int32 × MS)
  | 0 => fun _ _ _ _ _ _ => none
  | n + 1 => bX5_fewest_3 N (bX5_fewest_3L N n)
noncomputable def bX5_fewest_0 (N : Nat) (S : MS) (x1 : Int32) (x2 : Int32) (x3 : Int32) (x4 : Int32) : Option (Int32 × MS) :=
  bX5_fewest_3L N N S x1 x2 x3 x4 (0 : Int32)
noncomputable def fX5_fewest (N : Nat) (S : MS) (x1 : Int32) (x2 : Int32) (x3 : Int32) (x4 : Int32) : Option (Int32 × MS) := bX5_fewest_0 N S x1 x2 x3 x4
/-! way(III)I -/
abbrev rX5_way : Room := { frames := 6, cells := 0, slots := 0, locals := 136 }
noncomputable def bX5_way_32 (N : Nat) (S : MS) : Option (Int32 × MS) :=
  some ((-1 : Int32), S)
noncomputable def bX5_way_63 (N : Nat) (K63 : MS → Int32 → Int32 → Option (Int32 × MS)) (S : MS) (x4 : Int32) (x5 : Int32) : Option (Int32 × MS) :=
  if x4 ≤ x5 then
    some (x4, S)
  else
    mrd (S.2.2.1 27) 6 x5 (fun v_2 =>
    mwr S 31 5 x5 v_2 (fun S_4 =>
    K63 S_4 x4 (x5 + (1 : Int32))))
noncomputable def bX5_way_63L (N : Nat) : Nat → MS → Int32 → Int32 → Option (Int32 × MS)
  | 0 => fun _ _ _ => none
  | n + 1 => bX5_way_63 N (bX5_way_63L N n)
noncomputable def bX5_way_0 (N : Nat) (S : MS) (x1 : Int32) (x2 : Int32) (x3 : Int32) : Option (Int32 × MS) :=
  mpt S 0 (0 : Int32) (fun S_1 =>
  mbd (fX5_isPerson N S_1 x1) (fun r_2 S_3 =>
  if r_2 = 0 then
    bX5_way_32 N S_3
  else
    mbd (fX5_isLand N S_3 x2) (fun r_6 S_7 =>
    if r_6 = 0 then
      bX5_way_32 N S_7
    else
      mbd (fX5_isIn N S_7 x3 (0 : Int32) (240 : Int32)) (fun r_10 S_11 =>
      if r_10 = 0 then
        bX5_way_32 N S_11
      else
        mbd (fX5_fewest N S_11 x1 x2 x3 (0 : Int32)) (fun r_14 S_15 =>
        if r_14 = (1000000 : Int32) then
          some ((-1 : Int32), S_15)
        else
          mpt S_15 34 r_14 (fun S_18 =>
          bX5_way_63L N N S_18 r_14 (0 : Int32)))))))
noncomputable def fX5_way (N : Nat) (S : MS) (x1 : Int32) (x2 : Int32) (x3 : Int32) : Option (Int32 × MS) := bX5_way_0 N S x1 x2 x3
/-! wayAt(I)I -/
abbrev rX5_wayAt : Room := { frames := 1, cells := 0, slots := 0, locals := 22 }
noncomputable def bX5_wayAt_29 (N : Nat) (S : MS) (t0 : Int32) : Option (Int32 × MS) :=
  some (t0, S)
noncomputable def bX5_wayAt_0 (N : Nat) (S : MS) (x1 : Int32) : Option (Int32 × MS) :=
  mpt S 0 (0 : Int32) (fun S_1 =>
  mbd (fX5_isIn N S_1 x1 (0 : Int32) ((S_1.1 34) - (1 : Int32))) (fun r_2 S_3 =>
  if r_2 = 0 then
    bX5_wayAt_29 N S_3 (-1 : Int32)
  else
    mrd (S_3.2.2.1 31) 5 x1 (fun v_6 =>
    bX5_wayAt_29 N S_3 v_6)))
noncomputable def fX5_wayAt (N : Nat) (S : MS) (x1 : Int32) : Option (Int32 × MS) := bX5_wayAt_0 N S x1
/-! greater(II)I -/
abbrev rX5_greater : Room := { frames := 0, cells := 0, slots := 0, locals := 0 }
noncomputable def bX5_greater_10 (N : Nat) (S : MS) (t0 : Int32) : Option (Int32 × MS) :=
  some (t0, S)
noncomputable def bX5_greater_0 (N : Nat) (S : MS) (x0 : Int32) (x1 : Int32) : Option (Int32 × MS) :=
  if x0 ≤ x1 then
    bX5_greater_10 N S x1
  else
    bX5_greater_10 N S x0
noncomputable def fX5_greater (N : Nat) (S : MS) (x0 : Int32) (x1 : Int32) : Option (Int32 × MS) := bX5_greater_0 N S x0 x1
/-! round(I)I -/
abbrev rX5_round : Room := { frames := 5, cells := 0, slots := 0, locals := 111 }
noncomputable def bX5_round_29 (N : Nat) (K19 : MS → Int32 → Int32 → Int32 → Option (Int32 × MS)) (K29 : MS → Int32 → Int32 → Int32 → Option (Int32 × MS)) (S : MS) (x1 : Int32) (x2 : Int32) (x3 : Int32) : Option (Int32 × MS) :=
  mbd (fX5_goesTo N S x3) (fun r_1 S_2 =>
  if r_1 = 0 then
    K19 S_2 x1 x2 (x3 + (1 : Int32))
  else
    mrd (S_2.2.2.1 24) 6 x3 (fun v_5 =>
    mrd (S_2.2.2.1 24) 6 (0 : Int32) (fun v_7 =>
    if v_5 = v_7 then
      mrd (S_2.2.2.1 25) 6 x3 (fun v_10 =>
      mbd (fX5_greater N S_2 x2 v_10) (fun r_12 S_13 =>
      K29 S_13 x1 r_12 x3))
    else
      K29 S_2 x1 x2 x3)))
noncomputable def bX5_round_29L (N : Nat) (K19 : MS → Int32 → Int32 → Int32 → Option (Int32 × MS)) : Nat → MS → Int32 → Int32 → Int32 → Option (Int32 × MS)
  | 0 => fun _ _ _ _ => none
  | n + 1 => bX5_round_29 N K19 (bX5_round_29L N K19 n)
noncomputable def bX5_round_19 (N : Nat) (K19 : MS → Int32 → Int32 → Int32 → Option (Int32 × MS)) (S : MS) (x1 : Int32) (x2 : Int32) (x3 : Int32) : Option (Int32 × MS) :=
  if (5 : Int32) < x3 then
    some (x2, S)
  else
    mbd (fX5_starts N S x1) (fun _ S_3 =>
    bX5_round_29L N K19 N S_3 x1 x2 x3)
noncomputable def bX5_round_19L (N : Nat) : Nat → MS → Int32 → Int32 → Int32 → Option (Int32 × MS)
  | 0 => fun _ _ _ _ => none
  | n + 1 => bX5_round_19 N (bX5_round_19L N n)
noncomputable def bX5_round_0 (N : Nat) (S : MS) (x1 : Int32) : Option (Int32 × MS) :=
  mpt S 0 (0 : Int32) (fun S_1 =>
  mbd (fX5_isPerson N S_1 x1) (fun r_2 S_3 =>
  if r_2 = 0 then
    some ((-1 : Int32), S_3)
  else
    bX5_round_19L N N S_3 x1 (-1 : Int32) (1 : Int32)))
noncomputable def fX5_round (N : Nat) (S : MS) (x1 : Int32) : Option (Int32 × MS) := bX5_round_0 N S x1
/-! spare(III)I -/
abbrev rX5_spare : Room := { frames := 6, cells := 0, slots := 0, locals := 136 }
noncomputable def bX5_spare_32 (N : Nat) (S : MS) : Option (Int32 × MS) :=
  some ((-1 : Int32), S)
noncomputable def bX5_spare_108 (N : Nat) (K47 : MS → Int32 → Int32 → Int32 → Int32 → Int32 → Int32 → Option (Int32 × MS)) (S : MS) (x1 : Int32) (x2 : Int32) (x3 : Int32) (x4 : Int32) (x5 : Int32) (x6 : Int32) : Option (Int32 × MS) :=
  K47 S x1 x2 x3 x4 x5 (x6 + (1 : Int32))
noncomputable def bX5_spare_89 (N : Nat) (K47 : MS → Int32 → Int32 → Int32 → Int32 → Int32 → Int32 → Option (Int32 × MS)) (S : MS) (x1 : Int32) (x2 : Int32) (x3 : Int32) (x4 : Int32) (x5 : Int32) (x6 : Int32) : Option (Int32 × MS) :=
  mbd (fX5_fewest N S x1 x2 x3 x6) (fun r_1 S_2 =>
  if (1000000 : Int32) ≤ r_1 then
    bX5_spare_108 N K47 S_2 x1 x2 x3 x4 x5 x6
  else
    bX5_spare_108 N K47 S_2 x1 x2 x3 x4 x6 x6)
noncomputable def bX5_spare_47 (N : Nat) (K47 : MS → Int32 → Int32 → Int32 → Int32 → Int32 → Int32 → Option (Int32 × MS)) (S : MS) (x1 : Int32) (x2 : Int32) (x3 : Int32) (x4 : Int32) (x5 : Int32) (x6 : Int32) : Option (Int32 × MS) :=
  mrd (S.2.2.1 6) 319 (0 : Int32) (fun v_1 =>
  if ((1 : Int32) <<< (v_1 &&& 31)) ≤ x6 then
    if 0 ≤ x5 then
      mzt (1 : Int32) (mpt S 38 (1 : Int32) (fun S_5 =>
      mpt S_5 37 x5 (fun S_7 =>
      mbd (fX5_bits N S_7 x5) (fun r_8 S_9 =>
      some (r_8, S_9)))))
    else
      some ((-1 : Int32), S)
  else
    if (x6 &&& x4) = 0 then
      if x5 < 0 then
        bX5_spare_89 N K47 S x1 x2 x3 x4 x5 x6
      else
        mbd (fX5_bits N S x6) (fun r_13 S_14 =>
        mbd (fX5_bits N S_14 x5) (fun r_16 S_17 =>
        if r_13 < r_16 then
          bX5_spare_89 N K47 S_17 x1 x2 x3 x4 x5 x6
        else
          bX5_spare_108 N K47 S_17 x1 x2 x3 x4 x5 x6))
    else
      bX5_spare_108 N K47 S x1 x2 x3 x4 x5 x6)
noncomputable def bX5_spare_47L (N : Nat) : Nat → MS → Int32 → Int32 → Int32 → Int32 → Int32 → Int32 → Option (Int32 × MS)
  | 0 => fun _ _ _ _ _ _ _ => none
  | n + 1 => bX5_spare_47 N (bX5_spare_47L N n)
noncomputable def bX5_spare_0 (N : Nat) (S : MS) (x1 : Int32) (x2 : Int32) (x3 : Int32) : Option (Int32 × MS) :=
  mpt S 0 (0 : Int32) (fun S_1 =>
  mbd (fX5_isPerson N S_1 x1) (fun r_2 S_3 =>
  if r_2 = 0 then
    bX5_spare_32 N S_3
  else
    mbd (fX5_isLand N S_3 x2) (fun r_6 S_7 =>
    if r_6 = 0 then
      bX5_spare_32 N S_7
    else
      mbd (fX5_isIn N S_7 x3 (0 : Int32) (240 : Int32)) (fun r_10 S_11 =>
      if r_10 = 0 then
        bX5_spare_32 N S_11
      else
        mbd (fX5_sparedIn N S_11 x1) (fun r_14 S_15 =>
        bX5_spare_47L N N S_15 x1 x2 x3 r_14 (-1 : Int32) (0 : Int32))))))
noncomputable def fX5_spare (N : Nat) (S : MS) (x1 : Int32) (x2 : Int32) (x3 : Int32) : Option (Int32 × MS) := bX5_spare_0 N S x1 x2 x3
/-! spared()I -/
abbrev rX5_spared : Room := { frames := 0, cells := 0, slots := 0, locals := 0 }
noncomputable def bX5_spared_20 (N : Nat) (S : MS) (t0 : Int32) : Option (Int32 × MS) :=
  some (t0, S)
noncomputable def bX5_spared_0 (N : Nat) (S : MS) : Option (Int32 × MS) :=
  mpt S 0 (0 : Int32) (fun S_1 =>
  if (S_1.1 38) = 0 then
    bX5_spared_20 N S_1 (-1 : Int32)
  else
    bX5_spared_20 N S_1 (S_1.1 37))
noncomputable def fX5_spared (N : Nat) (S : MS) : Option (Int32 × MS) := bX5_spared_0 N S
/-! octet(I)I -/
abbrev rX5_octet : Room := { frames := 0, cells := 0, slots := 0, locals := 0 }
noncomputable def bX5_octet_0 (N : Nat) (S : MS) (x1 : Int32) : Option (Int32 × MS) :=
  mrd (S.2.2.1 1) 940 x1 (fun v_1 =>
  some ((v_1 &&& (255 : Int32)), S))
noncomputable def fX5_octet (N : Nat) (S : MS) (x1 : Int32) : Option (Int32 × MS) := bX5_octet_0 N S x1
/-! made()I -/
abbrev rX5_made : Room := { frames := 5, cells := 0, slots := 0, locals := 111 }
noncomputable def bX5_made_32 (N : Nat) (S : MS) : Option (Int32 × MS) :=
  some ((-1 : Int32), S)
noncomputable def bX5_made_132 (N : Nat) (K59 : MS → Int32 → Int32 → Option (Int32 × MS)) (K73 : MS → Int32 → Int32 → Option (Int32 × MS)) (S : MS) (x1 : Int32) (x2 : Int32) : Option (Int32 × MS) :=
  mrd (S.2.2.1 24) 6 x2 (fun v_1 =>
  mrd (S.2.2.1 33) 7 v_1 (fun v_3 =>
  mwr S 33 7 v_1 (v_3 + (1 : Int32)) (fun S_5 =>
  K73 S_5 (x1 + (1 : Int32)) x2)))
noncomputable def bX5_made_109 (N : Nat) (K59 : MS → Int32 → Int32 → Option (Int32 × MS)) (K73 : MS → Int32 → Int32 → Option (Int32 × MS)) (K109 : MS → Int32 → Int32 → Int32 → Option (Int32 × MS)) (S : MS) (x1 : Int32) (x2 : Int32) (x3 : Int32) : Option (Int32 × MS) :=
  if x2 ≤ x3 then
    bX5_made_132 N K59 K73 S x1 x2
  else
    mrd (S.2.2.1 27) 6 x3 (fun v_2 =>
    mwr S 32 4 x3 v_2 (fun S_4 =>
    K109 S_4 x1 x2 (x3 + (1 : Int32))))
noncomputable def bX5_made_109L (N : Nat) (K59 : MS → Int32 → Int32 → Option (Int32 × MS)) (K73 : MS → Int32 → Int32 → Option (Int32 × MS)) : Nat → MS → Int32 → Int32 → Int32 → Option (Int32 × MS)
  | 0 => fun _ _ _ _ => none
  | n + 1 => bX5_made_109 N K59 K73 (bX5_made_109L N K59 K73 n)
noncomputable def bX5_made_73 (N : Nat) (K59 : MS → Int32 → Int32 → Option (Int32 × MS)) (K73 : MS → Int32 → Int32 → Option (Int32 × MS)) (S : MS) (x1 : Int32) (x2 : Int32) : Option (Int32 × MS) :=
  mbd (fX5_goesTo N S x2) (fun r_1 S_2 =>
  if r_1 = 0 then
    K59 S_2 x1 (x2 + (1 : Int32))
  else
    mrd (S_2.2.2.1 25) 6 x2 (fun v_5 =>
    mbd (fX5_octet N S_2 (1 : Int32)) (fun r_7 S_8 =>
    if v_5 = r_7 then
      if x1 = 0 then
        mpt S_8 35 x2 (fun S_12 =>
        bX5_made_109L N K59 K73 N S_12 x1 x2 (0 : Int32))
      else
        bX5_made_132 N K59 K73 S_8 x1 x2
    else
      K73 S_8 x1 x2)))
noncomputable def bX5_made_73L (N : Nat) (K59 : MS → Int32 → Int32 → Option (Int32 × MS)) : Nat → MS → Int32 → Int32 → Option (Int32 × MS)
  | 0 => fun _ _ _ => none
  | n + 1 => bX5_made_73 N K59 (bX5_made_73L N K59 n)
noncomputable def bX5_made_205 (N : Nat) (K172 : MS → Int32 → Int32 → Option (Int32 × MS)) (S : MS) (x1 : Int32) (x2 : Int32) : Option (Int32 × MS) :=
  K172 S x1 (x2 + (1 : Int32))
noncomputable def bX5_made_172 (N : Nat) (K172 : MS → Int32 → Int32 → Option (Int32 × MS)) (S : MS) (x1 : Int32) (x2 : Int32) : Option (Int32 × MS) :=
  mrd (S.2.2.1 6) 319 (0 : Int32) (fun v_1 =>
  if v_1 ≤ x2 then
    some (x1, S)
  else
    mrd (S.2.2.1 33) 7 x2 (fun v_4 =>
    mrd (S.2.2.1 33) 7 (S.1 36) (fun v_6 =>
    if v_4 ≤ v_6 then
      bX5_made_205 N K172 S x1 x2
    else
      mpt S 36 x2 (fun S_9 =>
      bX5_made_205 N K172 S_9 x1 x2))))
noncomputable def bX5_made_172L (N : Nat) : Nat → MS → Int32 → Int32 → Option (Int32 × MS)
  | 0 => fun _ _ _ => none
  | n + 1 => bX5_made_172 N (bX5_made_172L N n)
noncomputable def bX5_made_59 (N : Nat) (K59 : MS → Int32 → Int32 → Option (Int32 × MS)) (S : MS) (x1 : Int32) (x2 : Int32) : Option (Int32 × MS) :=
  if (5 : Int32) ≤ x2 then
    if x1 = 0 then
      some ((0 : Int32), S)
    else
      mpt S 36 (0 : Int32) (fun S_3 =>
      bX5_made_172L N N S_3 x1 (1 : Int32))
  else
    mbd (fX5_octet N S (0 : Int32)) (fun r_4 S_5 =>
    mbd (fX5_starts N S_5 r_4) (fun _ S_8 =>
    bX5_made_73L N K59 N S_8 x1 x2))
noncomputable def bX5_made_59L (N : Nat) : Nat → MS → Int32 → Int32 → Option (Int32 × MS)
  | 0 => fun _ _ _ => none
  | n + 1 => bX5_made_59 N (bX5_made_59L N n)
noncomputable def bX5_made_38 (N : Nat) (K38 : MS → Int32 → Int32 → Option (Int32 × MS)) (S : MS) (x1 : Int32) (x2 : Int32) : Option (Int32 × MS) :=
  if (7 : Int32) ≤ x2 then
    bX5_made_59L N N S x1 (1 : Int32)
  else
    mwr S 33 7 x2 (0 : Int32) (fun S_2 =>
    K38 S_2 x1 (x2 + (1 : Int32)))
noncomputable def bX5_made_38L (N : Nat) : Nat → MS → Int32 → Int32 → Option (Int32 × MS)
  | 0 => fun _ _ _ => none
  | n + 1 => bX5_made_38 N (bX5_made_38L N n)
noncomputable def bX5_made_0 (N : Nat) (S : MS) : Option (Int32 × MS) :=
  mpt S 0 (0 : Int32) (fun S_1 =>
  mbd (fX5_taken N S_1 (940 : Int32)) (fun _ S_3 =>
  if (S_3.1 3) = (2 : Int32) then
    mbd (fX5_octet N S_3 (0 : Int32)) (fun r_6 S_7 =>
    mbd (fX5_isPerson N S_7 r_6) (fun r_9 S_10 =>
    if r_9 = 0 then
      bX5_made_32 N S_10
    else
      bX5_made_38L N N S_10 (0 : Int32) (0 : Int32)))
  else
    bX5_made_32 N S_3))
noncomputable def fX5_made (N : Nat) (S : MS) : Option (Int32 × MS) := bX5_made_0 N S
/-! madeAt(I)I -/
abbrev rX5_madeAt : Room := { frames := 1, cells := 0, slots := 0, locals := 22 }
noncomputable def bX5_madeAt_29 (N : Nat) (S : MS) (t0 : Int32) : Option (Int32 × MS) :=
  some (t0, S)
noncomputable def bX5_madeAt_0 (N : Nat) (S : MS) (x1 : Int32) : Option (Int32 × MS) :=
  mpt S 0 (0 : Int32) (fun S_1 =>
  mbd (fX5_isIn N S_1 x1 (0 : Int32) ((S_1.1 35) - (1 : Int32))) (fun r_2 S_3 =>
  if r_2 = 0 then
    bX5_madeAt_29 N S_3 (-1 : Int32)
  else
    mrd (S_3.2.2.1 32) 4 x1 (fun v_6 =>
    bX5_madeAt_29 N S_3 v_6)))
noncomputable def fX5_madeAt (N : Nat) (S : MS) (x1 : Int32) : Option (Int32 × MS) := bX5_madeAt_0 N S x1
/-! likely()I -/
abbrev rX5_likely : Room := { frames := 0, cells := 0, slots := 0, locals := 0 }
noncomputable def bX5_likely_20 (N : Nat) (S : MS) (t0 : Int32) : Option (Int32 × MS) :=
  some (t0, S)
noncomputable def bX5_likely_0 (N : Nat) (S : MS) : Option (Int32 × MS) :=
  mpt S 0 (0 : Int32) (fun S_1 =>
  if (S_1.1 35) ≤ 0 then
    bX5_likely_20 N S_1 (-1 : Int32)
  else
    bX5_likely_20 N S_1 (S_1.1 36))
noncomputable def fX5_likely (N : Nat) (S : MS) : Option (Int32 × MS) := bX5_likely_0 N S
/-! tries()V -/
abbrev rX5_tries : Room := { frames := 0, cells := 0, slots := 0, locals := 0 }
noncomputable def bX5_tries_2 (N : Nat) (K2 : MS → Int32 → Option (Int32 × MS)) (S : MS) (x1 : Int32) : Option (Int32 × MS) :=
  if (47 : Int32) ≤ x1 then
    some (0, S)
  else
    mrd (S.2.2.1 6) 319 ((91 : Int32) + x1) (fun v_2 =>
    mwr S 22 47 x1 v_2 (fun S_4 =>
    K2 S_4 (x1 + (1 : Int32))))
noncomputable def bX5_tries_2L (N : Nat) : Nat → MS → Int32 → Option (Int32 × MS)
  | 0 => fun _ _ => none
  | n + 1 => bX5_tries_2 N (bX5_tries_2L N n)
noncomputable def bX5_tries_0 (N : Nat) (S : MS) : Option (Int32 × MS) :=
  bX5_tries_2L N N S (0 : Int32)
noncomputable def fX5_tries (N : Nat) (S : MS) : Option (Int32 × MS) := bX5_tries_0 N S
/-! back()V -/
abbrev rX5_back : Room := { frames := 0, cells := 0, slots := 0, locals := 0 }
noncomputable def bX5_back_2 (N : Nat) (K2 : MS → Int32 → Option (Int32 × MS)) (S : MS) (x1 : Int32) : Option (Int32 × MS) :=
  if (47 : Int32) ≤ x1 then
    some (0, S)
  else
    mrd (S.2.2.1 22) 47 x1 (fun v_2 =>
    mwr S 6 319 ((91 : Int32) + x1) v_2 (fun S_4 =>
    K2 S_4 (x1 + (1 : Int32))))
noncomputable def bX5_back_2L (N : Nat) : Nat → MS → Int32 → Option (Int32 × MS)
  | 0 => fun _ _ => none
  | n + 1 => bX5_back_2 N (bX5_back_2L N n)
noncomputable def bX5_back_0 (N : Nat) (S : MS) : Option (Int32 × MS) :=
  bX5_back_2L N N S (0 : Int32)
noncomputable def fX5_back (N : Nat) (S : MS) : Option (Int32 × MS) := bX5_back_0 N S
/-! reorders(I)Z -/
abbrev rX5_reorders : Room := { frames := 0, cells := 0, slots := 0, locals := 0 }
noncomputable def bX5_reorders_100 (N : Nat) (K100 : MS → Int32 → Int32 → Option (Int32 × MS)) (S : MS) (x5 : Int32) (x6 : Int32) : Option (Int32 × MS) :=
  if x6 ≤ x5 then
    mzt (1 : Int32) (some ((1 : Int32), S))
  else
    mrd (S.2.2.1 39) 6 x5 (fun v_2 =>
    mrd (S.2.2.1 39) 6 x6 (fun v_4 =>
    mwr S 39 6 x5 v_4 (fun S_6 =>
    mwr S_6 39 6 x6 v_2 (fun S_8 =>
    K100 S_8 (x5 + (1 : Int32)) (x6 + (-1 : Int32))))))
noncomputable def bX5_reorders_100L (N : Nat) : Nat → MS → Int32 → Int32 → Option (Int32 × MS)
  | 0 => fun _ _ _ => none
  | n + 1 => bX5_reorders_100 N (bX5_reorders_100L N n)
noncomputable def bX5_reorders_41 (N : Nat) (K41 : MS → Int32 → Int32 → Int32 → Option (Int32 × MS)) (S : MS) (x1 : Int32) (x2 : Int32) (x3 : Int32) : Option (Int32 × MS) :=
  mrd (S.2.2.1 39) 6 x3 (fun v_1 =>
  mrd (S.2.2.1 39) 6 x2 (fun v_3 =>
  if v_3 ≤ v_1 then
    mrd (S.2.2.1 39) 6 x2 (fun v_6 =>
    mrd (S.2.2.1 39) 6 x3 (fun v_8 =>
    mwr S 39 6 x2 v_8 (fun S_10 =>
    mwr S_10 39 6 x3 v_6 (fun S_12 =>
    bX5_reorders_100L N N S_12 (x2 + (1 : Int32)) (x1 - (1 : Int32))))))
  else
    K41 S x1 x2 (x3 + (-1 : Int32))))
noncomputable def bX5_reorders_41L (N : Nat) : Nat → MS → Int32 → Int32 → Int32 → Option (Int32 × MS)
  | 0 => fun _ _ _ _ => none
  | n + 1 => bX5_reorders_41 N (bX5_reorders_41L N n)
noncomputable def bX5_reorders_31 (N : Nat) (S : MS) (x1 : Int32) (x2 : Int32) : Option (Int32 × MS) :=
  if 0 ≤ x2 then
    bX5_reorders_41L N N S x1 x2 (x1 - (1 : Int32))
  else
    mzt (0 : Int32) (some ((0 : Int32), S))
noncomputable def bX5_reorders_4 (N : Nat) (K4 : MS → Int32 → Int32 → Option (Int32 × MS)) (S : MS) (x1 : Int32) (x2 : Int32) : Option (Int32 × MS) :=
  if x2 < 0 then
    bX5_reorders_31 N S x1 x2
  else
    mrd (S.2.2.1 39) 6 x2 (fun v_2 =>
    mrd (S.2.2.1 39) 6 (x2 + (1 : Int32)) (fun v_4 =>
    if v_2 ≤ v_4 then
      bX5_reorders_31 N S x1 x2
    else
      K4 S x1 (x2 + (-1 : Int32))))
noncomputable def bX5_reorders_4L (N : Nat) : Nat → MS → Int32 → Int32 → Option (Int32 × MS)
  | 0 => fun _ _ _ => none
  | n + 1 => bX5_reorders_4 N (bX5_reorders_4L N n)
noncomputable def bX5_reorders_0 (N : Nat) (S : MS) (x1 : Int32) : Option (Int32 × MS) :=
  bX5_reorders_4L N N S x1 (x1 - (2 : Int32))
noncomputable def fX5_reorders (N : Nat) (S : MS) (x1 : Int32) : Option (Int32 × MS) := bX5_reorders_0 N S x1
/-! caravan(I)I -/
abbrev rX5_caravan : Room := { frames := 4, cells := 0, slots := 0, locals := 89 }
noncomputable def bX5_caravan_51 (N : Nat) (K19 : MS → Int32 → Int32 → Int32 → Option (Int32 × MS)) (S : MS) (x1 : Int32) (x2 : Int32) (x3 : Int32) : Option (Int32 × MS) :=
  K19 S x1 x2 (x3 + (1 : Int32))
noncomputable def bX5_caravan_107 (N : Nat) (K66 : MS → Int32 → Int32 → Int32 → Int32 → Option (Int32 × MS)) (K74 : MS → Int32 → Int32 → Int32 → Int32 → Option (Int32 × MS)) (S : MS) (x1 : Int32) (x2 : Int32) (x3 : Int32) (x5 : Int32) : Option (Int32 × MS) :=
  K74 S x1 x2 x3 (x5 + (1 : Int32))
noncomputable def bX5_caravan_161 (N : Nat) (K66 : MS → Int32 → Int32 → Int32 → Int32 → Option (Int32 × MS)) (S : MS) (x1 : Int32) (x2 : Int32) (x3 : Int32) : Option (Int32 × MS) :=
  mbd (fX5_reorders N S x2) (fun r_1 S_2 =>
  K66 S_2 x1 x2 x3 r_1)
noncomputable def bX5_caravan_135 (N : Nat) (K66 : MS → Int32 → Int32 → Int32 → Int32 → Option (Int32 × MS)) (K135 : MS → Int32 → Int32 → Int32 → Int32 → Option (Int32 × MS)) (S : MS) (x1 : Int32) (x2 : Int32) (x3 : Int32) (x6 : Int32) : Option (Int32 × MS) :=
  if x2 ≤ x6 then
    bX5_caravan_161 N K66 S x1 x2 x3
  else
    mrd (S.2.2.1 39) 6 x6 (fun v_2 =>
    mwr S 40 6 x6 v_2 (fun S_4 =>
    K135 S_4 x1 x2 x3 (x6 + (1 : Int32))))
noncomputable def bX5_caravan_135L (N : Nat) (K66 : MS → Int32 → Int32 → Int32 → Int32 → Option (Int32 × MS)) : Nat → MS → Int32 → Int32 → Int32 → Int32 → Option (Int32 × MS)
  | 0 => fun _ _ _ _ _ => none
  | n + 1 => bX5_caravan_135 N K66 (bX5_caravan_135L N K66 n)
noncomputable def bX5_caravan_74 (N : Nat) (K66 : MS → Int32 → Int32 → Int32 → Int32 → Option (Int32 × MS)) (K74 : MS → Int32 → Int32 → Int32 → Int32 → Option (Int32 × MS)) (S : MS) (x1 : Int32) (x2 : Int32) (x3 : Int32) (x5 : Int32) : Option (Int32 × MS) :=
  if x2 ≤ x5 then
    mbd (fX5_allLong N S) (fun r_2 S_3 =>
    mbd (fX5_back N S_3) (fun _ S_6 =>
    if r_2 ≤ x3 then
      bX5_caravan_161 N K66 S_6 x1 x2 x3
    else
      bX5_caravan_135L N K66 N S_6 x1 x2 r_2 (0 : Int32)))
  else
    mrd (S.2.2.1 39) 6 x5 (fun v_9 =>
    mbd (fX5_whyCross N S v_9 x1) (fun r_11 S_12 =>
    if r_11 = 0 then
      mrd (S_12.2.2.1 39) 6 x5 (fun v_15 =>
      mbd (fX5_crosses N S_12 v_15 x1) (fun _ S_18 =>
      bX5_caravan_107 N K66 K74 S_18 x1 x2 x3 x5))
    else
      bX5_caravan_107 N K66 K74 S_12 x1 x2 x3 x5))
noncomputable def bX5_caravan_74L (N : Nat) (K66 : MS → Int32 → Int32 → Int32 → Int32 → Option (Int32 × MS)) : Nat → MS → Int32 → Int32 → Int32 → Int32 → Option (Int32 × MS)
  | 0 => fun _ _ _ _ _ => none
  | n + 1 => bX5_caravan_74 N K66 (bX5_caravan_74L N K66 n)
noncomputable def bX5_caravan_66 (N : Nat) (K66 : MS → Int32 → Int32 → Int32 → Int32 → Option (Int32 × MS)) (S : MS) (x1 : Int32) (x2 : Int32) (x3 : Int32) (x4 : Int32) : Option (Int32 × MS) :=
  if x4 = 0 then
    mpt S 41 x2 (fun S_2 =>
    some (x3, S_2))
  else
    bX5_caravan_74L N K66 N S x1 x2 x3 (0 : Int32)
noncomputable def bX5_caravan_66L (N : Nat) : Nat → MS → Int32 → Int32 → Int32 → Int32 → Option (Int32 × MS)
  | 0 => fun _ _ _ _ _ => none
  | n + 1 => bX5_caravan_66 N (bX5_caravan_66L N n)
noncomputable def bX5_caravan_19 (N : Nat) (K19 : MS → Int32 → Int32 → Int32 → Option (Int32 × MS)) (S : MS) (x1 : Int32) (x2 : Int32) (x3 : Int32) : Option (Int32 × MS) :=
  mrd (S.2.2.1 6) 319 (2 : Int32) (fun v_1 =>
  if v_1 ≤ x3 then
    mbd (fX5_tries N S) (fun _ S_5 =>
    bX5_caravan_66L N N S_5 x1 x2 (-1 : Int32) (1 : Int32))
  else
    mbd (fX5_whyCross N S x3 x1) (fun r_7 S_8 =>
    if r_7 ≤ 0 then
      mwr S_8 39 6 x2 x3 (fun S_11 =>
      bX5_caravan_51 N K19 S_11 x1 (x2 + (1 : Int32)) x3)
    else
      bX5_caravan_51 N K19 S_8 x1 x2 x3))
noncomputable def bX5_caravan_19L (N : Nat) : Nat → MS → Int32 → Int32 → Int32 → Option (Int32 × MS)
  | 0 => fun _ _ _ _ => none
  | n + 1 => bX5_caravan_19 N (bX5_caravan_19L N n)
noncomputable def bX5_caravan_0 (N : Nat) (S : MS) (x1 : Int32) : Option (Int32 × MS) :=
  mpt S 0 (0 : Int32) (fun S_1 =>
  mbd (fX5_isLand N S_1 x1) (fun r_2 S_3 =>
  if r_2 = 0 then
    some ((-1 : Int32), S_3)
  else
    bX5_caravan_19L N N S_3 x1 (0 : Int32) (0 : Int32)))
noncomputable def fX5_caravan (N : Nat) (S : MS) (x1 : Int32) : Option (Int32 × MS) := bX5_caravan_0 N S x1
/-! caravanAt(I)I -/
abbrev rX5_caravanAt : Room := { frames := 1, cells := 0, slots := 0, locals := 22 }
noncomputable def bX5_caravanAt_29 (N : Nat) (S : MS) (t0 : Int32) : Option (Int32 × MS) :=
  some (t0, S)
noncomputable def bX5_caravanAt_0 (N : Nat) (S : MS) (x1 : Int32) : Option (Int32 × MS) :=
  mpt S 0 (0 : Int32) (fun S_1 =>
  mbd (fX5_isIn N S_1 x1 (0 : Int32) ((S_1.1 41) - (1 : Int32))) (fun r_2 S_3 =>
  if r_2 = 0 then
    bX5_caravanAt_29 N S_3 (-1 : Int32)
  else
    mrd (S_3.2.2.1 40) 6 x1 (fun v_6 =>
    bX5_caravanAt_29 N S_3 v_6)))
noncomputable def fX5_caravanAt (N : Nat) (S : MS) (x1 : Int32) : Option (Int32 × MS) := bX5_caravanAt_0 N S x1
/-! areParted(III)Z -/
abbrev rX5_areParted : Room := { frames := 1, cells := 0, slots := 0, locals := 21 }
noncomputable def bX5_areParted_111 (N : Nat) (K8 : MS → Int32 → Int32 → Int32 → Int32 → Option (Int32 × MS)) (K22 : MS → Int32 → Int32 → Int32 → Int32 → Int32 → Option (Int32 × MS)) (S : MS) (x2 : Int32) (x3 : Int32) (x4 : Int32) (x5 : Int32) (x6 : Int32) : Option (Int32 × MS) :=
  K22 S x2 x3 x4 x5 (x6 + (1 : Int32))
noncomputable def bX5_areParted_81 (N : Nat) (K8 : MS → Int32 → Int32 → Int32 → Int32 → Option (Int32 × MS)) (K22 : MS → Int32 → Int32 → Int32 → Int32 → Int32 → Option (Int32 × MS)) (S : MS) (x2 : Int32) (x3 : Int32) (x4 : Int32) (x5 : Int32) (x6 : Int32) : Option (Int32 × MS) :=
  mrd (S.2.2.1 6) 319 ((24 : Int32) + x6) (fun v_1 =>
  mrd (S.2.2.1 6) 319 ((36 : Int32) + x6) (fun v_3 =>
  bX5_areParted_111 N K8 K22 S x2 x3 (x4 ||| (((1 : Int32) <<< (v_1 &&& 31)) ||| ((1 : Int32) <<< (v_3 &&& 31)))) x5 x6))
noncomputable def bX5_areParted_22 (N : Nat) (K8 : MS → Int32 → Int32 → Int32 → Int32 → Option (Int32 × MS)) (K22 : MS → Int32 → Int32 → Int32 → Int32 → Int32 → Option (Int32 × MS)) (S : MS) (x2 : Int32) (x3 : Int32) (x4 : Int32) (x5 : Int32) (x6 : Int32) : Option (Int32 × MS) :=
  mrd (S.2.2.1 6) 319 (1 : Int32) (fun v_1 =>
  if v_1 ≤ x6 then
    K8 S x2 x3 x4 (x5 + (1 : Int32))
  else
    mbd (fX5_bitOf N S x3 x6) (fun r_4 S_5 =>
    if r_4 = 0 then
      mrd (S_5.2.2.1 6) 319 ((24 : Int32) + x6) (fun v_8 =>
      mbd (fX5_bitOf N S_5 x4 v_8) (fun r_10 S_11 =>
      if r_10 = 0 then
        mrd (S_11.2.2.1 6) 319 ((36 : Int32) + x6) (fun v_14 =>
        mbd (fX5_bitOf N S_11 x4 v_14) (fun r_16 S_17 =>
        if r_16 = 0 then
          bX5_areParted_111 N K8 K22 S_17 x2 x3 x4 x5 x6
        else
          bX5_areParted_81 N K8 K22 S_17 x2 x3 x4 x5 x6))
      else
        bX5_areParted_81 N K8 K22 S_11 x2 x3 x4 x5 x6))
    else
      bX5_areParted_111 N K8 K22 S_5 x2 x3 x4 x5 x6))
noncomputable def bX5_areParted_22L (N : Nat) (K8 : MS → Int32 → Int32 → Int32 → Int32 → Option (Int32 × MS)) : Nat → MS → Int32 → Int32 → Int32 → Int32 → Int32 → Option (Int32 × MS)
  | 0 => fun _ _ _ _ _ _ => none
  | n + 1 => bX5_areParted_22 N K8 (bX5_areParted_22L N K8 n)
noncomputable def bX5_areParted_137 (N : Nat) (S : MS) (t0 : Int32) : Option (Int32 × MS) :=
  mzt t0 (some (t0, S))
noncomputable def bX5_areParted_8 (N : Nat) (K8 : MS → Int32 → Int32 → Int32 → Int32 → Option (Int32 × MS)) (S : MS) (x2 : Int32) (x3 : Int32) (x4 : Int32) (x5 : Int32) : Option (Int32 × MS) :=
  mrd (S.2.2.1 6) 319 (0 : Int32) (fun v_1 =>
  if v_1 ≤ x5 then
    mbd (fX5_bitOf N S x4 x2) (fun r_4 S_5 =>
    if r_4 = 0 then
      bX5_areParted_137 N S_5 (1 : Int32)
    else
      bX5_areParted_137 N S_5 (0 : Int32))
  else
    bX5_areParted_22L N K8 N S x2 x3 x4 x5 (0 : Int32))
noncomputable def bX5_areParted_8L (N : Nat) : Nat → MS → Int32 → Int32 → Int32 → Int32 → Option (Int32 × MS)
  | 0 => fun _ _ _ _ _ => none
  | n + 1 => bX5_areParted_8 N (bX5_areParted_8L N n)
noncomputable def bX5_areParted_0 (N : Nat) (S : MS) (x1 : Int32) (x2 : Int32) (x3 : Int32) : Option (Int32 × MS) :=
  bX5_areParted_8L N N S x2 x3 ((1 : Int32) <<< (x1 &&& 31)) (0 : Int32)
noncomputable def fX5_areParted (N : Nat) (S : MS) (x1 : Int32) (x2 : Int32) (x3 : Int32) : Option (Int32 × MS) := bX5_areParted_0 N S x1 x2 x3
/-! part(II)I -/
abbrev rX5_part : Room := { frames := 2, cells := 0, slots := 0, locals := 47 }
noncomputable def bX5_part_26 (N : Nat) (S : MS) : Option (Int32 × MS) :=
  some ((-1 : Int32), S)
noncomputable def bX5_part_112 (N : Nat) (K52 : MS → Int32 → Int32 → Int32 → Int32 → Option (Int32 × MS)) (S : MS) (x1 : Int32) (x2 : Int32) (x3 : Int32) (x4 : Int32) : Option (Int32 × MS) :=
  K52 S x1 x2 x3 (x4 + (1 : Int32))
noncomputable def bX5_part_52 (N : Nat) (K52 : MS → Int32 → Int32 → Int32 → Int32 → Option (Int32 × MS)) (S : MS) (x1 : Int32) (x2 : Int32) (x3 : Int32) (x4 : Int32) : Option (Int32 × MS) :=
  mrd (S.2.2.1 6) 319 (1 : Int32) (fun v_1 =>
  if ((1 : Int32) <<< (v_1 &&& 31)) ≤ x4 then
    mzt (1 : Int32) (mpt S 43 (1 : Int32) (fun S_4 =>
    mpt S_4 42 x3 (fun S_6 =>
    mbd (fX5_bits N S_6 x3) (fun r_7 S_8 =>
    some (r_7, S_8)))))
  else
    mrd (S.2.2.1 6) 319 (93 : Int32) (fun v_10 =>
    if (x4 &&& v_10) = 0 then
      mbd (fX5_bits N S x4) (fun r_13 S_14 =>
      mbd (fX5_bits N S_14 x3) (fun r_16 S_17 =>
      if r_16 ≤ r_13 then
        bX5_part_112 N K52 S_17 x1 x2 x3 x4
      else
        mrd (S_17.2.2.1 6) 319 (93 : Int32) (fun v_20 =>
        mbd (fX5_areParted N S_17 x1 x2 (x4 ||| v_20)) (fun r_22 S_23 =>
        if r_22 = 0 then
          bX5_part_112 N K52 S_23 x1 x2 x3 x4
        else
          bX5_part_112 N K52 S_23 x1 x2 x4 x4))))
    else
      bX5_part_112 N K52 S x1 x2 x3 x4))
noncomputable def bX5_part_52L (N : Nat) : Nat → MS → Int32 → Int32 → Int32 → Int32 → Option (Int32 × MS)
  | 0 => fun _ _ _ _ _ => none
  | n + 1 => bX5_part_52 N (bX5_part_52L N n)
noncomputable def bX5_part_0 (N : Nat) (S : MS) (x1 : Int32) (x2 : Int32) : Option (Int32 × MS) :=
  mpt S 0 (0 : Int32) (fun S_1 =>
  mbd (fX5_isLand N S_1 x1) (fun r_2 S_3 =>
  if r_2 = 0 then
    bX5_part_26 N S_3
  else
    mbd (fX5_isLand N S_3 x2) (fun r_6 S_7 =>
    if r_6 = 0 then
      bX5_part_26 N S_7
    else
      if x1 = x2 then
        bX5_part_26 N S_7
      else
        mrd (S_7.2.2.1 6) 319 (1 : Int32) (fun v_11 =>
        mrd (S_7.2.2.1 6) 319 (93 : Int32) (fun v_13 =>
        bX5_part_52L N N S_7 x1 x2 ((((1 : Int32) <<< (v_11 &&& 31)) - (1 : Int32)) &&& (v_13 ^^^ (-1 : Int32))) (0 : Int32))))))
noncomputable def fX5_part (N : Nat) (S : MS) (x1 : Int32) (x2 : Int32) : Option (Int32 × MS) := bX5_part_0 N S x1 x2
/-! parting()I -/
abbrev rX5_parting : Room := { frames := 0, cells := 0, slots := 0, locals := 0 }
noncomputable def bX5_parting_20 (N : Nat) (S : MS) (t0 : Int32) : Option (Int32 × MS) :=
  some (t0, S)
noncomputable def bX5_parting_0 (N : Nat) (S : MS) : Option (Int32 × MS) :=
  mpt S 0 (0 : Int32) (fun S_1 =>
  if (S_1.1 43) = 0 then
    bX5_parting_20 N S_1 (-1 : Int32)
  else
    bX5_parting_20 N S_1 (S_1.1 42))
noncomputable def fX5_parting (N : Nat) (S : MS) : Option (Int32 × MS) := bX5_parting_0 N S
/-! isRest()Z -/
abbrev rX5_isRest : Room := { frames := 1, cells := 0, slots := 0, locals := 21 }
noncomputable def bX5_isRest_31 (N : Nat) (K4 : MS → Int32 → Int32 → Option (Int32 × MS)) (S : MS) (x2 : Int32) (t0 : Int32) : Option (Int32 × MS) :=
  K4 S t0 (x2 + (1 : Int32))
noncomputable def bX5_isRest_30 (N : Nat) (K4 : MS → Int32 → Int32 → Option (Int32 × MS)) (S : MS) (x2 : Int32) : Option (Int32 × MS) :=
  bX5_isRest_31 N K4 S x2 (0 : Int32)
noncomputable def bX5_isRest_4 (N : Nat) (K4 : MS → Int32 → Int32 → Option (Int32 × MS)) (S : MS) (x1 : Int32) (x2 : Int32) : Option (Int32 × MS) :=
  mrd (S.2.2.1 6) 319 (2 : Int32) (fun v_1 =>
  if v_1 ≤ x2 then
    mzt x1 (some (x1, S))
  else
    if x1 = 0 then
      bX5_isRest_30 N K4 S x2
    else
      mbd (fX5_grows N S x2) (fun r_5 S_6 =>
      if r_5 = 0 then
        bX5_isRest_31 N K4 S_6 x2 (1 : Int32)
      else
        bX5_isRest_30 N K4 S_6 x2))
noncomputable def bX5_isRest_4L (N : Nat) : Nat → MS → Int32 → Int32 → Option (Int32 × MS)
  | 0 => fun _ _ _ => none
  | n + 1 => bX5_isRest_4 N (bX5_isRest_4L N n)
noncomputable def bX5_isRest_0 (N : Nat) (S : MS) : Option (Int32 × MS) :=
  bX5_isRest_4L N N S (1 : Int32) (0 : Int32)
noncomputable def fX5_isRest (N : Nat) (S : MS) : Option (Int32 × MS) := bX5_isRest_0 N S
/-! rests()I -/
abbrev rX5_rests : Room := { frames := 2, cells := 0, slots := 0, locals := 43 }
noncomputable def bX5_rests_73 (N : Nat) (S : MS) (t0 : Int32) : Option (Int32 × MS) :=
  some (t0, S)
noncomputable def bX5_rests_59 (N : Nat) (S : MS) (x1 : Int32) (t0 : Int32) : Option (Int32 × MS) :=
  mbd (fX5_back N S) (fun _ S_2 =>
  if t0 = 0 then
    bX5_rests_73 N S_2 (-1 : Int32)
  else
    bX5_rests_73 N S_2 x1)
noncomputable def bX5_rests_41 (N : Nat) (S : MS) (x1 : Int32) : Option (Int32 × MS) :=
  mrd (S.2.2.1 6) 319 (91 : Int32) (fun v_1 =>
  if (400 : Int32) ≤ v_1 then
    bX5_rests_59 N S x1 (0 : Int32)
  else
    bX5_rests_59 N S x1 (1 : Int32))
noncomputable def bX5_rests_11 (N : Nat) (K11 : MS → Int32 → Option (Int32 × MS)) (S : MS) (x1 : Int32) : Option (Int32 × MS) :=
  mrd (S.2.2.1 6) 319 (91 : Int32) (fun v_1 =>
  if (400 : Int32) ≤ v_1 then
    bX5_rests_41 N S x1
  else
    mbd (fX5_isRest N S) (fun r_4 S_5 =>
    if r_4 = 0 then
      mbd (fX5_day N S_5) (fun _ S_9 =>
      K11 S_9 (x1 + (1 : Int32)))
    else
      bX5_rests_41 N S_5 x1))
noncomputable def bX5_rests_11L (N : Nat) : Nat → MS → Int32 → Option (Int32 × MS)
  | 0 => fun _ _ => none
  | n + 1 => bX5_rests_11 N (bX5_rests_11L N n)
noncomputable def bX5_rests_0 (N : Nat) (S : MS) : Option (Int32 × MS) :=
  mpt S 0 (0 : Int32) (fun S_1 =>
  mbd (fX5_tries N S_1) (fun _ S_3 =>
  bX5_rests_11L N N S_3 (0 : Int32)))
noncomputable def fX5_rests (N : Nat) (S : MS) : Option (Int32 × MS) := bX5_rests_0 N S
/-! lays(I)V -/
abbrev rX5_lays : Room := { frames := 0, cells := 0, slots := 0, locals := 0 }
noncomputable def bX5_lays_0 (N : Nat) (S : MS) (x1 : Int32) : Option (Int32 × MS) :=
  mwr S 44 40 (S.1 45) (vp_nar .byte x1.toInt8.toInt32) (fun S_1 =>
  mpt S_1 45 ((S_1.1 45) + (1 : Int32)) (fun S_3 =>
  some (0, S_3)))
noncomputable def fX5_lays (N : Nat) (S : MS) (x1 : Int32) : Option (Int32 × MS) := bX5_lays_0 N S x1
/-! spells(J)V -/
abbrev rX5_spells : Room := { frames := 1, cells := 0, slots := 0, locals := 21 }
noncomputable def bX5_spells_31 (N : Nat) (K3 : MS → Int64 → Int32 → Option (Int32 × MS)) (S : MS) (x1 : Int64) (x3 : Int32) : Option (Int32 × MS) :=
  K3 S x1 (x3 + (-8 : Int32))
noncomputable def bX5_spells_3 (N : Nat) (K3 : MS → Int64 → Int32 → Option (Int32 × MS)) (S : MS) (x1 : Int64) (x3 : Int32) : Option (Int32 × MS) :=
  if x3 < 0 then
    some (0, S)
  else
    if (lg_cmp ((x1 >>> (x3.toInt64 &&& 63)) &&& (255 : Int64)) (0 : Int64)) = 0 then
      bX5_spells_31 N K3 S x1 x3
    else
      mbd (fX5_lays N S (((x1 >>> (x3.toInt64 &&& 63)) &&& (255 : Int64)).toInt32)) (fun _ S_4 =>
      bX5_spells_31 N K3 S_4 x1 x3)
noncomputable def bX5_spells_3L (N : Nat) : Nat → MS → Int64 → Int32 → Option (Int32 × MS)
  | 0 => fun _ _ _ => none
  | n + 1 => bX5_spells_3 N (bX5_spells_3L N n)
noncomputable def bX5_spells_0 (N : Nat) (S : MS) (x1 : Int64) : Option (Int32 × MS) :=
  bX5_spells_3L N N S x1 (56 : Int32)
noncomputable def fX5_spells (N : Nat) (S : MS) (x1 : Int64) : Option (Int32 × MS) := bX5_spells_0 N S x1
/-! says(J)V -/
abbrev rX5_says : Room := { frames := 2, cells := 0, slots := 0, locals := 44 }
noncomputable def bX5_says_0 (N : Nat) (S : MS) (x1 : Int64) : Option (Int32 × MS) :=
  mbd (fX5_lays N S (32 : Int32)) (fun _ S_2 =>
  mbd (fX5_spells N S_2 x1) (fun _ S_5 =>
  some (0, S_5)))
noncomputable def fX5_says (N : Nat) (S : MS) (x1 : Int64) : Option (Int32 × MS) := bX5_says_0 N S x1
/-! pass(I)I -/
abbrev rX5_pass : Room := { frames := 3, cells := 0, slots := 0, locals := 66 }
noncomputable def bX5_pass_136 (N : Nat) (S : MS) (x2 : Int32) : Option (Int32 × MS) :=
  mbd (fX5_lays N S ((48 : Int32) + (x2 - x2 / (10 : Int32) * (10 : Int32)))) (fun _ S_2 =>
  some ((S_2.1 45), S_2))
noncomputable def bX5_pass_116 (N : Nat) (S : MS) (x2 : Int32) : Option (Int32 × MS) :=
  if x2 ≤ (9 : Int32) then
    bX5_pass_136 N S x2
  else
    mbd (fX5_lays N S ((48 : Int32) + ((x2 / (10 : Int32)) - (x2 / (10 : Int32)) / (10 : Int32) * (10 : Int32)))) (fun _ S_3 =>
    bX5_pass_136 N S_3 x2)
noncomputable def bX5_pass_0 (N : Nat) (S : MS) (x1 : Int32) : Option (Int32 × MS) :=
  mpt S 0 (0 : Int32) (fun S_1 =>
  mbd (fX5_isPerson N S_1 x1) (fun r_2 S_3 =>
  if r_2 = 0 then
    some ((-1 : Int32), S_3)
  else
    mpt S_3 45 (0 : Int32) (fun S_6 =>
    mrdL (S_6.2.2.2 9) 26 ((7 : Int32) + x1) (fun v_7 =>
    mbd (fX5_spells N S_6 v_7) (fun _ S_10 =>
    mbd (fX5_says N S_10 (28518 : Int64)) (fun _ S_13 =>
    mrd (S_13.2.2.1 6) 319 ((79 : Int32) + x1) (fun v_15 =>
    mrdL (S_13.2.2.2 9) 26 v_15 (fun v_17 =>
    mbd (fX5_says N S_13 v_17) (fun _ S_20 =>
    mbd (fX5_says N S_20 (26990 : Int64)) (fun _ S_23 =>
    mrd (S_23.2.2.1 6) 319 ((108 : Int32) + x1) (fun v_25 =>
    mrdL (S_23.2.2.2 9) 26 v_25 (fun v_27 =>
    mbd (fX5_says N S_23 v_27) (fun _ S_30 =>
    mbd (fX5_lays N S_30 (32 : Int32)) (fun _ S_33 =>
    mrd (S_33.2.2.1 6) 319 ((114 : Int32) + x1) (fun v_35 =>
    if v_35 ≤ (99 : Int32) then
      bX5_pass_116 N S_33 v_35
    else
      mbd (fX5_lays N S_33 ((48 : Int32) + (v_35 / (100 : Int32)))) (fun _ S_39 =>
      bX5_pass_116 N S_39 v_35))))))))))))))))
noncomputable def fX5_pass (N : Nat) (S : MS) (x1 : Int32) : Option (Int32 × MS) := bX5_pass_0 N S x1
/-! byteAt(I)I -/
abbrev rX5_byteAt : Room := { frames := 1, cells := 0, slots := 0, locals := 22 }
noncomputable def bX5_byteAt_29 (N : Nat) (S : MS) (t0 : Int32) : Option (Int32 × MS) :=
  some (t0, S)
noncomputable def bX5_byteAt_0 (N : Nat) (S : MS) (x1 : Int32) : Option (Int32 × MS) :=
  mpt S 0 (0 : Int32) (fun S_1 =>
  mbd (fX5_isIn N S_1 x1 (0 : Int32) ((S_1.1 45) - (1 : Int32))) (fun r_2 S_3 =>
  if r_2 = 0 then
    bX5_byteAt_29 N S_3 (-1 : Int32)
  else
    mrd (S_3.2.2.1 44) 40 x1 (fun v_6 =>
    bX5_byteAt_29 N S_3 v_6)))
noncomputable def fX5_byteAt (N : Nat) (S : MS) (x1 : Int32) : Option (Int32 × MS) := bX5_byteAt_0 N S x1
/-! draw(I)I -/
abbrev rX5_draw : Room := { frames := 0, cells := 0, slots := 0, locals := 0 }
noncomputable def bX5_draw_0 (N : Nat) (S : MS) (x1 : Int32) : Option (Int32 × MS) :=
  mpt S 46 (((S.1 46) * (1103515245 : Int32)) + (12345 : Int32)) (fun S_1 =>
  mnz x1 (
  some (((((S_1.1 46).toUInt32 >>> ((8 : Int32).toUInt32 &&& Int32.toUInt32 31)).toInt32) - (((S_1.1 46).toUInt32 >>> ((8 : Int32).toUInt32 &&& Int32.toUInt32 31)).toInt32) / x1 * x1), S_1)))
noncomputable def fX5_draw (N : Nat) (S : MS) (x1 : Int32) : Option (Int32 × MS) := bX5_draw_0 N S x1
/-! draws(II)I -/
abbrev rX5_draws : Room := { frames := 4, cells := 0, slots := 0, locals := 89 }
noncomputable def bX5_draws_109 (N : Nat) (K7 : MS → Int32 → Int32 → Option (Int32 × MS)) (K67 : MS → Int32 → Int32 → Int32 → Option (Int32 × MS)) (S : MS) (x1 : Int32) (x3 : Int32) (x4 : Int32) : Option (Int32 × MS) :=
  K67 S x1 x3 (x4 + (1 : Int32))
noncomputable def bX5_draws_67 (N : Nat) (K7 : MS → Int32 → Int32 → Option (Int32 × MS)) (K67 : MS → Int32 → Int32 → Int32 → Option (Int32 × MS)) (S : MS) (x1 : Int32) (x3 : Int32) (x4 : Int32) : Option (Int32 × MS) :=
  mrd (S.2.2.1 6) 319 (2 : Int32) (fun v_1 =>
  if v_1 ≤ x4 then
    mbd (fX5_day N S) (fun _ S_5 =>
    K7 S_5 x1 (x3 + (1 : Int32)))
  else
    mrd (S.2.2.1 6) 319 (0 : Int32) (fun v_7 =>
    mbd (fX5_draw N S v_7) (fun r_9 S_10 =>
    mbd (fX5_whyCross N S_10 x4 r_9) (fun r_12 S_13 =>
    if r_12 = 0 then
      mbd (fX5_crosses N S_13 x4 r_9) (fun _ S_17 =>
      bX5_draws_109 N K7 K67 S_17 x1 x3 x4)
    else
      bX5_draws_109 N K7 K67 S_13 x1 x3 x4))))
noncomputable def bX5_draws_67L (N : Nat) (K7 : MS → Int32 → Int32 → Option (Int32 × MS)) : Nat → MS → Int32 → Int32 → Int32 → Option (Int32 × MS)
  | 0 => fun _ _ _ _ => none
  | n + 1 => bX5_draws_67 N K7 (bX5_draws_67L N K7 n)
noncomputable def bX5_draws_64 (N : Nat) (K7 : MS → Int32 → Int32 → Option (Int32 × MS)) (S : MS) (x1 : Int32) (x3 : Int32) : Option (Int32 × MS) :=
  bX5_draws_67L N K7 N S x1 x3 (0 : Int32)
noncomputable def bX5_draws_125 (N : Nat) (S : MS) (x3 : Int32) : Option (Int32 × MS) :=
  some (x3, S)
noncomputable def bX5_draws_7 (N : Nat) (K7 : MS → Int32 → Int32 → Option (Int32 × MS)) (S : MS) (x1 : Int32) (x3 : Int32) : Option (Int32 × MS) :=
  if x1 ≤ x3 then
    bX5_draws_125 N S x3
  else
    mrd (S.2.2.1 6) 319 (91 : Int32) (fun v_2 =>
    if (400 : Int32) ≤ v_2 then
      bX5_draws_125 N S x3
    else
      mbd (fX5_draw N S (4 : Int32)) (fun r_5 S_6 =>
      if r_5 = 0 then
        mrd (S_6.2.2.1 6) 319 (1 : Int32) (fun v_9 =>
        if v_9 ≤ 0 then
          bX5_draws_64 N K7 S_6 x1 x3
        else
          mrd (S_6.2.2.1 6) 319 (93 : Int32) (fun v_12 =>
          mrd (S_6.2.2.1 6) 319 (1 : Int32) (fun v_14 =>
          mbd (fX5_draw N S_6 v_14) (fun r_16 S_17 =>
          mwr S_17 6 319 (93 : Int32) (v_12 ^^^ ((1 : Int32) <<< (r_16 &&& 31))) (fun S_19 =>
          bX5_draws_64 N K7 S_19 x1 x3)))))
      else
        bX5_draws_64 N K7 S_6 x1 x3))
noncomputable def bX5_draws_7L (N : Nat) : Nat → MS → Int32 → Int32 → Option (Int32 × MS)
  | 0 => fun _ _ _ => none
  | n + 1 => bX5_draws_7 N (bX5_draws_7L N n)
noncomputable def bX5_draws_0 (N : Nat) (S : MS) (x1 : Int32) (x2 : Int32) : Option (Int32 × MS) :=
  mpt S 46 x2 (fun S_1 =>
  bX5_draws_7L N N S_1 x1 (0 : Int32))
noncomputable def fX5_draws (N : Nat) (S : MS) (x1 : Int32) (x2 : Int32) : Option (Int32 × MS) := bX5_draws_0 N S x1 x2
/-! drawn(II)I -/
abbrev rX5_drawn : Room := { frames := 5, cells := 0, slots := 0, locals := 114 }
noncomputable def bX5_drawn_24 (N : Nat) (S : MS) : Option (Int32 × MS) :=
  some ((-1 : Int32), S)
noncomputable def bX5_drawn_43 (N : Nat) (S : MS) (x1 : Int32) (x2 : Int32) : Option (Int32 × MS) :=
  mbd (fX5_draws N S x1 x2) (fun r_1 S_2 =>
  some (r_1, S_2))
noncomputable def bX5_drawn_0 (N : Nat) (S : MS) (x1 : Int32) (x2 : Int32) : Option (Int32 × MS) :=
  mpt S 0 (0 : Int32) (fun S_1 =>
  mbd (fX5_isIn N S_1 x1 (1 : Int32) (60 : Int32)) (fun r_2 S_3 =>
  if r_2 = 0 then
    bX5_drawn_24 N S_3
  else
    mrd (S_3.2.2.1 6) 319 (0 : Int32) (fun v_6 =>
    if v_6 = 0 then
      bX5_drawn_24 N S_3
    else
      mrd (S_3.2.2.1 6) 319 (91 : Int32) (fun v_9 =>
      if (400 : Int32) ≤ v_9 then
        bX5_drawn_43 N S_3 x1 x2
      else
        mbd (fX5_keep N S_3) (fun _ S_13 =>
        bX5_drawn_43 N S_13 x1 x2)))))
noncomputable def fX5_drawn (N : Nat) (S : MS) (x1 : Int32) (x2 : Int32) : Option (Int32 × MS) := bX5_drawn_0 N S x1 x2
/-! odds(III)I -/
abbrev rX5_odds : Room := { frames := 5, cells := 0, slots := 0, locals := 114 }
noncomputable def bX5_odds_23 (N : Nat) (S : MS) : Option (Int32 × MS) :=
  some ((-1 : Int32), S)
noncomputable def bX5_odds_84 (N : Nat) (K46 : MS → Int32 → Int32 → Int32 → Int32 → Int32 → Int32 → Option (Int32 × MS)) (S : MS) (x1 : Int32) (x2 : Int32) (x3 : Int32) (x4 : Int32) (x6 : Int32) (t0 : Int32) (t1 : Int32) : Option (Int32 × MS) :=
  mbd (fX5_back N S) (fun _ S_2 =>
  K46 S_2 x1 x2 x3 x4 (t0 + t1) (x6 + (1 : Int32)))
noncomputable def bX5_odds_46 (N : Nat) (K46 : MS → Int32 → Int32 → Int32 → Int32 → Int32 → Int32 → Option (Int32 × MS)) (S : MS) (x1 : Int32) (x2 : Int32) (x3 : Int32) (x4 : Int32) (x5 : Int32) (x6 : Int32) : Option (Int32 × MS) :=
  if x2 ≤ x6 then
    some (x5, S)
  else
    mbd (fX5_draws N S (20 : Int32) (x3 + x6)) (fun r_2 S_3 =>
    mrd (S_3.2.2.1 6) 319 ((114 : Int32) + x1) (fun v_5 =>
    if v_5 ≤ x4 then
      bX5_odds_84 N K46 S_3 x1 x2 x3 x4 x6 x5 (0 : Int32)
    else
      bX5_odds_84 N K46 S_3 x1 x2 x3 x4 x6 x5 (1 : Int32)))
noncomputable def bX5_odds_46L (N : Nat) : Nat → MS → Int32 → Int32 → Int32 → Int32 → Int32 → Int32 → Option (Int32 × MS)
  | 0 => fun _ _ _ _ _ _ _ => none
  | n + 1 => bX5_odds_46 N (bX5_odds_46L N n)
noncomputable def bX5_odds_0 (N : Nat) (S : MS) (x1 : Int32) (x2 : Int32) (x3 : Int32) : Option (Int32 × MS) :=
  mpt S 0 (0 : Int32) (fun S_1 =>
  mbd (fX5_isPerson N S_1 x1) (fun r_2 S_3 =>
  if r_2 = 0 then
    bX5_odds_23 N S_3
  else
    mbd (fX5_isIn N S_3 x2 (1 : Int32) (30 : Int32)) (fun r_6 S_7 =>
    if r_6 = 0 then
      bX5_odds_23 N S_7
    else
      mbd (fX5_tries N S_7) (fun _ S_11 =>
      mrd (S_11.2.2.1 6) 319 ((114 : Int32) + x1) (fun v_13 =>
      bX5_odds_46L N N S_11 x1 x2 x3 v_13 (0 : Int32) (0 : Int32))))))
noncomputable def fX5_odds (N : Nat) (S : MS) (x1 : Int32) (x2 : Int32) (x3 : Int32) : Option (Int32 × MS) := bX5_odds_0 N S x1 x2 x3
/-! bookLine()Z -/
abbrev rX5_bookLine : Room := { frames := 3, cells := 0, slots := 0, locals := 67 }
noncomputable def bX5_bookLine_266 (N : Nat) (S : MS) : Option (Int32 × MS) :=
  mzt (1 : Int32) (some ((1 : Int32), S))
noncomputable def bX5_bookLine_250 (N : Nat) (S : MS) (x1 : Int32) (x2 : Int32) : Option (Int32 × MS) :=
  if x2 = (3 : Int32) then
    bX5_bookLine_266 N S
  else
    if x2 = (4 : Int32) then
      bX5_bookLine_266 N S
    else
      if x2 = (6 : Int32) then
        bX5_bookLine_266 N S
      else
        mrd (S.2.2.1 6) 319 (0 : Int32) (fun v_4 =>
        mbd (fX5_takesName N S (0 : Int32) v_4) (fun r_6 S_7 =>
        if r_6 = 0 then
          mzt (0 : Int32) (some ((0 : Int32), S_7))
        else
          mwr S_7 8 160 (x1 + (2 : Int32)) (S_7.1 18) (fun S_10 =>
          if x2 = (5 : Int32) then
            mbd (fX5_takes N S_10 (1 : Int32) (99 : Int32)) (fun r_13 S_14 =>
            if r_13 = 0 then
              mzt (0 : Int32) (some ((0 : Int32), S_14))
            else
              mwr S_14 8 160 (x1 + (3 : Int32)) (S_14.1 18) (fun S_17 =>
              mzt (1 : Int32) (some ((1 : Int32), S_17))))
          else
            mzt (1 : Int32) (some ((1 : Int32), S_10)))))
noncomputable def bX5_bookLine_229 (N : Nat) (S : MS) (x1 : Int32) (x2 : Int32) (t0 : Int32) : Option (Int32 × MS) :=
  if t0 = 0 then
    mzt (0 : Int32) (some ((0 : Int32), S))
  else
    mwr S 8 160 (x1 + (1 : Int32)) (S.1 18) (fun S_2 =>
    bX5_bookLine_250 N S_2 x1 x2)
noncomputable def bX5_bookLine_208 (N : Nat) (S : MS) (x1 : Int32) (x2 : Int32) : Option (Int32 × MS) :=
  mbd (fX5_takes N S (0 : Int32) (11 : Int32)) (fun r_1 S_2 =>
  bX5_bookLine_229 N S_2 x1 x2 r_1)
noncomputable def bX5_bookLine_115 (N : Nat) (S : MS) (x1 : Int32) (x2 : Int32) : Option (Int32 × MS) :=
  if (S.1 47) = (40 : Int32) then
    mbd (fX5_bad N S (4 : Int32)) (fun r_31 S_32 =>
    mzt r_31 (some (r_31, S_32)))
  else
    mbd (fX5_next N S) (fun _ S_3 =>
    mwr S_3 8 160 x1 x2 (fun S_5 =>
    if x2 = 0 then
      mbd (fX5_isWord N S_5 (27991845698233715 : Int64)) (fun r_19 S_20 =>
      if r_19 = 0 then
        mbd (fX5_bad N S_20 (1 : Int32)) (fun r_28 S_29 =>
        mzt r_28 (some (r_28, S_29)))
      else
        mbd (fX5_next N S_20) (fun _ S_24 =>
        mwr S_24 8 160 (x1 + (1 : Int32)) (S.1 18) (fun S_26 =>
        bX5_bookLine_250 N S_26 x1 x2)))
    else
      if x2 = (6 : Int32) then
        mbd (fX5_takes N S_5 (1 : Int32) (60 : Int32)) (fun r_16 S_17 =>
        bX5_bookLine_229 N S_17 x1 x2 r_16)
      else
        if x2 = (3 : Int32) then
          bX5_bookLine_208 N S_5 x1 x2
        else
          if x2 = (4 : Int32) then
            bX5_bookLine_208 N S_5 x1 x2
          else
            mrd (S_5.2.2.1 6) 319 (0 : Int32) (fun v_11 =>
            mbd (fX5_takesName N S_5 (0 : Int32) v_11) (fun r_13 S_14 =>
            bX5_bookLine_229 N S_14 x1 x2 r_13))))
noncomputable def bX5_bookLine_93 (N : Nat) (S : MS) (x1 : Int32) (t0 : Int32) : Option (Int32 × MS) :=
  if t0 = 0 then
    mrd (S.2.2.1 6) 319 (2 : Int32) (fun v_2 =>
    mbd (fX5_looksAt N S (7 : Int32) v_2) (fun r_4 S_5 =>
    if r_4 = 0 then
      mzt (0 : Int32) (some ((0 : Int32), S_5))
    else
      bX5_bookLine_115 N S_5 x1 t0))
  else
    bX5_bookLine_115 N S x1 t0
noncomputable def bX5_bookLine_0 (N : Nat) (S : MS) : Option (Int32 × MS) :=
  mbd (fX5_isWord N S (1885430644 : Int64)) (fun r_1 S_2 =>
  if r_1 = 0 then
    mbd (fX5_isWord N S_2 (422826041707 : Int64)) (fun r_5 S_6 =>
    if r_5 = 0 then
      mbd (fX5_isWord N S_6 (427021005669 : Int64)) (fun r_9 S_10 =>
      if r_9 = 0 then
        mbd (fX5_isWord N S_10 (1869636974 : Int64)) (fun r_13 S_14 =>
        if r_13 = 0 then
          mbd (fX5_isWord N S_14 (1818586724 : Int64)) (fun r_17 S_18 =>
          if r_17 = 0 then
            mbd (fX5_isWord N S_18 (6578553 : Int64)) (fun r_21 S_22 =>
            if r_21 = 0 then
              bX5_bookLine_93 N S_22 ((4 : Int32) * (S.1 47)) (0 : Int32)
            else
              bX5_bookLine_93 N S_22 ((4 : Int32) * (S.1 47)) (6 : Int32))
          else
            bX5_bookLine_93 N S_18 ((4 : Int32) * (S.1 47)) (5 : Int32))
        else
          bX5_bookLine_93 N S_14 ((4 : Int32) * (S.1 47)) (4 : Int32))
      else
        bX5_bookLine_93 N S_10 ((4 : Int32) * (S.1 47)) (3 : Int32))
    else
      bX5_bookLine_93 N S_6 ((4 : Int32) * (S.1 47)) (2 : Int32))
  else
    bX5_bookLine_93 N S_2 ((4 : Int32) * (S.1 47)) (1 : Int32))
noncomputable def fX5_bookLine (N : Nat) (S : MS) : Option (Int32 × MS) := bX5_bookLine_0 N S
/-! does(IIII)I -/
abbrev rX5_does : Room := { frames := 4, cells := 0, slots := 0, locals := 89 }
noncomputable def bX5_does_247 (N : Nat) (S : MS) (t0 : Int32) : Option (Int32 × MS) :=
  some (t0, S)
noncomputable def bX5_does_231 (N : Nat) (S : MS) (x1 : Int32) (x5 : Int32) : Option (Int32 × MS) :=
  if x5 ≤ 0 then
    bX5_does_247 N S (0 : Int32)
  else
    bX5_does_247 N S (((10 : Int32) * x1) + x5)
noncomputable def bX5_does_155 (N : Nat) (S : MS) (x1 : Int32) (x2 : Int32) (t1 : Int32) (t2 : Int32) : Option (Int32 × MS) :=
  mbd (fX5_whyTurn N S t1 t2) (fun r_1 S_2 =>
  if r_1 = 0 then
    mrd (S_2.2.2.1 6) 319 (93 : Int32) (fun v_5 =>
    mwr S_2 6 319 (93 : Int32) (v_5 ^^^ ((1 : Int32) <<< (x2 &&& 31))) (fun S_7 =>
    bX5_does_231 N S_7 x1 r_1))
  else
    bX5_does_231 N S_2 x1 r_1)
noncomputable def bX5_does_143 (N : Nat) (S : MS) (x1 : Int32) (x2 : Int32) : Option (Int32 × MS) :=
  if x1 = (3 : Int32) then
    bX5_does_155 N S x1 x2 x2 (1 : Int32)
  else
    bX5_does_155 N S x1 x2 x2 (0 : Int32)
noncomputable def bX5_does_118 (N : Nat) (S : MS) (x1 : Int32) (x2 : Int32) (x3 : Int32) (t0 : Int32) : Option (Int32 × MS) :=
  if t0 = 0 then
    mrd (S.2.2.1 6) 319 ((101 : Int32) + x2) (fun v_2 =>
    mwr S 6 319 ((101 : Int32) + x2) (v_2 ^^^ ((1 : Int32) <<< (x3 &&& 31))) (fun S_4 =>
    bX5_does_231 N S_4 x1 t0))
  else
    bX5_does_231 N S x1 t0
noncomputable def bX5_does_0 (N : Nat) (S : MS) (x1 : Int32) (x2 : Int32) (x3 : Int32) (x4 : Int32) : Option (Int32 × MS) :=
  if x1 = (0 : Int32) then
    mbd (fX5_whyCross N S x2 x3) (fun r_2 S_3 =>
    if r_2 = 0 then
      mbd (fX5_crosses N S_3 x2 x3) (fun _ S_7 =>
      bX5_does_231 N S_7 x1 r_2)
    else
      bX5_does_231 N S_3 x1 r_2)
  else
    if x1 = (1 : Int32) then
      mbd (fX5_whyPact N S x2 x3) (fun r_10 S_11 =>
      if r_10 = 0 then
        mrd (S_11.2.2.1 6) 319 ((101 : Int32) + x2) (fun v_14 =>
        mwr S_11 6 319 ((101 : Int32) + x2) (v_14 ||| ((1 : Int32) <<< (x3 &&& 31))) (fun S_16 =>
        bX5_does_231 N S_16 x1 r_10))
      else
        bX5_does_231 N S_11 x1 r_10)
    else
      if x1 = (2 : Int32) then
        mrd (S.2.2.1 6) 319 ((101 : Int32) + x2) (fun v_19 =>
        mbd (fX5_bitOf N S v_19 x3) (fun r_21 S_22 =>
        if r_21 = 0 then
          bX5_does_118 N S_22 x1 x2 x3 (1 : Int32)
        else
          bX5_does_118 N S_22 x1 x2 x3 (0 : Int32)))
      else
        if x1 = (3 : Int32) then
          bX5_does_143 N S x1 x2
        else
          if x1 = (4 : Int32) then
            bX5_does_143 N S x1 x2
          else
            if x1 = (5 : Int32) then
              mbd (fX5_whyLend N S x2 x3 x4) (fun r_28 S_29 =>
              if r_28 = 0 then
                mbd (fX5_lends N S_29 x2 x3 x4) (fun _ S_33 =>
                bX5_does_231 N S_33 x1 r_28)
              else
                bX5_does_231 N S_29 x1 r_28)
            else
              mrd (S.2.2.1 6) 319 (91 : Int32) (fun v_35 =>
              if (v_35 + x2) ≤ (400 : Int32) then
                mbd (fX5_goesOn N S x2) (fun r_38 S_39 =>
                bX5_does_231 N S_39 x1 (0 : Int32))
              else
                some ((61 : Int32), S))
noncomputable def fX5_does (N : Nat) (S : MS) (x1 : Int32) (x2 : Int32) (x3 : Int32) (x4 : Int32) : Option (Int32 × MS) := bX5_does_0 N S x1 x2 x3 x4
/-! book(I)I -/
abbrev rX5_book : Room := { frames := 5, cells := 0, slots := 0, locals := 114 }
noncomputable def bX5_book_62 (N : Nat) (S : MS) : Option (Int32 × MS) :=
  some (((-2 : Int32) - (S.1 16)), S)
noncomputable def bX5_book_195 (N : Nat) (K111 : MS → Int32 → Int32 → Int32 → Option (Int32 × MS)) (S : MS) (x1 : Int32) (x2 : Int32) (x3 : Int32) : Option (Int32 × MS) :=
  K111 S x1 x2 (x3 + (1 : Int32))
noncomputable def bX5_book_291 (N : Nat) (S : MS) (x2 : Int32) : Option (Int32 × MS) :=
  some (x2, S)
noncomputable def bX5_book_283 (N : Nat) (S : MS) (x1 : Int32) (x2 : Int32) : Option (Int32 × MS) :=
  if x1 = 0 then
    mbd (fX5_back N S) (fun _ S_3 =>
    bX5_book_291 N S_3 x2)
  else
    bX5_book_291 N S x2
noncomputable def bX5_book_249 (N : Nat) (K249 : MS → Int32 → Int32 → Int32 → Option (Int32 × MS)) (S : MS) (x1 : Int32) (x2 : Int32) (x3 : Int32) : Option (Int32 × MS) :=
  if (47 : Int32) ≤ x3 then
    bX5_book_283 N S x1 x2
  else
    mrd (S.2.2.1 22) 47 x3 (fun v_2 =>
    mwr S 21 376 (((47 : Int32) * ((S.1 23) - (1 : Int32))) + x3) v_2 (fun S_4 =>
    K249 S_4 x1 x2 (x3 + (1 : Int32))))
noncomputable def bX5_book_249L (N : Nat) : Nat → MS → Int32 → Int32 → Int32 → Option (Int32 × MS)
  | 0 => fun _ _ _ _ => none
  | n + 1 => bX5_book_249 N (bX5_book_249L N n)
noncomputable def bX5_book_201 (N : Nat) (S : MS) (x1 : Int32) (x2 : Int32) : Option (Int32 × MS) :=
  mrd (S.2.2.1 6) 319 (91 : Int32) (fun v_1 =>
  mwr S 48 4 (2 : Int32) v_1 (fun S_3 =>
  mbd (fX5_allLong N S_3) (fun r_5 S_6 =>
  mwr S_6 48 4 (3 : Int32) r_5 (fun S_8 =>
  mzt (1 : Int32) (mpt S_8 49 (1 : Int32) (fun S_10 =>
  if x1 = (1 : Int32) then
    mrd (S_10.2.2.1 48) 4 (1 : Int32) (fun v_13 =>
    if v_13 ≤ 0 then
      bX5_book_283 N S_10 x1 x2
    else
      mbd (fX5_keep N S_10) (fun _ S_17 =>
      bX5_book_249L N N S_17 x1 x2 (0 : Int32)))
  else
    bX5_book_283 N S_10 x1 x2))))))
noncomputable def bX5_book_111 (N : Nat) (K111 : MS → Int32 → Int32 → Int32 → Option (Int32 × MS)) (S : MS) (x1 : Int32) (x2 : Int32) (x3 : Int32) : Option (Int32 × MS) :=
  if (S.1 47) ≤ x3 then
    bX5_book_201 N S x1 x2
  else
    if 0 ≤ x2 then
      bX5_book_201 N S x1 x2
    else
      mrd (S.2.2.1 8) 160 ((4 : Int32) * x3) (fun v_3 =>
      mrd (S.2.2.1 8) 160 (((4 : Int32) * x3) + (1 : Int32)) (fun v_5 =>
      mrd (S.2.2.1 8) 160 (((4 : Int32) * x3) + (2 : Int32)) (fun v_7 =>
      mrd (S.2.2.1 8) 160 (((4 : Int32) * x3) + (3 : Int32)) (fun v_9 =>
      mbd (fX5_does N S v_3 v_5 v_7 v_9) (fun r_11 S_12 =>
      mwr S_12 48 4 (0 : Int32) r_11 (fun S_14 =>
      mrd (S_14.2.2.1 48) 4 (0 : Int32) (fun v_16 =>
      if v_16 ≤ 0 then
        mrd (S_14.2.2.1 48) 4 (1 : Int32) (fun v_19 =>
        mwr S_14 48 4 (1 : Int32) (v_19 + (1 : Int32)) (fun S_21 =>
        bX5_book_195 N K111 S_21 x1 x2 x3))
      else
        bX5_book_195 N K111 S_14 x1 x3 x3)))))))
noncomputable def bX5_book_111L (N : Nat) : Nat → MS → Int32 → Int32 → Int32 → Option (Int32 × MS)
  | 0 => fun _ _ _ _ => none
  | n + 1 => bX5_book_111 N (bX5_book_111L N n)
noncomputable def bX5_book_89 (N : Nat) (K89 : MS → Int32 → Int32 → Option (Int32 × MS)) (S : MS) (x1 : Int32) (x2 : Int32) : Option (Int32 × MS) :=
  if (4 : Int32) ≤ x2 then
    bX5_book_111L N N S x1 (-1 : Int32) (0 : Int32)
  else
    mwr S 48 4 x2 (0 : Int32) (fun S_2 =>
    K89 S_2 x1 (x2 + (1 : Int32)))
noncomputable def bX5_book_89L (N : Nat) : Nat → MS → Int32 → Int32 → Option (Int32 × MS)
  | 0 => fun _ _ _ => none
  | n + 1 => bX5_book_89 N (bX5_book_89L N n)
noncomputable def bX5_book_39 (N : Nat) (K39 : MS → Int32 → Option (Int32 × MS)) (S : MS) (x1 : Int32) : Option (Int32 × MS) :=
  if (S.1 11) = 0 then
    mbd (fX5_tries N S) (fun _ S_3 =>
    bX5_book_89L N N S_3 x1 (0 : Int32))
  else
    mbd (fX5_bookLine N S) (fun r_5 S_6 =>
    if r_5 = 0 then
      bX5_book_62 N S_6
    else
      mbd (fX5_sign N S_6 (59 : Int32)) (fun r_9 S_10 =>
      if r_9 = 0 then
        bX5_book_62 N S_10
      else
        mpt S_10 47 ((S_10.1 47) + (1 : Int32)) (fun S_13 =>
        K39 S_13 x1)))
noncomputable def bX5_book_39L (N : Nat) : Nat → MS → Int32 → Option (Int32 × MS)
  | 0 => fun _ _ => none
  | n + 1 => bX5_book_39 N (bX5_book_39L N n)
noncomputable def bX5_book_0 (N : Nat) (S : MS) (x1 : Int32) : Option (Int32 × MS) :=
  mpt S 0 (0 : Int32) (fun S_1 =>
  mbd (fX5_isIn N S_1 x1 (0 : Int32) (1 : Int32)) (fun r_2 S_3 =>
  if r_2 = 0 then
    some ((-1000 : Int32), S_3)
  else
    mbd (fX5_taken N S_3 (400 : Int32)) (fun _ S_7 =>
    mpt S_7 15 (0 : Int32) (fun S_9 =>
    mpt S_9 47 (0 : Int32) (fun S_10 =>
    mbd (fX5_next N S_10) (fun _ S_12 =>
    bX5_book_39L N N S_12 x1))))))
noncomputable def fX5_book (N : Nat) (S : MS) (x1 : Int32) : Option (Int32 × MS) := bX5_book_0 N S x1
/-! told(I)I -/
abbrev rX5_told : Room := { frames := 1, cells := 0, slots := 0, locals := 22 }
noncomputable def bX5_told_31 (N : Nat) (S : MS) (t0 : Int32) : Option (Int32 × MS) :=
  some (t0, S)
noncomputable def bX5_told_30 (N : Nat) (S : MS) : Option (Int32 × MS) :=
  bX5_told_31 N S (-1 : Int32)
noncomputable def bX5_told_0 (N : Nat) (S : MS) (x1 : Int32) : Option (Int32 × MS) :=
  mpt S 0 (0 : Int32) (fun S_1 =>
  if (S_1.1 49) = 0 then
    bX5_told_30 N S_1
  else
    mbd (fX5_isIn N S_1 x1 (0 : Int32) (3 : Int32)) (fun r_3 S_4 =>
    if r_3 = 0 then
      bX5_told_30 N S_4
    else
      mrd (S_4.2.2.1 48) 4 x1 (fun v_7 =>
      bX5_told_31 N S_4 v_7)))
noncomputable def fX5_told (N : Nat) (S : MS) (x1 : Int32) : Option (Int32 × MS) := bX5_told_0 N S x1
/-! code(III)V -/
abbrev rX5_code : Room := { frames := 0, cells := 0, slots := 0, locals := 0 }
noncomputable def bX5_code_0 (N : Nat) (S : MS) (x1 : Int32) (x2 : Int32) (x3 : Int32) : Option (Int32 × MS) :=
  mwr S 8 160 ((3 : Int32) * (S.1 51)) x1 (fun S_1 =>
  mwr S_1 8 160 (((3 : Int32) * (S_1.1 51)) + (1 : Int32)) x2 (fun S_3 =>
  mwr S_3 8 160 (((3 : Int32) * (S_3.1 51)) + (2 : Int32)) x3 (fun S_5 =>
  mpt S_5 51 ((S_5.1 51) + (1 : Int32)) (fun S_7 =>
  some (0, S_7)))))
noncomputable def fX5_code (N : Nat) (S : MS) (x1 : Int32) (x2 : Int32) (x3 : Int32) : Option (Int32 × MS) := bX5_code_0 N S x1 x2 x3
/-! nots()V -/
abbrev rX5_nots : Room := { frames := 1, cells := 0, slots := 0, locals := 23 }
noncomputable def bX5_nots_54 (N : Nat) (S : MS) : Option (Int32 × MS) :=
  some (0, S)
noncomputable def bX5_nots_0 (N : Nat) (K0 : MS → Option (Int32 × MS)) (S : MS) : Option (Int32 × MS) :=
  if (S.1 53) ≤ 0 then
    bX5_nots_54 N S
  else
    mrd (S.2.2.1 50) 45 ((S.1 53) - (1 : Int32)) (fun v_2 =>
    if v_2 = (20 : Int32) then
      mpt S 53 ((S.1 53) - (1 : Int32)) (fun S_5 =>
      mpt S_5 54 ((S_5.1 54) - (1 : Int32)) (fun S_6 =>
      mbd (fX5_code N S_6 (20 : Int32) (0 : Int32) (0 : Int32)) (fun _ S_8 =>
      K0 S_8)))
    else
      bX5_nots_54 N S)
noncomputable def bX5_nots_0L (N : Nat) : Nat → MS → Option (Int32 × MS)
  | 0 => fun _ => none
  | n + 1 => bX5_nots_0 N (bX5_nots_0L N n)
noncomputable def fX5_nots (N : Nat) (S : MS) : Option (Int32 × MS) := bX5_nots_0L N N S
/-! joins(I)V -/
abbrev rX5_joins : Room := { frames := 1, cells := 0, slots := 0, locals := 23 }
noncomputable def bX5_joins_45 (N : Nat) (K0 : MS → Int32 → Option (Int32 × MS)) (S : MS) (x1 : Int32) : Option (Int32 × MS) :=
  mpt S 53 ((S.1 53) - (1 : Int32)) (fun S_1 =>
  mrd (S_1.2.2.1 50) 45 (S_1.1 53) (fun v_2 =>
  mbd (fX5_code N S_1 v_2 (0 : Int32) (0 : Int32)) (fun _ S_5 =>
  K0 S_5 x1)))
noncomputable def bX5_joins_73 (N : Nat) (S : MS) : Option (Int32 × MS) :=
  some (0, S)
noncomputable def bX5_joins_0 (N : Nat) (K0 : MS → Int32 → Option (Int32 × MS)) (S : MS) (x1 : Int32) : Option (Int32 × MS) :=
  if (S.1 53) ≤ 0 then
    bX5_joins_73 N S
  else
    mrd (S.2.2.1 50) 45 ((S.1 53) - (1 : Int32)) (fun v_2 =>
    if v_2 = (21 : Int32) then
      bX5_joins_45 N K0 S x1
    else
      mrd (S.2.2.1 50) 45 ((S.1 53) - (1 : Int32)) (fun v_5 =>
      if v_5 = (22 : Int32) then
        if x1 = (22 : Int32) then
          bX5_joins_45 N K0 S x1
        else
          bX5_joins_73 N S
      else
        bX5_joins_73 N S))
noncomputable def bX5_joins_0L (N : Nat) : Nat → MS → Int32 → Option (Int32 × MS)
  | 0 => fun _ _ => none
  | n + 1 => bX5_joins_0 N (bX5_joins_0L N n)
noncomputable def fX5_joins (N : Nat) (S : MS) (x1 : Int32) : Option (Int32 × MS) := bX5_joins_0L N N S x1
/-! behind()Z -/
abbrev rX5_behind : Room := { frames := 2, cells := 0, slots := 0, locals := 44 }
noncomputable def bX5_behind_70 (N : Nat) (S : MS) (t1 : Int32) (t2 : Int32) : Option (Int32 × MS) :=
  mwr S 50 45 t1 t2 (fun S_1 =>
  mpt S_1 53 ((S_1.1 53) + (1 : Int32)) (fun S_3 =>
  mzt (0 : Int32) (mpt S_3 55 (0 : Int32) (fun S_4 =>
  mbd (fX5_next N S_4) (fun _ S_7 =>
  mzt (1 : Int32) (some ((1 : Int32), S_7)))))))
noncomputable def bX5_behind_42 (N : Nat) (S : MS) (t1 : Int32) : Option (Int32 × MS) :=
  mbd (fX5_joins N S t1) (fun _ S_2 =>
  mbd (fX5_isWord N S_2 (6385252 : Int64)) (fun r_4 S_5 =>
  if r_4 = 0 then
    bX5_behind_70 N S_5 (S_2.1 53) (22 : Int32)
  else
    bX5_behind_70 N S_5 (S_2.1 53) (21 : Int32)))
noncomputable def bX5_behind_24 (N : Nat) (S : MS) : Option (Int32 × MS) :=
  mbd (fX5_isWord N S (6385252 : Int64)) (fun r_1 S_2 =>
  if r_1 = 0 then
    bX5_behind_42 N S_2 (22 : Int32)
  else
    bX5_behind_42 N S_2 (21 : Int32))
noncomputable def bX5_behind_114 (N : Nat) (S : MS) : Option (Int32 × MS) :=
  mbd (fX5_bad N S (1 : Int32)) (fun r_1 S_2 =>
  mzt r_1 (some (r_1, S_2)))
noncomputable def bX5_behind_0 (N : Nat) (S : MS) : Option (Int32 × MS) :=
  mbd (fX5_nots N S) (fun _ S_2 =>
  mbd (fX5_isWord N S_2 (6385252 : Int64)) (fun r_4 S_5 =>
  if r_4 = 0 then
    mbd (fX5_isWord N S_5 (28530 : Int64)) (fun r_8 S_9 =>
    if r_8 = 0 then
      mbd (fX5_joins N S_9 (22 : Int32)) (fun _ S_13 =>
      mbd (fX5_isSign N S_13 (41 : Int32)) (fun r_15 S_16 =>
      if r_15 = 0 then
        bX5_behind_114 N S_16
      else
        if (S_16.1 53) = 0 then
          bX5_behind_114 N S_16
        else
          mpt S_16 53 ((S_16.1 53) - (1 : Int32)) (fun S_20 =>
          mpt S_20 54 ((S_20.1 54) - (1 : Int32)) (fun S_21 =>
          mbd (fX5_next N S_21) (fun _ S_23 =>
          mzt (1 : Int32) (some ((1 : Int32), S_23)))))))
    else
      bX5_behind_24 N S_9)
  else
    bX5_behind_24 N S_5))
noncomputable def fX5_behind (N : Nat) (S : MS) : Option (Int32 × MS) := bX5_behind_0 N S
/-! leafOf()I -/
abbrev rX5_leafOf : Room := { frames := 1, cells := 0, slots := 0, locals := 22 }
noncomputable def bX5_leafOf_130 (N : Nat) (S : MS) (t0 : Int32) : Option (Int32 × MS) :=
  some (t0, S)
noncomputable def bX5_leafOf_0 (N : Nat) (S : MS) : Option (Int32 × MS) :=
  mbd (fX5_isWord N S (1752132965 : Int64)) (fun r_1 S_2 =>
  if r_1 = 0 then
    mbd (fX5_isWord N S_2 (495875089259 : Int64)) (fun r_5 S_6 =>
    if r_5 = 0 then
      mbd (fX5_isWord N S_6 (26990 : Int64)) (fun r_9 S_10 =>
      if r_9 = 0 then
        mbd (fX5_isWord N S_10 (28518 : Int64)) (fun r_13 S_14 =>
        if r_13 = 0 then
          mbd (fX5_isWord N S_14 (1718773093 : Int64)) (fun r_17 S_18 =>
          if r_17 = 0 then
            mbd (fX5_isWord N S_18 (119182899770472 : Int64)) (fun r_21 S_22 =>
            if r_21 = 0 then
              mbd (fX5_isWord N S_22 (499850634606 : Int64)) (fun r_25 S_26 =>
              if r_25 = 0 then
                mbd (fX5_isWord N S_26 (27991845698233700 : Int64)) (fun r_29 S_30 =>
                if r_29 = 0 then
                  mbd (fX5_isWord N S_30 (121450625394034 : Int64)) (fun r_33 S_34 =>
                  if r_33 = 0 then
                    bX5_leafOf_130 N S_34 (-1 : Int32)
                  else
                    bX5_leafOf_130 N S_34 (8 : Int32))
                else
                  bX5_leafOf_130 N S_30 (7 : Int32))
              else
                bX5_leafOf_130 N S_26 (6 : Int32))
            else
              bX5_leafOf_130 N S_22 (5 : Int32))
          else
            bX5_leafOf_130 N S_18 (4 : Int32))
        else
          bX5_leafOf_130 N S_14 (3 : Int32))
      else
        bX5_leafOf_130 N S_10 (2 : Int32))
    else
      bX5_leafOf_130 N S_6 (1 : Int32))
  else
    bX5_leafOf_130 N S_2 (0 : Int32))
noncomputable def fX5_leafOf (N : Nat) (S : MS) : Option (Int32 × MS) := bX5_leafOf_0 N S
/-! operand()Z -/
abbrev rX5_operand : Room := { frames := 2, cells := 0, slots := 0, locals := 45 }
noncomputable def bX5_operand_56 (N : Nat) (S : MS) : Option (Int32 × MS) :=
  mbd (fX5_bad N S (4 : Int32)) (fun r_1 S_2 =>
  mzt r_1 (some (r_1, S_2)))
noncomputable def bX5_operand_103 (N : Nat) (S : MS) (t1 : Int32) (t2 : Int32) : Option (Int32 × MS) :=
  mwr S 50 45 t1 t2 (fun S_1 =>
  mpt S_1 53 ((S_1.1 53) + (1 : Int32)) (fun S_3 =>
  mpt S_3 54 ((S_3.1 54) + (1 : Int32)) (fun S_4 =>
  mzt (1 : Int32) (some ((1 : Int32), S_4)))))
noncomputable def bX5_operand_84 (N : Nat) (S : MS) (x1 : Int32) : Option (Int32 × MS) :=
  if x1 = 0 then
    bX5_operand_103 N S (S.1 53) (23 : Int32)
  else
    bX5_operand_103 N S (S.1 53) (20 : Int32)
noncomputable def bX5_operand_208 (N : Nat) (S : MS) : Option (Int32 × MS) :=
  mbd (fX5_bad N S (1 : Int32)) (fun r_1 S_2 =>
  mzt r_1 (some (r_1, S_2)))
noncomputable def bX5_operand_38 (N : Nat) (S : MS) (x1 : Int32) (x2 : Int32) (x3 : Int32) : Option (Int32 × MS) :=
  if (S.1 52) = (20 : Int32) then
    bX5_operand_56 N S
  else
    if (S.1 54) ≤ (8 : Int32) then
      mpt S 52 ((S.1 52) + (1 : Int32)) (fun S_3 =>
      mbd (fX5_next N S_3) (fun _ S_5 =>
      if x1 = 0 then
        if x2 = 0 then
          mzt (1 : Int32) (mpt S_5 55 (1 : Int32) (fun S_9 =>
          if (2 : Int32) ≤ x3 then
            if (5 : Int32) ≤ x3 then
              if (S_9.1 11) = (3 : Int32) then
                if (S_9.1 14) < (60 : Int32) then
                  bX5_operand_208 N S_9
                else
                  if (S_9.1 14) ≤ (62 : Int32) then
                    mbd (fX5_next N S_9) (fun _ S_17 =>
                    if (S_17.1 11) = (2 : Int32) then
                      mbd (fX5_code N S_17 x3 (S_9.1 14) (S_17.1 14)) (fun _ S_21 =>
                      mbd (fX5_next N S_21) (fun _ S_24 =>
                      mzt (1 : Int32) (some ((1 : Int32), S_24))))
                    else
                      mbd (fX5_bad N S_17 (1 : Int32)) (fun r_26 S_27 =>
                      mzt r_26 (some (r_26, S_27))))
                  else
                    bX5_operand_208 N S_9
              else
                bX5_operand_208 N S_9
            else
              mrd (S_9.2.2.1 6) 319 (0 : Int32) (fun v_29 =>
              mbd (fX5_looksAt N S_9 (0 : Int32) v_29) (fun r_31 S_32 =>
              if r_31 = 0 then
                mzt (0 : Int32) (some ((0 : Int32), S_32))
              else
                mbd (fX5_code N S_32 x3 (0 : Int32) (S_32.1 18)) (fun _ S_36 =>
                mbd (fX5_next N S_36) (fun _ S_39 =>
                mzt (1 : Int32) (some ((1 : Int32), S_39))))))
          else
            mbd (fX5_code N S_9 x3 (0 : Int32) (0 : Int32)) (fun _ S_42 =>
            mzt (1 : Int32) (some ((1 : Int32), S_42)))))
        else
          bX5_operand_84 N S_5 x1
      else
        bX5_operand_84 N S_5 x1))
    else
      bX5_operand_56 N S
noncomputable def bX5_operand_0 (N : Nat) (S : MS) : Option (Int32 × MS) :=
  mbd (fX5_isWord N S (7237492 : Int64)) (fun r_1 S_2 =>
  mbd (fX5_isSign N S_2 (40 : Int32)) (fun r_4 S_5 =>
  mbd (fX5_leafOf N S_5) (fun r_7 S_8 =>
  if r_1 = 0 then
    if r_4 = 0 then
      if 0 ≤ r_7 then
        bX5_operand_38 N S_8 r_1 r_4 r_7
      else
        mbd (fX5_bad N S_8 (1 : Int32)) (fun r_13 S_14 =>
        mzt r_13 (some (r_13, S_14)))
    else
      bX5_operand_38 N S_8 r_1 r_4 r_7
  else
    bX5_operand_38 N S_8 r_1 r_4 r_7)))
noncomputable def fX5_operand (N : Nat) (S : MS) : Option (Int32 × MS) := bX5_operand_0 N S
/-! sentence()I -/
abbrev rX5_sentence : Room := { frames := 3, cells := 0, slots := 0, locals := 69 }
noncomputable def bX5_sentence_125 (N : Nat) (S : MS) : Option (Int32 × MS) :=
  some (((-1 : Int32) - (S.1 16)), S)
noncomputable def bX5_sentence_101 (N : Nat) (K48 : MS → Int32 → Option (Int32 × MS)) (S : MS) (x1 : Int32) : Option (Int32 × MS) :=
  if (S.1 55) = 0 then
    mbd (fX5_operand N S) (fun r_2 S_3 =>
    if r_2 = 0 then
      bX5_sentence_125 N S_3
    else
      K48 S_3 x1)
  else
    mbd (fX5_behind N S) (fun r_6 S_7 =>
    if r_6 = 0 then
      bX5_sentence_125 N S_7
    else
      K48 S_7 x1)
noncomputable def bX5_sentence_146 (N : Nat) (K146 : MS → Int32 → Option (Int32 × MS)) (S : MS) (x2 : Int32) : Option (Int32 × MS) :=
  if ((3 : Int32) * (S.1 51)) ≤ x2 then
    some ((S.1 52), S)
  else
    mrd (S.2.2.1 8) 160 x2 (fun v_2 =>
    mwr S 6 319 ((139 : Int32) + x2) v_2 (fun S_4 =>
    K146 S_4 (x2 + (1 : Int32))))
noncomputable def bX5_sentence_146L (N : Nat) : Nat → MS → Int32 → Option (Int32 × MS)
  | 0 => fun _ _ => none
  | n + 1 => bX5_sentence_146 N (bX5_sentence_146L N n)
noncomputable def bX5_sentence_48 (N : Nat) (K48 : MS → Int32 → Option (Int32 × MS)) (S : MS) (x1 : Int32) : Option (Int32 × MS) :=
  if x1 = 0 then
    mwr S 6 319 (138 : Int32) (S.1 51) (fun S_2 =>
    bX5_sentence_146L N N S_2 (0 : Int32))
  else
    if (S.1 55) = 0 then
      bX5_sentence_101 N K48 S x1
    else
      if (S.1 11) = 0 then
        mbd (fX5_nots N S) (fun _ S_7 =>
        mbd (fX5_joins N S_7 (22 : Int32)) (fun _ S_10 =>
        if (S_10.1 53) ≤ 0 then
          K48 S_10 (0 : Int32)
        else
          mbd (fX5_bad N S_10 (1 : Int32)) (fun r_13 S_14 =>
          some (((-1 : Int32) - (S_14.1 16)), S_14))))
      else
        bX5_sentence_101 N K48 S x1
noncomputable def bX5_sentence_48L (N : Nat) : Nat → MS → Int32 → Option (Int32 × MS)
  | 0 => fun _ _ => none
  | n + 1 => bX5_sentence_48 N (bX5_sentence_48L N n)
noncomputable def bX5_sentence_0 (N : Nat) (S : MS) : Option (Int32 × MS) :=
  mpt S 0 (0 : Int32) (fun S_1 =>
  mbd (fX5_taken N S_1 (200 : Int32)) (fun _ S_3 =>
  mpt S_3 15 (0 : Int32) (fun S_5 =>
  mpt S_5 51 (0 : Int32) (fun S_6 =>
  mpt S_6 52 (0 : Int32) (fun S_7 =>
  mpt S_7 53 (0 : Int32) (fun S_8 =>
  mpt S_8 54 (1 : Int32) (fun S_9 =>
  mzt (0 : Int32) (mpt S_9 55 (0 : Int32) (fun S_10 =>
  mbd (fX5_next N S_10) (fun _ S_13 =>
  bX5_sentence_48L N N S_13 (1 : Int32)))))))))))
noncomputable def fX5_sentence (N : Nat) (S : MS) : Option (Int32 × MS) := bX5_sentence_0 N S
/-! isLeaf(IIII)Z -/
abbrev rX5_isLeaf : Room := { frames := 5, cells := 0, slots := 0, locals := 112 }
noncomputable def bX5_isLeaf_251 (N : Nat) (S : MS) (t0 : Int32) : Option (Int32 × MS) :=
  mzt t0 (some (t0, S))
noncomputable def bX5_isLeaf_195 (N : Nat) (S : MS) (x3 : Int32) (x4 : Int32) (t0 : Int32) : Option (Int32 × MS) :=
  if x3 = (60 : Int32) then
    if x4 ≤ t0 then
      bX5_isLeaf_251 N S (0 : Int32)
    else
      bX5_isLeaf_251 N S (1 : Int32)
  else
    if x3 = (61 : Int32) then
      if t0 = x4 then
        bX5_isLeaf_251 N S (1 : Int32)
      else
        bX5_isLeaf_251 N S (0 : Int32)
    else
      if t0 ≤ x4 then
        bX5_isLeaf_251 N S (0 : Int32)
      else
        bX5_isLeaf_251 N S (1 : Int32)
noncomputable def bX5_isLeaf_116 (N : Nat) (S : MS) (t0 : Int32) : Option (Int32 × MS) :=
  mzt t0 (some (t0, S))
noncomputable def bX5_isLeaf_96 (N : Nat) (S : MS) (t0 : Int32) : Option (Int32 × MS) :=
  mzt t0 (some (t0, S))
noncomputable def bX5_isLeaf_76 (N : Nat) (S : MS) (t0 : Int32) : Option (Int32 × MS) :=
  mzt t0 (some (t0, S))
noncomputable def bX5_isLeaf_62 (N : Nat) (S : MS) (t0 : Int32) : Option (Int32 × MS) :=
  mzt t0 (some (t0, S))
noncomputable def bX5_isLeaf_0 (N : Nat) (S : MS) (x1 : Int32) (x2 : Int32) (x3 : Int32) (x4 : Int32) : Option (Int32 × MS) :=
  if x2 = (0 : Int32) then
    mrd (S.2.2.1 6) 319 ((108 : Int32) + x1) (fun v_2 =>
    mrd (S.2.2.1 6) 319 ((79 : Int32) + x1) (fun v_4 =>
    if v_2 = v_4 then
      bX5_isLeaf_62 N S (1 : Int32)
    else
      bX5_isLeaf_62 N S (0 : Int32)))
  else
    if x2 = (1 : Int32) then
      mbd (fX5_couldOf N S x1) (fun r_8 S_9 =>
      if r_8 = 0 then
        bX5_isLeaf_76 N S_9 (1 : Int32)
      else
        bX5_isLeaf_76 N S_9 (0 : Int32))
    else
      if x2 = (2 : Int32) then
        mrd (S.2.2.1 6) 319 ((108 : Int32) + x1) (fun v_13 =>
        if v_13 = x4 then
          bX5_isLeaf_96 N S (1 : Int32)
        else
          bX5_isLeaf_96 N S (0 : Int32))
      else
        if x2 = (3 : Int32) then
          mrd (S.2.2.1 6) 319 ((79 : Int32) + x1) (fun v_17 =>
          if v_17 = x4 then
            bX5_isLeaf_116 N S (1 : Int32)
          else
            bX5_isLeaf_116 N S (0 : Int32))
        else
          if x2 = (4 : Int32) then
            mrd (S.2.2.1 6) 319 ((79 : Int32) + x1) (fun v_21 =>
            mrd (S.2.2.1 6) 319 ((101 : Int32) + v_21) (fun v_23 =>
            mbd (fX5_bitOf N S v_23 x4) (fun r_25 S_26 =>
            mzt r_25 (some (r_25, S_26)))))
          else
            if x2 = (5 : Int32) then
              mrd (S.2.2.1 6) 319 ((114 : Int32) + x1) (fun v_35 =>
              bX5_isLeaf_195 N S x3 x4 v_35)
            else
              if x2 = (6 : Int32) then
                mrd (S.2.2.1 6) 319 ((120 : Int32) + x1) (fun v_33 =>
                bX5_isLeaf_195 N S x3 x4 v_33)
              else
                if x2 = (7 : Int32) then
                  mrd (S.2.2.1 6) 319 ((132 : Int32) + x1) (fun v_31 =>
                  bX5_isLeaf_195 N S x3 x4 v_31)
                else
                  bX5_isLeaf_195 N S x3 x4 x1
noncomputable def fX5_isLeaf (N : Nat) (S : MS) (x1 : Int32) (x2 : Int32) (x3 : Int32) (x4 : Int32) : Option (Int32 × MS) := bX5_isLeaf_0 N S x1 x2 x3 x4
/-! isSaid(I)Z -/
abbrev rX5_isSaid : Room := { frames := 6, cells := 0, slots := 0, locals := 137 }
noncomputable def bX5_isSaid_206 (N : Nat) (K4 : MS → Int32 → Int32 → Int32 → Option (Int32 × MS)) (S : MS) (x1 : Int32) (x2 : Int32) (x3 : Int32) : Option (Int32 × MS) :=
  K4 S x1 x2 (x3 + (1 : Int32))
noncomputable def bX5_isSaid_60 (N : Nat) (K4 : MS → Int32 → Int32 → Int32 → Option (Int32 × MS)) (S : MS) (x1 : Int32) (x2 : Int32) (x3 : Int32) (t1 : Int32) (t2 : Int32) : Option (Int32 × MS) :=
  mwr S 56 45 t1 (vp_nar .boolean t2) (fun S_1 =>
  bX5_isSaid_206 N K4 S_1 x1 x2 x3)
noncomputable def bX5_isSaid_163 (N : Nat) (K4 : MS → Int32 → Int32 → Int32 → Option (Int32 × MS)) (S : MS) (x1 : Int32) (x2 : Int32) (x3 : Int32) (t1 : Int32) (t2 : Int32) : Option (Int32 × MS) :=
  mwr S 56 45 t1 (vp_nar .boolean t2) (fun S_1 =>
  bX5_isSaid_206 N K4 S_1 x1 x2 x3)
noncomputable def bX5_isSaid_134 (N : Nat) (K4 : MS → Int32 → Int32 → Int32 → Option (Int32 × MS)) (S : MS) (x1 : Int32) (x2 : Int32) (x3 : Int32) (t1 : Int32) : Option (Int32 × MS) :=
  bX5_isSaid_163 N K4 S x1 x2 x3 t1 (0 : Int32)
noncomputable def bX5_isSaid_158 (N : Nat) (K4 : MS → Int32 → Int32 → Int32 → Option (Int32 × MS)) (S : MS) (x1 : Int32) (x2 : Int32) (x3 : Int32) (t1 : Int32) : Option (Int32 × MS) :=
  bX5_isSaid_163 N K4 S x1 x2 x3 t1 (1 : Int32)
noncomputable def bX5_isSaid_88 (N : Nat) (K4 : MS → Int32 → Int32 → Int32 → Option (Int32 × MS)) (S : MS) (x1 : Int32) (x2 : Int32) (x3 : Int32) (x4 : Int32) : Option (Int32 × MS) :=
  mrd (S.2.2.1 6) 319 x4 (fun v_1 =>
  if v_1 = (21 : Int32) then
    mrd (S.2.2.1 56) 45 ((x2 + (-1 : Int32)) - (1 : Int32)) (fun v_10 =>
    if v_10 = 0 then
      bX5_isSaid_134 N K4 S x1 (x2 + (-1 : Int32)) x3 ((x2 + (-1 : Int32)) - (1 : Int32))
    else
      mrd (S.2.2.1 56) 45 (x2 + (-1 : Int32)) (fun v_13 =>
      if v_13 = 0 then
        bX5_isSaid_134 N K4 S x1 (x2 + (-1 : Int32)) x3 ((x2 + (-1 : Int32)) - (1 : Int32))
      else
        bX5_isSaid_163 N K4 S x1 (x2 + (-1 : Int32)) x3 ((x2 + (-1 : Int32)) - (1 : Int32)) (1 : Int32)))
  else
    mrd (S.2.2.1 56) 45 ((x2 + (-1 : Int32)) - (1 : Int32)) (fun v_4 =>
    if v_4 = 0 then
      mrd (S.2.2.1 56) 45 (x2 + (-1 : Int32)) (fun v_7 =>
      if v_7 = 0 then
        bX5_isSaid_163 N K4 S x1 (x2 + (-1 : Int32)) x3 ((x2 + (-1 : Int32)) - (1 : Int32)) (0 : Int32)
      else
        bX5_isSaid_158 N K4 S x1 (x2 + (-1 : Int32)) x3 ((x2 + (-1 : Int32)) - (1 : Int32)))
    else
      bX5_isSaid_158 N K4 S x1 (x2 + (-1 : Int32)) x3 ((x2 + (-1 : Int32)) - (1 : Int32))))
noncomputable def bX5_isSaid_4 (N : Nat) (K4 : MS → Int32 → Int32 → Int32 → Option (Int32 × MS)) (S : MS) (x1 : Int32) (x2 : Int32) (x3 : Int32) : Option (Int32 × MS) :=
  mrd (S.2.2.1 6) 319 (138 : Int32) (fun v_1 =>
  if v_1 ≤ x3 then
    mrd (S.2.2.1 56) 45 (0 : Int32) (fun v_4 =>
    mzt v_4 (some (v_4, S)))
  else
    mrd (S.2.2.1 6) 319 ((139 : Int32) + ((3 : Int32) * x3)) (fun v_6 =>
    if v_6 = (20 : Int32) then
      mrd (S.2.2.1 56) 45 (x2 - (1 : Int32)) (fun v_26 =>
      if v_26 = 0 then
        bX5_isSaid_60 N K4 S x1 x2 x3 (x2 - (1 : Int32)) (1 : Int32)
      else
        bX5_isSaid_60 N K4 S x1 x2 x3 (x2 - (1 : Int32)) (0 : Int32))
    else
      mrd (S.2.2.1 6) 319 ((139 : Int32) + ((3 : Int32) * x3)) (fun v_9 =>
      if v_9 = (21 : Int32) then
        bX5_isSaid_88 N K4 S x1 x2 x3 ((139 : Int32) + ((3 : Int32) * x3))
      else
        mrd (S.2.2.1 6) 319 ((139 : Int32) + ((3 : Int32) * x3)) (fun v_12 =>
        if v_12 = (22 : Int32) then
          bX5_isSaid_88 N K4 S x1 x2 x3 ((139 : Int32) + ((3 : Int32) * x3))
        else
          mrd (S.2.2.1 6) 319 ((139 : Int32) + ((3 : Int32) * x3)) (fun v_15 =>
          mrd (S.2.2.1 6) 319 (((139 : Int32) + ((3 : Int32) * x3)) + (1 : Int32)) (fun v_17 =>
          mrd (S.2.2.1 6) 319 (((139 : Int32) + ((3 : Int32) * x3)) + (2 : Int32)) (fun v_19 =>
          mbd (fX5_isLeaf N S x1 v_15 v_17 v_19) (fun r_21 S_22 =>
          mwr S_22 56 45 x2 (vp_nar .boolean r_21) (fun S_24 =>
          bX5_isSaid_206 N K4 S_24 x1 (x2 + (1 : Int32)) x3)))))))))
noncomputable def bX5_isSaid_4L (N : Nat) : Nat → MS → Int32 → Int32 → Int32 → Option (Int32 × MS)
  | 0 => fun _ _ _ _ => none
  | n + 1 => bX5_isSaid_4 N (bX5_isSaid_4L N n)
noncomputable def bX5_isSaid_0 (N : Nat) (S : MS) (x1 : Int32) : Option (Int32 × MS) :=
  bX5_isSaid_4L N N S x1 (0 : Int32) (0 : Int32)
noncomputable def fX5_isSaid (N : Nat) (S : MS) (x1 : Int32) : Option (Int32 × MS) := bX5_isSaid_0 N S x1
/-! said(I)I -/
abbrev rX5_said : Room := { frames := 7, cells := 0, slots := 0, locals := 161 }
noncomputable def bX5_said_21 (N : Nat) (S : MS) : Option (Int32 × MS) :=
  some ((-1 : Int32), S)
noncomputable def bX5_said_58 (N : Nat) (K27 : MS → Int32 → Int32 → Int32 → Option (Int32 × MS)) (S : MS) (x1 : Int32) (x2 : Int32) (x3 : Int32) : Option (Int32 × MS) :=
  K27 S x1 x2 (x3 + (1 : Int32))
noncomputable def bX5_said_74 (N : Nat) (S : MS) (t0 : Int32) : Option (Int32 × MS) :=
  some (t0, S)
noncomputable def bX5_said_27 (N : Nat) (K27 : MS → Int32 → Int32 → Int32 → Option (Int32 × MS)) (S : MS) (x1 : Int32) (x2 : Int32) (x3 : Int32) : Option (Int32 × MS) :=
  mrd (S.2.2.1 6) 319 (2 : Int32) (fun v_1 =>
  if v_1 ≤ x3 then
    if x1 = (-1 : Int32) then
      bX5_said_74 N S x2
    else
      bX5_said_74 N S (-1 : Int32)
  else
    mbd (fX5_isSaid N S x3) (fun r_5 S_6 =>
    if r_5 = 0 then
      bX5_said_58 N K27 S_6 x1 x2 x3
    else
      if x2 = x1 then
        some (x3, S_6)
      else
        bX5_said_58 N K27 S_6 x1 (x2 + (1 : Int32)) x3))
noncomputable def bX5_said_27L (N : Nat) : Nat → MS → Int32 → Int32 → Int32 → Option (Int32 × MS)
  | 0 => fun _ _ _ _ => none
  | n + 1 => bX5_said_27 N (bX5_said_27L N n)
noncomputable def bX5_said_0 (N : Nat) (S : MS) (x1 : Int32) : Option (Int32 × MS) :=
  mpt S 0 (0 : Int32) (fun S_1 =>
  mrd (S_1.2.2.1 6) 319 (138 : Int32) (fun v_2 =>
  if v_2 = 0 then
    bX5_said_21 N S_1
  else
    if (-1 : Int32) ≤ x1 then
      bX5_said_27L N N S_1 x1 (0 : Int32) (0 : Int32)
    else
      bX5_said_21 N S_1))
noncomputable def fX5_said (N : Nat) (S : MS) (x1 : Int32) : Option (Int32 × MS) := bX5_said_0 N S x1
/-! image(I)Z -/
abbrev rX5_image : Room := { frames := 1, cells := 0, slots := 0, locals := 22 }
noncomputable def bX5_image_51 (N : Nat) (K51 : MS → Int32 → Int32 → Option (Int32 × MS)) (S : MS) (x1 : Int32) (x2 : Int32) : Option (Int32 × MS) :=
  if (13 : Int32) ≤ x2 then
    mwr S 59 2 x1 (vp_nar .boolean (1 : Int32)) (fun S_2 =>
    mzt (1 : Int32) (some ((1 : Int32), S_2)))
  else
    mrdL (S.2.2.2 9) 26 x2 (fun v_4 =>
    mwrL S 58 26 (((13 : Int32) * x1) + x2) v_4 (fun S_6 =>
    K51 S_6 x1 (x2 + (1 : Int32))))
noncomputable def bX5_image_51L (N : Nat) : Nat → MS → Int32 → Int32 → Option (Int32 × MS)
  | 0 => fun _ _ _ => none
  | n + 1 => bX5_image_51 N (bX5_image_51L N n)
noncomputable def bX5_image_18 (N : Nat) (K18 : MS → Int32 → Int32 → Option (Int32 × MS)) (S : MS) (x1 : Int32) (x2 : Int32) : Option (Int32 × MS) :=
  if (319 : Int32) ≤ x2 then
    bX5_image_51L N N S x1 (0 : Int32)
  else
    mrd (S.2.2.1 6) 319 x2 (fun v_2 =>
    mwr S 57 638 (((319 : Int32) * x1) + x2) v_2 (fun S_4 =>
    K18 S_4 x1 (x2 + (1 : Int32))))
noncomputable def bX5_image_18L (N : Nat) : Nat → MS → Int32 → Int32 → Option (Int32 × MS)
  | 0 => fun _ _ _ => none
  | n + 1 => bX5_image_18 N (bX5_image_18L N n)
noncomputable def bX5_image_0 (N : Nat) (S : MS) (x1 : Int32) : Option (Int32 × MS) :=
  mpt S 0 (0 : Int32) (fun S_1 =>
  mbd (fX5_isIn N S_1 x1 (0 : Int32) (1 : Int32)) (fun r_2 S_3 =>
  if r_2 = 0 then
    mzt (0 : Int32) (some ((0 : Int32), S_3))
  else
    bX5_image_18L N N S_3 x1 (0 : Int32)))
noncomputable def fX5_image (N : Nat) (S : MS) (x1 : Int32) : Option (Int32 × MS) := bX5_image_0 N S x1
/-! restore(I)Z -/
abbrev rX5_restore : Room := { frames := 1, cells := 0, slots := 0, locals := 22 }
noncomputable def bX5_restore_23 (N : Nat) (S : MS) : Option (Int32 × MS) :=
  mzt (0 : Int32) (some ((0 : Int32), S))
noncomputable def bX5_restore_60 (N : Nat) (K60 : MS → Int32 → Int32 → Option (Int32 × MS)) (S : MS) (x1 : Int32) (x2 : Int32) : Option (Int32 × MS) :=
  if (13 : Int32) ≤ x2 then
    mpt S 23 (0 : Int32) (fun S_2 =>
    mzt (1 : Int32) (some ((1 : Int32), S_2)))
  else
    mrdL (S.2.2.2 58) 26 (((13 : Int32) * x1) + x2) (fun v_3 =>
    mwrL S 9 26 x2 v_3 (fun S_5 =>
    K60 S_5 x1 (x2 + (1 : Int32))))
noncomputable def bX5_restore_60L (N : Nat) : Nat → MS → Int32 → Int32 → Option (Int32 × MS)
  | 0 => fun _ _ _ => none
  | n + 1 => bX5_restore_60 N (bX5_restore_60L N n)
noncomputable def bX5_restore_27 (N : Nat) (K27 : MS → Int32 → Int32 → Option (Int32 × MS)) (S : MS) (x1 : Int32) (x2 : Int32) : Option (Int32 × MS) :=
  if (319 : Int32) ≤ x2 then
    bX5_restore_60L N N S x1 (0 : Int32)
  else
    mrd (S.2.2.1 57) 638 (((319 : Int32) * x1) + x2) (fun v_2 =>
    mwr S 6 319 x2 v_2 (fun S_4 =>
    K27 S_4 x1 (x2 + (1 : Int32))))
noncomputable def bX5_restore_27L (N : Nat) : Nat → MS → Int32 → Int32 → Option (Int32 × MS)
  | 0 => fun _ _ _ => none
  | n + 1 => bX5_restore_27 N (bX5_restore_27L N n)
noncomputable def bX5_restore_0 (N : Nat) (S : MS) (x1 : Int32) : Option (Int32 × MS) :=
  mpt S 0 (0 : Int32) (fun S_1 =>
  mbd (fX5_isIn N S_1 x1 (0 : Int32) (1 : Int32)) (fun r_2 S_3 =>
  if r_2 = 0 then
    bX5_restore_23 N S_3
  else
    mrd (S_3.2.2.1 59) 2 x1 (fun v_6 =>
    if v_6 = 0 then
      bX5_restore_23 N S_3
    else
      bX5_restore_27L N N S_3 x1 (0 : Int32))))
noncomputable def fX5_restore (N : Nat) (S : MS) (x1 : Int32) : Option (Int32 × MS) := bX5_restore_0 N S x1
/-! count(I)I -/
abbrev rX5_count : Room := { frames := 1, cells := 0, slots := 0, locals := 22 }
noncomputable def bX5_count_36 (N : Nat) (S : MS) (t0 : Int32) : Option (Int32 × MS) :=
  some (t0, S)
noncomputable def bX5_count_0 (N : Nat) (S : MS) (x1 : Int32) : Option (Int32 × MS) :=
  mpt S 0 (0 : Int32) (fun S_1 =>
  if x1 = (3 : Int32) then
    bX5_count_36 N S_1 (S_1.1 2)
  else
    mbd (fX5_isIn N S_1 x1 (0 : Int32) (2 : Int32)) (fun r_3 S_4 =>
    if r_3 = 0 then
      bX5_count_36 N S_4 (-1 : Int32)
    else
      mrd (S_4.2.2.1 6) 319 x1 (fun v_7 =>
      bX5_count_36 N S_4 v_7)))
noncomputable def fX5_count (N : Nat) (S : MS) (x1 : Int32) : Option (Int32 × MS) := bX5_count_0 N S x1
