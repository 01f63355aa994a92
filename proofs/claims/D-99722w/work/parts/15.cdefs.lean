/-! printed by gen/cgen.py: what the component's methods compute -/
set_option maxRecDepth 100000
/-! InchBorders$Back.ends(III)Z -/
abbrev rX21_ends : Room := { frames := 1, cells := 0, slots := 0, locals := 21 }
noncomputable def bX21_ends_20 (E : gE) (N : Nat) (h0 : Nat) (S : GS) : Option (Int32 × GS) :=
  mzt (0 : Int32) (some ((0 : Int32), S))
noncomputable def bX21_ends_0 (E : gE) (N : Nat) (h0 : Nat) (S : GS) (x2 : Int32) (x3 : Int32) : Option (Int32 × GS) :=
  ggi S (some h0) 87 (fun v_1 =>
  if x2 = v_1 then
    ggi S (some h0) 88 (fun v_4 =>
    gpv E S (some h0) 88 (.int (if v_4 < x3 then x3 else v_4)) (fun S_6 =>
    bX21_ends_20 E N h0 S_6))
  else
    bX21_ends_20 E N h0 S)
noncomputable def fX21_ends (E : gE) (N : Nat) (S : GS) (h0 : Nat) (x1 : Int32) (x2 : Int32) (x3 : Int32) : Option (Int32 × GS) := bX21_ends_0 E N h0 S x2 x3
/-! jdk/internal/util/Preconditions.checkIndex(IILjava/util/function/BiFunction;)I -/
abbrev rJ5_checkIndex : Room := { frames := 0, cells := 0, slots := 0, locals := 0 }
noncomputable def bJ5_checkIndex_9 (E : gE) (N : Nat) (S : GS) (x0 : Int32) (x1 : Int32) (x2 : Option Nat) : Option (Int32 × GS) :=
  none
noncomputable def bJ5_checkIndex_0 (E : gE) (N : Nat) (S : GS) (x0 : Int32) (x1 : Int32) (x2 : Option Nat) : Option (Int32 × GS) :=
  if x0 < 0 then
    bJ5_checkIndex_9 E N S x0 x1 x2
  else
    if x0 < x1 then
      some (x0, S)
    else
      bJ5_checkIndex_9 E N S x0 x1 x2
noncomputable def fJ5_checkIndex (E : gE) (N : Nat) (S : GS) (x0 : Int32) (x1 : Int32) (x2 : Option Nat) : Option (Int32 × GS) := bJ5_checkIndex_0 E N S x0 x1 x2
/-! java/util/Objects.checkIndex(II)I -/
abbrev rJ4_checkIndex : Room := { frames := 1, cells := 0, slots := 0, locals := 22 }
noncomputable def bJ4_checkIndex_0 (E : gE) (N : Nat) (S : GS) (x0 : Int32) (x1 : Int32) : Option (Int32 × GS) :=
  gbd (fJ5_checkIndex E N S x0 x1 none) (fun r_1 S_2 =>
  some (r_1, S_2))
noncomputable def fJ4_checkIndex (E : gE) (N : Nat) (S : GS) (x0 : Int32) (x1 : Int32) : Option (Int32 × GS) := bJ4_checkIndex_0 E N S x0 x1
/-! java/util/ArrayList.elementData(I)Ljava/lang/Object; -/
abbrev rJ2_elementData : Room := { frames := 0, cells := 0, slots := 0, locals := 0 }
noncomputable def bJ2_elementData_0 (E : gE) (N : Nat) (h0 : Nat) (S : GS) (x1 : Int32) : Option (Option Nat × GS) :=
  ggr S (some h0) 111 (fun v_1 =>
  gar S v_1 x1 (fun v_3 =>
  some (v_3, S)))
noncomputable def fJ2_elementData (E : gE) (N : Nat) (S : GS) (h0 : Nat) (x1 : Int32) : Option (Option Nat × GS) := bJ2_elementData_0 E N h0 S x1
noncomputable def vjava_util_ArrayList_elementData__I_Ljava_lang_Object_ (E : gE) (N : Nat) (S : GS) (r : Option Nat) (y0 : Int32) : Option (Option Nat × GS) := gvd S r (fun b ci =>
  if ci = 24 then fJ2_elementData E N S b y0 else
  none)
/-! java/util/ArrayList.get(I)Ljava/lang/Object; -/
abbrev rJ2_get : Room := { frames := 2, cells := 0, slots := 0, locals := 43 }
noncomputable def bJ2_get_0 (E : gE) (N : Nat) (h0 : Nat) (S : GS) (x1 : Int32) : Option (Option Nat × GS) :=
  ggi S (some h0) 112 (fun v_1 =>
  gbd (fJ4_checkIndex E N S x1 v_1) (fun r_3 S_4 =>
  gbd (vjava_util_ArrayList_elementData__I_Ljava_lang_Object_ E N S_4 (some h0) x1) (fun r_7 S_8 =>
  some (r_7, S_8))))
noncomputable def fJ2_get (E : gE) (N : Nat) (S : GS) (h0 : Nat) (x1 : Int32) : Option (Option Nat × GS) := bJ2_get_0 E N h0 S x1
noncomputable def vjava_util_ArrayList_get__I_Ljava_lang_Object_ (E : gE) (N : Nat) (S : GS) (r : Option Nat) (y0 : Int32) : Option (Option Nat × GS) := gvd S r (fun b ci =>
  if ci = 24 then fJ2_get E N S b y0 else
  none)
/-! InchBorders$Atlas.home(I)I -/
abbrev rX2_home : Room := { frames := 3, cells := 0, slots := 0, locals := 64 }
noncomputable def bX2_home_0 (E : gE) (N : Nat) (h0 : Nat) (S : GS) (x1 : Int32) : Option (Int32 × GS) :=
  ggr S (some h0) 27 (fun v_1 =>
  gbd (vjava_util_ArrayList_get__I_Ljava_lang_Object_ E N S v_1 x1) (fun r_3 S_4 =>
  gcc S_4 r_3 [8] (
  ggi S_4 r_3 71 (fun v_8 =>
  some (v_8, S_4)))))
noncomputable def fX2_home (E : gE) (N : Nat) (S : GS) (h0 : Nat) (x1 : Int32) : Option (Int32 × GS) := bX2_home_0 E N h0 S x1
noncomputable def vInchBorders_Atlas_home__I_I (E : gE) (N : Nat) (S : GS) (r : Option Nat) (y0 : Int32) : Option (Int32 × GS) := gvd S r (fun b ci =>
  if ci = 1 then fX2_home E N S b y0 else
  none)
/-! InchBorders$Walk.<init>(LInchBorders$Times;II)V -/
abbrev rX19_init (mc ms : Nat) : Room := { frames := 4, cells := mc, slots := ms, locals := 85 }
noncomputable def bX19_init_25 (E : gE) (N : Nat) (h0 : Nat) (S : GS) (x1 : Option Nat) (x3 : Int32) (t0 : Option Nat) (t1 : Int32) : Option (Int32 × GS) :=
  gpv E S t0 82 (.int t1) (fun S_1 =>
  ggr S_1 x1 33 (fun v_3 =>
  ggi S_1 (some h0) 82 (fun v_5 =>
  gai 1 S_1 v_3 v_5 (fun v_7 =>
  ggi S_1 (some h0) 82 (fun v_9 =>
  gpv E S_1 (some h0) 83 (.int ((v_7 ||| ((1 : Int32) <<< (v_9 &&& 31))) ||| x3)) (fun S_11 =>
  some (0, S_11)))))))
noncomputable def bX19_init_8 (E : gE) (N : Nat) (h0 : Nat) (S : GS) (x1 : Option Nat) (x2 : Int32) (x3 : Int32) (t0 : Option Nat) (t1 : Option Nat) : Option (Int32 × GS) :=
  gpv E S t0 84 (va_rf t1) (fun S_1 =>
  gpv E S_1 (some h0) 81 (va_rf x1) (fun S_3 =>
  ggr S_3 x1 28 (fun v_5 =>
  gbd (vInchBorders_Atlas_home__I_I E N S_3 v_5 x2) (fun r_7 S_8 =>
  bX19_init_25 E N h0 S_8 x1 x3 (some h0) r_7))))
noncomputable def bX19_init_4 (E : gE) (N : Nat) (h0 : Nat) (S : GS) (x1 : Option Nat) (x2 : Int32) (x3 : Int32) : Option (Int32 × GS) :=
  gna S 1 (5 : Int32) (fun a_2 S_1 =>
  bX19_init_8 E N h0 S_1 x1 x2 x3 (some h0) (some a_2))
noncomputable def bX19_init_0 (E : gE) (N : Nat) (h0 : Nat) (S : GS) (x1 : Option Nat) (x2 : Int32) (x3 : Int32) : Option (Int32 × GS) :=
  bX19_init_4 E N h0 S x1 x2 x3
noncomputable def fX19_init (E : gE) (N : Nat) (S : GS) (h0 : Nat) (x1 : Option Nat) (x2 : Int32) (x3 : Int32) : Option (Int32 × GS) := bX19_init_0 E N h0 S x1 x2 x3
/-! InchBorders$Back.<init>(LInchBorders$Times;I)V -/
abbrev rX21_init (mc ms : Nat) : Room := { frames := 5, cells := mc, slots := ms, locals := 108 }
noncomputable def bX21_init_7 (E : gE) (N : Nat) (h0 : Nat) (S : GS) (x1 : Option Nat) (x2 : Int32) : Option (Int32 × GS) :=
  gpv E S (some h0) 88 (.int (-1 : Int32)) (fun S_1 =>
  ggr S_1 x1 34 (fun v_3 =>
  gai 1 S_1 v_3 x2 (fun v_5 =>
  gpv E S_1 (some h0) 87 (.int v_5) (fun S_7 =>
  some (0, S_7)))))
noncomputable def bX21_init_0 (E : gE) (N : Nat) (h0 : Nat) (S : GS) (x1 : Option Nat) (x2 : Int32) : Option (Int32 × GS) :=
  gbd (fX19_init E N S h0 x1 x2 (0 : Int32)) (fun _ S_2 =>
  bX21_init_7 E N h0 S_2 x1 x2)
noncomputable def fX21_init (E : gE) (N : Nat) (S : GS) (h0 : Nat) (x1 : Option Nat) (x2 : Int32) : Option (Int32 × GS) := bX21_init_0 E N h0 S x1 x2
/-! InchBorders$Goal.<init>(LInchBorders$Times;IIII)V -/
abbrev rX20_init (mc ms : Nat) : Room := { frames := 5, cells := mc, slots := ms, locals := 108 }
noncomputable def bX20_init_7 (E : gE) (N : Nat) (h0 : Nat) (S : GS) (x4 : Int32) (x5 : Int32) : Option (Int32 × GS) :=
  gpv E S (some h0) 85 (.int x4) (fun S_1 =>
  gpv E S_1 (some h0) 86 (.int x5) (fun S_3 =>
  some (0, S_3)))
noncomputable def bX20_init_0 (E : gE) (N : Nat) (h0 : Nat) (S : GS) (x1 : Option Nat) (x2 : Int32) (x3 : Int32) (x4 : Int32) (x5 : Int32) : Option (Int32 × GS) :=
  gbd (fX19_init E N S h0 x1 x2 x3) (fun _ S_2 =>
  bX20_init_7 E N h0 S_2 x4 x5)
noncomputable def fX20_init (E : gE) (N : Nat) (S : GS) (h0 : Nat) (x1 : Option Nat) (x2 : Int32) (x3 : Int32) (x4 : Int32) (x5 : Int32) : Option (Int32 × GS) := bX20_init_0 E N h0 S x1 x2 x3 x4 x5
/-! InchBorders$Goal.ends(III)Z -/
abbrev rX20_ends : Room := { frames := 0, cells := 0, slots := 0, locals := 0 }
noncomputable def bX20_ends_21 (E : gE) (N : Nat) (h0 : Nat) (S : GS) (t0 : Int32) : Option (Int32 × GS) :=
  mzt t0 (some (t0, S))
noncomputable def bX20_ends_20 (E : gE) (N : Nat) (h0 : Nat) (S : GS) : Option (Int32 × GS) :=
  bX20_ends_21 E N h0 S (0 : Int32)
noncomputable def bX20_ends_0 (E : gE) (N : Nat) (h0 : Nat) (S : GS) (x2 : Int32) (x3 : Int32) : Option (Int32 × GS) :=
  ggi S (some h0) 85 (fun v_1 =>
  if x2 = v_1 then
    ggi S (some h0) 86 (fun v_4 =>
    if x3 < v_4 then
      bX20_ends_20 E N h0 S
    else
      bX20_ends_21 E N h0 S (1 : Int32))
  else
    bX20_ends_20 E N h0 S)
noncomputable def fX20_ends (E : gE) (N : Nat) (S : GS) (h0 : Nat) (x1 : Int32) (x2 : Int32) (x3 : Int32) : Option (Int32 × GS) := bX20_ends_0 E N h0 S x2 x3
/-! InchBorders$Made.ends(III)Z -/
abbrev rX22_ends : Room := { frames := 1, cells := 0, slots := 0, locals := 40 }
noncomputable def bX22_ends_36 (E : gE) (N : Nat) (h0 : Nat) (S : GS) (x2 : Int32) : Option (Int32 × GS) :=
  ggi S (some h0) 92 (fun v_1 =>
  gpv E S (some h0) 92 (.int (v_1 + (1 : Int32))) (fun S_3 =>
  ggr S_3 (some h0) 91 (fun v_5 =>
  gai 1 S_3 v_5 x2 (fun v_7 =>
  gaw 1 E S_3 v_5 x2 (v_7 + (1 : Int32)) (fun S_9 =>
  mzt (0 : Int32) (some ((0 : Int32), S_9)))))))
noncomputable def bX22_ends_0 (E : gE) (N : Nat) (h0 : Nat) (S : GS) (x1 : Int32) (x2 : Int32) (x3 : Int32) : Option (Int32 × GS) :=
  ggi S (some h0) 89 (fun v_1 =>
  if x3 = v_1 then
    ggi S (some h0) 92 (fun v_4 =>
    if v_4 = 0 then
      ggr S (some h0) 84 (fun v_7 =>
      ggr S (some h0) 90 (fun v_9 =>
      gcp E S v_7 (0 : Int32) v_9 (0 : Int32) x1 (fun S_11 =>
      gpv E S_11 (some h0) 93 (.int x1) (fun S_13 =>
      bX22_ends_36 E N h0 S_13 x2))))
    else
      bX22_ends_36 E N h0 S x2)
  else
    mzt (0 : Int32) (some ((0 : Int32), S)))
noncomputable def fX22_ends (E : gE) (N : Nat) (S : GS) (h0 : Nat) (x1 : Int32) (x2 : Int32) (x3 : Int32) : Option (Int32 × GS) := bX22_ends_0 E N h0 S x1 x2 x3
/-! java/util/ArrayList.size()I -/
abbrev rJ2_size : Room := { frames := 0, cells := 0, slots := 0, locals := 0 }
noncomputable def bJ2_size_0 (E : gE) (N : Nat) (h0 : Nat) (S : GS) : Option (Int32 × GS) :=
  ggi S (some h0) 112 (fun v_1 =>
  some (v_1, S))
noncomputable def fJ2_size (E : gE) (N : Nat) (S : GS) (h0 : Nat) : Option (Int32 × GS) := bJ2_size_0 E N h0 S
noncomputable def vjava_util_ArrayList_size___I (E : gE) (N : Nat) (S : GS) (r : Option Nat) : Option (Int32 × GS) := gvd S r (fun b ci =>
  if ci = 24 then fJ2_size E N S b else
  none)
/-! InchBorders$Times.lands()I -/
abbrev rX3_lands : Room := { frames := 1, cells := 0, slots := 0, locals := 20 }
noncomputable def bX3_lands_0 (E : gE) (N : Nat) (h0 : Nat) (S : GS) : Option (Int32 × GS) :=
  ggr S (some h0) 28 (fun v_1 =>
  ggr S v_1 25 (fun v_3 =>
  gbd (vjava_util_ArrayList_size___I E N S v_3) (fun r_5 S_6 =>
  some (r_5, S_6))))
noncomputable def fX3_lands (E : gE) (N : Nat) (S : GS) (h0 : Nat) : Option (Int32 × GS) := bX3_lands_0 E N h0 S
/-! InchBorders.isOf(II)Z -/
abbrev rX1_isOf : Room := { frames := 0, cells := 0, slots := 0, locals := 0 }
noncomputable def bX1_isOf_14 (E : gE) (N : Nat) (S : GS) (t0 : Int32) : Option (Int32 × GS) :=
  mzt t0 (some (t0, S))
noncomputable def bX1_isOf_0 (E : gE) (N : Nat) (S : GS) (x0 : Int32) (x1 : Int32) : Option (Int32 × GS) :=
  if ((x0 >>> (x1 &&& 31)) &&& (1 : Int32)) = (1 : Int32) then
    bX1_isOf_14 E N S (1 : Int32)
  else
    bX1_isOf_14 E N S (0 : Int32)
noncomputable def fX1_isOf (E : gE) (N : Nat) (S : GS) (x0 : Int32) (x1 : Int32) : Option (Int32 × GS) := bX1_isOf_0 E N S x0 x1
/-! InchBorders$Road.is(II)Z -/
abbrev rX11_is : Room := { frames := 0, cells := 0, slots := 0, locals := 0 }
noncomputable def bX11_is_37 (E : gE) (N : Nat) (h0 : Nat) (S : GS) (t0 : Int32) : Option (Int32 × GS) :=
  mzt t0 (some (t0, S))
noncomputable def bX11_is_32 (E : gE) (N : Nat) (h0 : Nat) (S : GS) : Option (Int32 × GS) :=
  bX11_is_37 E N h0 S (1 : Int32)
noncomputable def bX11_is_36 (E : gE) (N : Nat) (h0 : Nat) (S : GS) : Option (Int32 × GS) :=
  bX11_is_37 E N h0 S (0 : Int32)
noncomputable def bX11_is_16 (E : gE) (N : Nat) (h0 : Nat) (S : GS) (x1 : Int32) (x2 : Int32) : Option (Int32 × GS) :=
  ggi S (some h0) 67 (fun v_1 =>
  if v_1 = x2 then
    ggi S (some h0) 68 (fun v_4 =>
    if v_4 = x1 then
      bX11_is_32 E N h0 S
    else
      bX11_is_36 E N h0 S)
  else
    bX11_is_36 E N h0 S)
noncomputable def bX11_is_0 (E : gE) (N : Nat) (h0 : Nat) (S : GS) (x1 : Int32) (x2 : Int32) : Option (Int32 × GS) :=
  ggi S (some h0) 67 (fun v_1 =>
  if v_1 = x1 then
    ggi S (some h0) 68 (fun v_4 =>
    if v_4 = x2 then
      bX11_is_32 E N h0 S
    else
      bX11_is_16 E N h0 S x1 x2)
  else
    bX11_is_16 E N h0 S x1 x2)
noncomputable def fX11_is (E : gE) (N : Nat) (S : GS) (h0 : Nat) (x1 : Int32) (x2 : Int32) : Option (Int32 × GS) := bX11_is_0 E N h0 S x1 x2
noncomputable def vInchBorders_Road_is__II_Z (E : gE) (N : Nat) (S : GS) (r : Option Nat) (y0 : Int32) (y1 : Int32) : Option (Int32 × GS) := gvd S r (fun b ci =>
  if ci = 7 then fX11_is E N S b y0 y1 else
  none)
/-! InchBorders$Atlas.road(II)I -/
abbrev rX2_road : Room := { frames := 3, cells := 0, slots := 0, locals := 64 }
noncomputable def bX2_road_2 (E : gE) (N : Nat) (h0 : Nat) (K2 : GS → Int32 → Int32 → Int32 → Option (Int32 × GS)) (S : GS) (x1 : Int32) (x2 : Int32) (x3 : Int32) : Option (Int32 × GS) :=
  ggr S (some h0) 26 (fun v_1 =>
  gbd (vjava_util_ArrayList_size___I E N S v_1) (fun r_3 S_4 =>
  if r_3 ≤ x3 then
    some ((-1 : Int32), S_4)
  else
    ggr S_4 (some h0) 26 (fun v_8 =>
    gbd (vjava_util_ArrayList_get__I_Ljava_lang_Object_ E N S_4 v_8 x3) (fun r_10 S_11 =>
    gcc S_11 r_10 [7] (
    gbd (vInchBorders_Road_is__II_Z E N S_11 r_10 x1 x2) (fun r_15 S_16 =>
    if r_15 = 0 then
      K2 S_16 x1 x2 (x3 + (1 : Int32))
    else
      some (x3, S_16)))))))
noncomputable def bX2_road_2L (E : gE) (N : Nat) (h0 : Nat) : Nat → GS → Int32 → Int32 → Int32 → Option (Int32 × GS)
  | 0 => fun _ _ _ _ => none
  | n + 1 => bX2_road_2 E N h0 (bX2_road_2L E N h0 n)
noncomputable def bX2_road_0 (E : gE) (N : Nat) (h0 : Nat) (S : GS) (x1 : Int32) (x2 : Int32) : Option (Int32 × GS) :=
  bX2_road_2L E N h0 N S x1 x2 (0 : Int32)
noncomputable def fX2_road (E : gE) (N : Nat) (S : GS) (h0 : Nat) (x1 : Int32) (x2 : Int32) : Option (Int32 × GS) := bX2_road_0 E N h0 S x1 x2
/-! InchBorders$Times.take(I)I -/
abbrev rX3_take : Room := { frames := 3, cells := 0, slots := 0, locals := 64 }
noncomputable def bX3_take_0 (E : gE) (N : Nat) (h0 : Nat) (S : GS) (x1 : Int32) : Option (Int32 × GS) :=
  ggr S (some h0) 28 (fun v_1 =>
  ggr S v_1 25 (fun v_3 =>
  gbd (vjava_util_ArrayList_get__I_Ljava_lang_Object_ E N S v_3 x1) (fun r_5 S_6 =>
  gcc S_6 r_5 [6] (
  ggi S_6 r_5 62 (fun v_10 =>
  some (v_10, S_6))))))
noncomputable def fX3_take (E : gE) (N : Nat) (S : GS) (h0 : Nat) (x1 : Int32) : Option (Int32 × GS) := bX3_take_0 E N h0 S x1
noncomputable def vInchBorders_Atlas_road__II_I (E : gE) (N : Nat) (S : GS) (r : Option Nat) (y0 : Int32) (y1 : Int32) : Option (Int32 × GS) := gvd S r (fun b ci =>
  if ci = 1 then fX2_road E N S b y0 y1 else
  none)
noncomputable def vInchBorders_Times_take__I_I (E : gE) (N : Nat) (S : GS) (r : Option Nat) (y0 : Int32) : Option (Int32 × GS) := gvd S r (fun b ci =>
  if ci = 2 then fX3_take E N S b y0 else
  none)
/-! InchBorders$Times.why(IIIZ)I -/
abbrev rX3_why : Room := { frames := 4, cells := 0, slots := 0, locals := 87 }
noncomputable def bX3_why_95 (E : gE) (N : Nat) (h0 : Nat) (S : GS) (t0 : Int32) : Option (Int32 × GS) :=
  some (t0, S)
noncomputable def bX3_why_94 (E : gE) (N : Nat) (h0 : Nat) (S : GS) : Option (Int32 × GS) :=
  bX3_why_95 E N h0 S (0 : Int32)
noncomputable def bX3_why_0 (E : gE) (N : Nat) (h0 : Nat) (S : GS) (x1 : Int32) (x2 : Int32) (x3 : Int32) (x4 : Int32) : Option (Int32 × GS) :=
  ggr S (some h0) 28 (fun v_1 =>
  gbd (vInchBorders_Atlas_road__II_I E N S v_1 x1 x2) (fun r_3 S_4 =>
  if r_3 = (-1 : Int32) then
    some ((1 : Int32), S_4)
  else
    ggi S_4 (some h0) 31 (fun v_8 =>
    gbd (fX1_isOf E N S_4 v_8 r_3) (fun r_10 S_11 =>
    if r_10 = 0 then
      ggr S_11 (some h0) 28 (fun v_15 =>
      ggr S_11 v_15 26 (fun v_17 =>
      gbd (vjava_util_ArrayList_get__I_Ljava_lang_Object_ E N S_11 v_17 r_3) (fun r_19 S_20 =>
      gcc S_20 r_19 [7] (
      ggi S_20 r_19 69 (fun v_24 =>
      if v_24 ≤ x3 then
        ggi S_20 r_19 70 (fun v_27 =>
        if x3 ≤ v_27 then
          if x4 = 0 then
            gbd (vInchBorders_Times_take__I_I E N S_20 (some h0) x2) (fun r_31 S_32 =>
            if r_31 < x3 then
              bX3_why_94 E N h0 S_32
            else
              bX3_why_95 E N h0 S_32 (5 : Int32))
          else
            bX3_why_94 E N h0 S_20
        else
          bX3_why_95 E N h0 S_20 (4 : Int32))
      else
        bX3_why_95 E N h0 S_20 (3 : Int32))))))
    else
      some ((2 : Int32), S_11)))))
noncomputable def fX3_why (E : gE) (N : Nat) (S : GS) (h0 : Nat) (x1 : Int32) (x2 : Int32) (x3 : Int32) (x4 : Int32) : Option (Int32 × GS) := bX3_why_0 E N h0 S x1 x2 x3 x4
/-! InchBorders$Times.gives(III)I -/
abbrev rX3_gives : Room := { frames := 3, cells := 0, slots := 0, locals := 64 }
noncomputable def bX3_gives_0 (E : gE) (N : Nat) (h0 : Nat) (S : GS) (x1 : Int32) (x2 : Int32) (x3 : Int32) : Option (Int32 × GS) :=
  ggr S (some h0) 28 (fun v_1 =>
  ggr S v_1 25 (fun v_3 =>
  gbd (vjava_util_ArrayList_get__I_Ljava_lang_Object_ E N S v_3 x1) (fun r_5 S_6 =>
  gcc S_6 r_5 [6] (
  ggi S_6 r_5 63 (fun v_10 =>
  some ((if (if ((240 : Int32) - x2) < x3 then ((240 : Int32) - x2) else x3) < v_10 then (if ((240 : Int32) - x2) < x3 then ((240 : Int32) - x2) else x3) else v_10), S_6))))))
noncomputable def fX3_gives (E : gE) (N : Nat) (S : GS) (h0 : Nat) (x1 : Int32) (x2 : Int32) (x3 : Int32) : Option (Int32 × GS) := bX3_gives_0 E N h0 S x1 x2 x3
def NVPInchBorders_Walk_goes__IIIII_Z (ρ : GS → Option Nat → Int32 → Int32 → Int32 → Int32 → Int32 → Option (Int32 × GS)) : Prop := ∀ (S : GS) (r : Option Nat) (y0 : Int32) (y1 : Int32) (y2 : Int32) (y3 : Int32) (y4 : Int32) (r0 : Int32) (Sf : GS), ρ S r y0 y1 y2 y3 y4 = some (r0, Sf) → gEq S Sf
def UVPInchBorders_Walk_goes__IIIII_Z (E : gE) (ρ : GS → Option Nat → Int32 → Int32 → Int32 → Int32 → Int32 → Option (Int32 × GS)) (fr lo : Nat) : Prop := ∀ {Γ : GG} {own : String} {p : Program} {l : Launch} {e : Env} {R : Room} {s : State} {m : MethodId} {args : Array Value} {below : List Frame} {meth : Method} {c : Code} {H : Heap} {locs : List Loc} {cells slots nL pc index : Nat} {cc : ByteArray} {ls : Array Slot} {rest As st0 : List Value} {ret : Option FieldType} {S0 S Sf : GS} {r : Option Nat} {y0 : Int32} {y1 : Int32} {y2 : Int32} {y3 : Int32} {y4 : Int32} {r0 : Int32}, gFx Γ E own p m c cc nL s args meth ret → GH Γ E S0 s.heap S H locs → Cond.methodLink own index ⟨"InchBorders$Walk", "goes", "(IIIII)Z"⟩ ∈ lw_all → ρ S r y0 y1 y2 y3 y4 = some (r0, Sf) → As = [.int y0, .int y1, .int y2, .int y3, .int y4] → ls.size = nL → st0 = As.reverse ++ va_rf r :: rest → (rest.map fun v => v.category).sum ≤ 8 → decode cc pc = .ok (.invokevirtual index, 3) → (cells + 0 ≤ R.cells ∧ slots + 0 ≤ R.slots) → (fr + 1 ≤ R.frames ∧ 8 + 11 + lo ≤ R.locals) → va_Run p l e R s m args below meth c H locs cells slots 0 0 (F0 m pc ls st0) rest ((gQi Γ E S r0 Sf) (va_rf r :: As).toArray) (gA E S)
noncomputable def vInchBorders_Walk_ends__III_Z (E : gE) (N : Nat) (S : GS) (r : Option Nat) (y0 : Int32) (y1 : Int32) (y2 : Int32) : Option (Int32 × GS) := gvd S r (fun b ci =>
  if ci = 13 then fX20_ends E N S b y0 y1 y2 else
  if ci = 14 then fX21_ends E N S b y0 y1 y2 else
  if ci = 15 then fX22_ends E N S b y0 y1 y2 else
  none)
noncomputable def vInchBorders_Times_lands___I (E : gE) (N : Nat) (S : GS) (r : Option Nat) : Option (Int32 × GS) := gvd S r (fun b ci =>
  if ci = 2 then fX3_lands E N S b else
  none)
noncomputable def vInchBorders_Times_why__IIIZ_I (E : gE) (N : Nat) (S : GS) (r : Option Nat) (y0 : Int32) (y1 : Int32) (y2 : Int32) (y3 : Int32) : Option (Int32 × GS) := gvd S r (fun b ci =>
  if ci = 2 then fX3_why E N S b y0 y1 y2 y3 else
  none)
noncomputable def vInchBorders_Times_gives__III_I (E : gE) (N : Nat) (S : GS) (r : Option Nat) (y0 : Int32) (y1 : Int32) (y2 : Int32) : Option (Int32 × GS) := gvd S r (fun b ci =>
  if ci = 2 then fX3_gives E N S b y0 y1 y2 else
  none)
/-! InchBorders$Walk.goes(IIIII)Z -/
abbrev rX19_goes (fr lo : Nat) : Room := { frames := fr + 1 + 5, cells := 0, slots := 0, locals := lo + 19 + 113 }
noncomputable def bX19_goes_149 (E : gE) (N : Nat) (ρ0 : GS → Option Nat → Int32 → Int32 → Int32 → Int32 → Int32 → Option (Int32 × GS)) (h0 : Nat) (K17 : GS → Int32 → Int32 → Int32 → Int32 → Int32 → Int32 → Option (Int32 × GS)) (S : GS) (x1 : Int32) (x2 : Int32) (x3 : Int32) (x4 : Int32) (x5 : Int32) (x6 : Int32) : Option (Int32 × GS) :=
  K17 S x1 x2 x3 x4 x5 (x6 + (1 : Int32))
noncomputable def bX19_goes_119 (E : gE) (N : Nat) (ρ0 : GS → Option Nat → Int32 → Int32 → Int32 → Int32 → Int32 → Option (Int32 × GS)) (h0 : Nat) (K17 : GS → Int32 → Int32 → Int32 → Int32 → Int32 → Int32 → Option (Int32 × GS)) (S : GS) (x1 : Int32) (x2 : Int32) (x3 : Int32) (x4 : Int32) (x5 : Int32) (x6 : Int32) (x7 : Int32) (t0 : Int32) : Option (Int32 × GS) :=
  gbd (ρ0 S (some h0) (x1 + (1 : Int32)) x2 x6 ((x4 + x7) - t0) (x5 - x7)) (fun r_1 S_2 =>
  if r_1 = 0 then
    bX19_goes_149 E N ρ0 h0 K17 S_2 x1 x2 x3 x4 x5 x6
  else
    mzt (1 : Int32) (some ((1 : Int32), S_2)))
noncomputable def bX19_goes_92 (E : gE) (N : Nat) (ρ0 : GS → Option Nat → Int32 → Int32 → Int32 → Int32 → Int32 → Option (Int32 × GS)) (h0 : Nat) (K17 : GS → Int32 → Int32 → Int32 → Int32 → Int32 → Int32 → Option (Int32 × GS)) (S : GS) (x1 : Int32) (x2 : Int32) (x3 : Int32) (x4 : Int32) (x5 : Int32) (x6 : Int32) (t0 : Int32) : Option (Int32 × GS) :=
  ggi S (some h0) 83 (fun v_1 =>
  gbd (fX1_isOf E N S v_1 x6) (fun r_3 S_4 =>
  if r_3 = 0 then
    ggr S_4 (some h0) 81 (fun v_8 =>
    gbd (vInchBorders_Times_take__I_I E N S_4 v_8 x6) (fun r_10 S_11 =>
    bX19_goes_119 E N ρ0 h0 K17 S_11 x1 x2 x3 x4 x5 x6 t0 r_10))
  else
    bX19_goes_119 E N ρ0 h0 K17 S_4 x1 x2 x3 x4 x5 x6 t0 (0 : Int32)))
noncomputable def bX19_goes_17 (E : gE) (N : Nat) (ρ0 : GS → Option Nat → Int32 → Int32 → Int32 → Int32 → Int32 → Option (Int32 × GS)) (h0 : Nat) (K17 : GS → Int32 → Int32 → Int32 → Int32 → Int32 → Int32 → Option (Int32 × GS)) (S : GS) (x1 : Int32) (x2 : Int32) (x3 : Int32) (x4 : Int32) (x5 : Int32) (x6 : Int32) : Option (Int32 × GS) :=
  ggr S (some h0) 81 (fun v_1 =>
  gbd (vInchBorders_Times_lands___I E N S v_1) (fun r_3 S_4 =>
  if r_3 ≤ x6 then
    mzt (0 : Int32) (some ((0 : Int32), S_4))
  else
    ggr S_4 (some h0) 81 (fun v_9 =>
    ggi S_4 (some h0) 83 (fun v_11 =>
    gbd (fX1_isOf E N S_4 v_11 x6) (fun r_13 S_14 =>
    gbd (vInchBorders_Times_why__IIIZ_I E N S_14 v_9 x3 x6 x4 r_13) (fun r_17 S_18 =>
    if r_17 = 0 then
      ggr S_18 (some h0) 84 (fun v_22 =>
      gaw 1 E S_18 v_22 x1 x6 (fun S_24 =>
      ggi S_24 (some h0) 82 (fun v_26 =>
      if x6 = v_26 then
        ggr S_24 (some h0) 81 (fun v_29 =>
        ggi S_24 (some h0) 82 (fun v_31 =>
        gbd (vInchBorders_Times_gives__III_I E N S_24 v_29 v_31 x4 x5) (fun r_33 S_34 =>
        bX19_goes_92 E N ρ0 h0 K17 S_34 x1 x2 x3 x4 x5 x6 r_33)))
      else
        bX19_goes_92 E N ρ0 h0 K17 S_24 x1 x2 x3 x4 x5 x6 (0 : Int32))))
    else
      bX19_goes_149 E N ρ0 h0 K17 S_18 x1 x2 x3 x4 x5 x6))))))
noncomputable def bX19_goes_17L (E : gE) (N : Nat) (ρ0 : GS → Option Nat → Int32 → Int32 → Int32 → Int32 → Int32 → Option (Int32 × GS)) (h0 : Nat) : Nat → GS → Int32 → Int32 → Int32 → Int32 → Int32 → Int32 → Option (Int32 × GS)
  | 0 => fun _ _ _ _ _ _ _ => none
  | n + 1 => bX19_goes_17 E N ρ0 h0 (bX19_goes_17L E N ρ0 h0 n)
noncomputable def bX19_goes_0 (E : gE) (N : Nat) (ρ0 : GS → Option Nat → Int32 → Int32 → Int32 → Int32 → Int32 → Option (Int32 × GS)) (h0 : Nat) (S : GS) (x1 : Int32) (x2 : Int32) (x3 : Int32) (x4 : Int32) (x5 : Int32) : Option (Int32 × GS) :=
  if x1 = x2 then
    gbd (vInchBorders_Walk_ends__III_Z E N S (some h0) x1 x3 x4) (fun r_2 S_3 =>
    mzt r_2 (some (r_2, S_3)))
  else
    bX19_goes_17L E N ρ0 h0 N S x1 x2 x3 x4 x5 (0 : Int32)
noncomputable def fX19_goes (E : gE) (N : Nat) (ρ0 : GS → Option Nat → Int32 → Int32 → Int32 → Int32 → Int32 → Option (Int32 × GS)) (S : GS) (h0 : Nat) (x1 : Int32) (x2 : Int32) (x3 : Int32) (x4 : Int32) (x5 : Int32) : Option (Int32 × GS) := bX19_goes_0 E N ρ0 h0 S x1 x2 x3 x4 x5
noncomputable def vbInchBorders_Walk_goes__IIIII_Z (E : gE) (N : Nat) (ρ0 : GS → Option Nat → Int32 → Int32 → Int32 → Int32 → Int32 → Option (Int32 × GS)) : GS → Option Nat → Int32 → Int32 → Int32 → Int32 → Int32 → Option (Int32 × GS) := fun S r y0 y1 y2 y3 y4 => gvd S r (fun b ci =>
  if ci = 13 then fX19_goes E N ρ0 S b y0 y1 y2 y3 y4 else
  if ci = 14 then fX19_goes E N ρ0 S b y0 y1 y2 y3 y4 else
  if ci = 15 then fX19_goes E N ρ0 S b y0 y1 y2 y3 y4 else
  none)
noncomputable def zX19_goes (E : gE) (N : Nat) : Nat → (GS → Option Nat → Int32 → Int32 → Int32 → Int32 → Int32 → Option (Int32 × GS))
  | 0 => (fun _ _ _ _ _ _ _ => none)
  | d + 1 => (vbInchBorders_Walk_goes__IIIII_Z E N (zX19_goes E N d))
noncomputable def vInchBorders_Walk_goes__IIIII_Z (E : gE) (N : Nat) (S : GS) (r : Option Nat) (y0 : Int32) (y1 : Int32) (y2 : Int32) (y3 : Int32) (y4 : Int32) : Option (Int32 × GS) := (zX19_goes E N 64) S r y0 y1 y2 y3 y4
/-! InchBorders$Walk.starts(II)Z -/
abbrev rX19_starts : Room := { frames := 385, cells := 0, slots := 0, locals := 9043 }
noncomputable def bX19_starts_0 (E : gE) (N : Nat) (h0 : Nat) (S : GS) (x1 : Int32) (x2 : Int32) : Option (Int32 × GS) :=
  ggr S (some h0) 81 (fun v_1 =>
  ggr S v_1 34 (fun v_3 =>
  gai 1 S v_3 x1 (fun v_5 =>
  ggr S (some h0) 81 (fun v_7 =>
  ggr S v_7 35 (fun v_9 =>
  gai 1 S v_9 x1 (fun v_11 =>
  ggr S (some h0) 81 (fun v_13 =>
  ggr S v_13 32 (fun v_15 =>
  ggi S (some h0) 82 (fun v_17 =>
  gai 1 S v_15 v_17 (fun v_19 =>
  gbd (vInchBorders_Walk_goes__IIIII_Z E N S (some h0) (0 : Int32) x2 v_5 v_11 v_19) (fun r_21 S_22 =>
  mzt r_21 (some (r_21, S_22)))))))))))))
noncomputable def fX19_starts (E : gE) (N : Nat) (S : GS) (h0 : Nat) (x1 : Int32) (x2 : Int32) : Option (Int32 × GS) := bX19_starts_0 E N h0 S x1 x2
noncomputable def vInchBorders_Goal_starts__II_Z (E : gE) (N : Nat) (S : GS) (r : Option Nat) (y0 : Int32) (y1 : Int32) : Option (Int32 × GS) := gvd S r (fun b ci =>
  if ci = 13 then fX19_starts E N S b y0 y1 else
  none)
/-! InchBorders$Goal.fewest(I)I -/
abbrev rX20_fewest : Room := { frames := 386, cells := 0, slots := 0, locals := 9065 }
noncomputable def bX20_fewest_2 (E : gE) (N : Nat) (h0 : Nat) (K2 : GS → Int32 → Int32 → Option (Int32 × GS)) (S : GS) (x1 : Int32) (x2 : Int32) : Option (Int32 × GS) :=
  if (5 : Int32) < x2 then
    some ((-1 : Int32), S)
  else
    gbd (vInchBorders_Goal_starts__II_Z E N S (some h0) x1 x2) (fun r_2 S_3 =>
    if r_2 = 0 then
      K2 S_3 x1 (x2 + (1 : Int32))
    else
      some (x2, S_3))
noncomputable def bX20_fewest_2L (E : gE) (N : Nat) (h0 : Nat) : Nat → GS → Int32 → Int32 → Option (Int32 × GS)
  | 0 => fun _ _ _ => none
  | n + 1 => bX20_fewest_2 E N h0 (bX20_fewest_2L E N h0 n)
noncomputable def bX20_fewest_0 (E : gE) (N : Nat) (h0 : Nat) (S : GS) (x1 : Int32) : Option (Int32 × GS) :=
  bX20_fewest_2L E N h0 N S x1 (0 : Int32)
noncomputable def fX20_fewest (E : gE) (N : Nat) (S : GS) (h0 : Nat) (x1 : Int32) : Option (Int32 × GS) := bX20_fewest_0 E N h0 S x1
/-! InchBorders$Cond.<init>()V -/
abbrev rX26_init : Room := { frames := 1, cells := 0, slots := 0, locals := 20 }
noncomputable def bX26_init_0 (E : gE) (N : Nat) (h0 : Nat) (S : GS) : Option (Int32 × GS) :=
  some (0, S)
noncomputable def fX26_init (E : gE) (N : Nat) (S : GS) (h0 : Nat) : Option (Int32 × GS) := bX26_init_0 E N h0 S
/-! InchBorders$Of.<init>(II)V -/
abbrev rX29_init : Room := { frames := 2, cells := 0, slots := 0, locals := 40 }
noncomputable def bX29_init_0 (E : gE) (N : Nat) (h0 : Nat) (S : GS) (x1 : Int32) (x2 : Int32) : Option (Int32 × GS) :=
  gbd (fX26_init E N S h0) (fun _ S_2 =>
  gpv E S_2 (some h0) 102 (.int x1) (fun S_5 =>
  gpv E S_5 (some h0) 103 (.int x2) (fun S_7 =>
  some (0, S_7))))
noncomputable def fX29_init (E : gE) (N : Nat) (S : GS) (h0 : Nat) (x1 : Int32) (x2 : Int32) : Option (Int32 × GS) := bX29_init_0 E N h0 S x1 x2
/-! InchBorders$Of.holds(LInchBorders$Times;I)Z -/
abbrev rX29_holds : Room := { frames := 4, cells := 0, slots := 0, locals := 85 }
noncomputable def bX29_holds_79 (E : gE) (N : Nat) (h0 : Nat) (S : GS) (t0 : Int32) : Option (Int32 × GS) :=
  mzt t0 (some (t0, S))
noncomputable def bX29_holds_0 (E : gE) (N : Nat) (h0 : Nat) (S : GS) (x1 : Option Nat) (x2 : Int32) : Option (Int32 × GS) :=
  ggi S (some h0) 102 (fun v_1 =>
  if v_1 = 0 then
    ggr S x1 34 (fun v_32 =>
    gai 1 S v_32 x2 (fun v_34 =>
    ggi S (some h0) 103 (fun v_36 =>
    if v_34 = v_36 then
      bX29_holds_79 E N h0 S (1 : Int32)
    else
      bX29_holds_79 E N h0 S (0 : Int32))))
  else
    ggi S (some h0) 102 (fun v_4 =>
    if v_4 = (1 : Int32) then
      ggr S x1 28 (fun v_23 =>
      gbd (vInchBorders_Atlas_home__I_I E N S v_23 x2) (fun r_25 S_26 =>
      ggi S_26 (some h0) 103 (fun v_29 =>
      if r_25 = v_29 then
        bX29_holds_79 E N h0 S_26 (1 : Int32)
      else
        bX29_holds_79 E N h0 S_26 (0 : Int32))))
    else
      ggr S x1 33 (fun v_7 =>
      ggr S x1 28 (fun v_9 =>
      gbd (vInchBorders_Atlas_home__I_I E N S v_9 x2) (fun r_11 S_12 =>
      gai 1 S_12 v_7 r_11 (fun v_15 =>
      ggi S_12 (some h0) 103 (fun v_17 =>
      gbd (fX1_isOf E N S_12 v_15 v_17) (fun r_19 S_20 =>
      bX29_holds_79 E N h0 S_20 r_19))))))))
noncomputable def fX29_holds (E : gE) (N : Nat) (S : GS) (h0 : Nat) (x1 : Option Nat) (x2 : Int32) : Option (Int32 × GS) := bX29_holds_0 E N h0 S x1 x2
/-! InchBorders$Act.told(II)I -/
abbrev rX13_told : Room := { frames := 0, cells := 0, slots := 0, locals := 0 }
noncomputable def bX13_told_11 (E : gE) (N : Nat) (S : GS) (t0 : Int32) : Option (Int32 × GS) :=
  some (t0, S)
noncomputable def bX13_told_0 (E : gE) (N : Nat) (S : GS) (x0 : Int32) (x1 : Int32) : Option (Int32 × GS) :=
  if x0 = 0 then
    bX13_told_11 E N S (0 : Int32)
  else
    bX13_told_11 E N S (x1 + x0)
noncomputable def fX13_told (E : gE) (N : Nat) (S : GS) (x0 : Int32) (x1 : Int32) : Option (Int32 × GS) := bX13_told_0 E N S x0 x1
/-! InchBorders$Lends.does(LInchBorders$Times;)I -/
abbrev rX17_does : Room := { frames := 1, cells := 0, slots := 0, locals := 21 }
noncomputable def bX17_does_36 (E : gE) (N : Nat) (h0 : Nat) (S : GS) (x1 : Option Nat) (t0 : Int32) : Option (Int32 × GS) :=
  if t0 = 0 then
    ggr S x1 32 (fun v_2 =>
    ggi S (some h0) 77 (fun v_4 =>
    gai 1 S v_2 v_4 (fun v_6 =>
    ggi S (some h0) 79 (fun v_8 =>
    gaw 1 E S v_2 v_4 (v_6 - v_8) (fun S_10 =>
    ggr S_10 x1 32 (fun v_12 =>
    ggi S_10 (some h0) 78 (fun v_14 =>
    gai 1 S_10 v_12 v_14 (fun v_16 =>
    ggi S_10 (some h0) 79 (fun v_18 =>
    gaw 1 E S_10 v_12 v_14 (v_16 + v_18) (fun S_20 =>
    some ((0 : Int32), S_20)))))))))))
  else
    gbd (fX13_told E N S t0 (50 : Int32)) (fun r_22 S_23 =>
    some (r_22, S_23))
noncomputable def bX17_does_0 (E : gE) (N : Nat) (h0 : Nat) (S : GS) (x1 : Option Nat) : Option (Int32 × GS) :=
  ggi S (some h0) 77 (fun v_1 =>
  ggi S (some h0) 78 (fun v_3 =>
  if v_1 = v_3 then
    bX17_does_36 E N h0 S x1 (1 : Int32)
  else
    ggr S x1 32 (fun v_6 =>
    ggi S (some h0) 77 (fun v_8 =>
    gai 1 S v_6 v_8 (fun v_10 =>
    ggi S (some h0) 79 (fun v_12 =>
    if v_12 ≤ v_10 then
      bX17_does_36 E N h0 S x1 (0 : Int32)
    else
      bX17_does_36 E N h0 S x1 (2 : Int32)))))))
noncomputable def fX17_does (E : gE) (N : Nat) (S : GS) (h0 : Nat) (x1 : Option Nat) : Option (Int32 × GS) := bX17_does_0 E N h0 S x1
/-! InchBorders$Act.<init>()V -/
abbrev rX13_init : Room := { frames := 1, cells := 0, slots := 0, locals := 20 }
noncomputable def bX13_init_0 (E : gE) (N : Nat) (h0 : Nat) (S : GS) : Option (Int32 × GS) :=
  some (0, S)
noncomputable def fX13_init (E : gE) (N : Nat) (S : GS) (h0 : Nat) : Option (Int32 × GS) := bX13_init_0 E N h0 S
/-! InchBorders$OfTwo.<init>(II)V -/
abbrev rX16_init : Room := { frames := 2, cells := 0, slots := 0, locals := 40 }
noncomputable def bX16_init_0 (E : gE) (N : Nat) (h0 : Nat) (S : GS) (x1 : Int32) (x2 : Int32) : Option (Int32 × GS) :=
  gbd (fX13_init E N S h0) (fun _ S_2 =>
  gpv E S_2 (some h0) 77 (.int x1) (fun S_5 =>
  gpv E S_5 (some h0) 78 (.int x2) (fun S_7 =>
  some (0, S_7))))
noncomputable def fX16_init (E : gE) (N : Nat) (S : GS) (h0 : Nat) (x1 : Int32) (x2 : Int32) : Option (Int32 × GS) := bX16_init_0 E N h0 S x1 x2
/-! InchBorders$Lends.<init>(III)V -/
abbrev rX17_init : Room := { frames := 3, cells := 0, slots := 0, locals := 62 }
noncomputable def bX17_init_0 (E : gE) (N : Nat) (h0 : Nat) (S : GS) (x1 : Int32) (x2 : Int32) (x3 : Int32) : Option (Int32 × GS) :=
  gbd (fX16_init E N S h0 x1 x2) (fun _ S_2 =>
  gpv E S_2 (some h0) 79 (.int x3) (fun S_5 =>
  some (0, S_5)))
noncomputable def fX17_init (E : gE) (N : Nat) (S : GS) (h0 : Nat) (x1 : Int32) (x2 : Int32) (x3 : Int32) : Option (Int32 × GS) := bX17_init_0 E N h0 S x1 x2 x3
/-! InchBorders$Reader.<init>([BII)V -/
abbrev rX6_init : Room := { frames := 1, cells := 0, slots := 0, locals := 20 }
noncomputable def bX6_init_0 (E : gE) (N : Nat) (h0 : Nat) (S : GS) (x1 : Option Nat) (x2 : Int32) (x3 : Int32) : Option (Int32 × GS) :=
  gpv E S (some h0) 51 (va_rf (some (E.2.1 23))) (fun S_1 =>
  gpv E S_1 (some h0) 43 (va_rf x1) (fun S_3 =>
  gpv E S_3 (some h0) 44 (.int x2) (fun S_5 =>
  gpv E S_5 (some h0) 45 (.int x3) (fun S_7 =>
  some (0, S_7)))))
noncomputable def fX6_init (E : gE) (N : Nat) (S : GS) (h0 : Nat) (x1 : Option Nat) (x2 : Int32) (x3 : Int32) : Option (Int32 × GS) := bX6_init_0 E N h0 S x1 x2 x3
/-! InchBorders$SentenceReader.<init>([BILInchBorders$Atlas;)V -/
abbrev rX25_init : Room := { frames := 2, cells := 0, slots := 0, locals := 43 }
noncomputable def bX25_init_0 (E : gE) (N : Nat) (h0 : Nat) (S : GS) (x1 : Option Nat) (x2 : Int32) (x3 : Option Nat) : Option (Int32 × GS) :=
  gbd (fX6_init E N S h0 x1 x2 (200 : Int32)) (fun _ S_2 =>
  gpv E S_2 (some h0) 97 (va_rf x3) (fun S_5 =>
  some (0, S_5)))
noncomputable def fX25_init (E : gE) (N : Nat) (S : GS) (h0 : Nat) (x1 : Option Nat) (x2 : Int32) (x3 : Option Nat) : Option (Int32 × GS) := bX25_init_0 E N h0 S x1 x2 x3
/-! InchBorders$Reader.byteAt(I)I -/
abbrev rX6_byteAt : Room := { frames := 0, cells := 0, slots := 0, locals := 0 }
noncomputable def bX6_byteAt_22 (E : gE) (N : Nat) (h0 : Nat) (S : GS) (t0 : Int32) : Option (Int32 × GS) :=
  some (t0, S)
noncomputable def bX6_byteAt_0 (E : gE) (N : Nat) (h0 : Nat) (S : GS) (x1 : Int32) : Option (Int32 × GS) :=
  ggi S (some h0) 44 (fun v_1 =>
  if v_1 ≤ x1 then
    bX6_byteAt_22 E N h0 S (0 : Int32)
  else
    ggr S (some h0) 43 (fun v_4 =>
    gai 0 S v_4 x1 (fun v_6 =>
    bX6_byteAt_22 E N h0 S (v_6 &&& (255 : Int32)))))
noncomputable def fX6_byteAt (E : gE) (N : Nat) (S : GS) (h0 : Nat) (x1 : Int32) : Option (Int32 × GS) := bX6_byteAt_0 E N h0 S x1
/-! InchBorders$Reader.isLetter(I)Z -/
abbrev rX6_isLetter : Room := { frames := 0, cells := 0, slots := 0, locals := 0 }
noncomputable def bX6_isLetter_17 (E : gE) (N : Nat) (S : GS) (t0 : Int32) : Option (Int32 × GS) :=
  mzt t0 (some (t0, S))
noncomputable def bX6_isLetter_16 (E : gE) (N : Nat) (S : GS) : Option (Int32 × GS) :=
  bX6_isLetter_17 E N S (0 : Int32)
noncomputable def bX6_isLetter_0 (E : gE) (N : Nat) (S : GS) (x0 : Int32) : Option (Int32 × GS) :=
  if x0 < (97 : Int32) then
    bX6_isLetter_16 E N S
  else
    if (122 : Int32) < x0 then
      bX6_isLetter_16 E N S
    else
      bX6_isLetter_17 E N S (1 : Int32)
noncomputable def fX6_isLetter (E : gE) (N : Nat) (S : GS) (x0 : Int32) : Option (Int32 × GS) := bX6_isLetter_0 E N S x0
/-! InchBorders$Reader.isDigit(I)Z -/
abbrev rX6_isDigit : Room := { frames := 0, cells := 0, slots := 0, locals := 0 }
noncomputable def bX6_isDigit_17 (E : gE) (N : Nat) (S : GS) (t0 : Int32) : Option (Int32 × GS) :=
  mzt t0 (some (t0, S))
noncomputable def bX6_isDigit_16 (E : gE) (N : Nat) (S : GS) : Option (Int32 × GS) :=
  bX6_isDigit_17 E N S (0 : Int32)
noncomputable def bX6_isDigit_0 (E : gE) (N : Nat) (S : GS) (x0 : Int32) : Option (Int32 × GS) :=
  if x0 < (48 : Int32) then
    bX6_isDigit_16 E N S
  else
    if (57 : Int32) < x0 then
      bX6_isDigit_16 E N S
    else
      bX6_isDigit_17 E N S (1 : Int32)
noncomputable def fX6_isDigit (E : gE) (N : Nat) (S : GS) (x0 : Int32) : Option (Int32 × GS) := bX6_isDigit_0 E N S x0
/-! java/lang/AbstractStringBuilder.<init>(I)V -/
abbrev rJ6_init (mc ms : Nat) : Room := { frames := 1, cells := mc, slots := ms, locals := 20 }
noncomputable def bJ6_init_14 (E : gE) (N : Nat) (h0 : Nat) (S : GS) (t0 : Option Nat) (t1 : Option Nat) : Option (Int32 × GS) :=
  gpv E S t0 113 (va_rf t1) (fun S_1 =>
  gnt .byte (0 : Int32) (
  gpv E S_1 (some h0) 114 (.int (0 : Int32)) (fun S_3 =>
  some (0, S_3))))
noncomputable def bJ6_init_4 (E : gE) (N : Nat) (h0 : Nat) (S : GS) (x1 : Int32) : Option (Int32 × GS) :=
  if (1 : Int32) = 0 then
    none
  else
    gna S 0 x1 (fun a_3 S_2 =>
    bJ6_init_14 E N h0 S_2 (some h0) (some a_3))
noncomputable def bJ6_init_0 (E : gE) (N : Nat) (h0 : Nat) (S : GS) (x1 : Int32) : Option (Int32 × GS) :=
  bJ6_init_4 E N h0 S x1
noncomputable def fJ6_init (E : gE) (N : Nat) (S : GS) (h0 : Nat) (x1 : Int32) : Option (Int32 × GS) := bJ6_init_0 E N h0 S x1
/-! java/lang/StringBuilder.<init>()V -/
abbrev rJ7_init (mc ms : Nat) : Room := { frames := 2, cells := mc, slots := ms, locals := 41 }
noncomputable def bJ7_init_6 (E : gE) (N : Nat) (h0 : Nat) (S : GS) : Option (Int32 × GS) :=
  some (0, S)
noncomputable def bJ7_init_0 (E : gE) (N : Nat) (h0 : Nat) (S : GS) : Option (Int32 × GS) :=
  gbd (fJ6_init E N S h0 (16 : Int32)) (fun _ S_2 =>
  bJ7_init_6 E N h0 S_2)
noncomputable def fJ7_init (E : gE) (N : Nat) (S : GS) (h0 : Nat) : Option (Int32 × GS) := bJ7_init_0 E N h0 S
/-! jdk/internal/util/ArraysSupport.hugeLength(II)I -/
abbrev rJ10_hugeLength : Room := { frames := 0, cells := 0, slots := 0, locals := 0 }
noncomputable def bJ10_hugeLength_0 (E : gE) (N : Nat) (S : GS) (x0 : Int32) (x1 : Int32) : Option (Int32 × GS) :=
  if 0 ≤ (x0 + x1) then
    if (2147483639 : Int32) < (x0 + x1) then
      some ((x0 + x1), S)
    else
      some ((2147483639 : Int32), S)
  else
    none
noncomputable def fJ10_hugeLength (E : gE) (N : Nat) (S : GS) (x0 : Int32) (x1 : Int32) : Option (Int32 × GS) := bJ10_hugeLength_0 E N S x0 x1
/-! jdk/internal/util/ArraysSupport.newLength(III)I -/
abbrev rJ10_newLength : Room := { frames := 1, cells := 0, slots := 0, locals := 22 }
noncomputable def bJ10_newLength_21 (E : gE) (N : Nat) (S : GS) (x0 : Int32) (x1 : Int32) : Option (Int32 × GS) :=
  gbd (fJ10_hugeLength E N S x0 x1) (fun r_1 S_2 =>
  some (r_1, S_2))
noncomputable def bJ10_newLength_0 (E : gE) (N : Nat) (S : GS) (x0 : Int32) (x1 : Int32) (x2 : Int32) : Option (Int32 × GS) :=
  if (x0 + (if x1 < x2 then x2 else x1)) ≤ (0 : Int32) then
    bJ10_newLength_21 E N S x0 x1
  else
    if (2147483639 : Int32) < (x0 + (if x1 < x2 then x2 else x1)) then
      bJ10_newLength_21 E N S x0 x1
    else
      some ((x0 + (if x1 < x2 then x2 else x1)), S)
noncomputable def fJ10_newLength (E : gE) (N : Nat) (S : GS) (x0 : Int32) (x1 : Int32) (x2 : Int32) : Option (Int32 × GS) := bJ10_newLength_0 E N S x0 x1 x2
/-! java/lang/AbstractStringBuilder.newCapacity(I)I -/
abbrev rJ6_newCapacity : Room := { frames := 2, cells := 0, slots := 0, locals := 45 }
noncomputable def bJ6_newCapacity_0 (E : gE) (N : Nat) (h0 : Nat) (S : GS) (x1 : Int32) : Option (Int32 × GS) :=
  ggr S (some h0) 113 (fun v_1 =>
  gal S v_1 (fun v_3 =>
  ggi S (some h0) 114 (fun v_5 =>
  ggi S (some h0) 114 (fun v_7 =>
  gbd (fJ10_newLength E N S v_3 ((x1 <<< (v_5 &&& 31)) - v_3) (v_3 + ((2 : Int32) <<< (v_7 &&& 31)))) (fun r_9 S_10 =>
  if r_9 = (2147483647 : Int32) then
    none
  else
    ggi S_10 (some h0) 114 (fun v_14 =>
    some ((r_9 >>> (v_14 &&& 31)), S_10)))))))
noncomputable def fJ6_newCapacity (E : gE) (N : Nat) (S : GS) (h0 : Nat) (x1 : Int32) : Option (Int32 × GS) := bJ6_newCapacity_0 E N h0 S x1
/-! java/util/Arrays.copyOf([BI)[B -/
abbrev rJ3_copyOf (mc ms : Nat) : Room := { frames := 1, cells := mc, slots := ms, locals := 40 }
noncomputable def bJ3_copyOf_10 (E : gE) (N : Nat) (S : GS) (t0 : Option Nat) : Option (Option Nat × GS) :=
  gcb S t0 (
  some (t0, S))
noncomputable def bJ3_copyOf_31 (E : gE) (N : Nat) (S : GS) (x2 : Option Nat) : Option (Option Nat × GS) :=
  some (x2, S)
noncomputable def bJ3_copyOf_28 (E : gE) (N : Nat) (S : GS) (x2 : Option Nat) (t0 : Option Nat) (t1 : Int32) (t2 : Option Nat) (t3 : Int32) (t4 : Int32) : Option (Option Nat × GS) :=
  gcp E S t0 t1 t2 t3 t4 (fun S_1 =>
  bJ3_copyOf_31 E N S_1 x2)
noncomputable def bJ3_copyOf_17 (E : gE) (N : Nat) (S : GS) (x0 : Option Nat) (x1 : Int32) (t0 : Option Nat) : Option (Option Nat × GS) :=
  gal S x0 (fun v_1 =>
  bJ3_copyOf_28 E N S t0 x0 (0 : Int32) t0 (0 : Int32) (if x1 < v_1 then x1 else v_1))
noncomputable def bJ3_copyOf_0 (E : gE) (N : Nat) (S : GS) (x0 : Option Nat) (x1 : Int32) : Option (Option Nat × GS) :=
  gal S x0 (fun v_1 =>
  if x1 = v_1 then
    gcln S x0 (fun a_9 S_8 =>
    bJ3_copyOf_10 E N S_8 (some a_9))
  else
    gna S 0 x1 (fun a_5 S_4 =>
    bJ3_copyOf_17 E N S_4 x0 x1 (some a_5)))
noncomputable def fJ3_copyOf (E : gE) (N : Nat) (S : GS) (x0 : Option Nat) (x1 : Int32) : Option (Option Nat × GS) := bJ3_copyOf_0 E N S x0 x1
noncomputable def vjava_lang_AbstractStringBuilder_newCapacity__I_I (E : gE) (N : Nat) (S : GS) (r : Option Nat) (y0 : Int32) : Option (Int32 × GS) := gvd S r (fun b ci =>
  if ci = 25 then fJ6_newCapacity E N S b y0 else
  none)
/-! java/lang/AbstractStringBuilder.ensureCapacityInternal(I)V -/
abbrev rJ6_ensureCapacityInternal (mc ms : Nat) : Room := { frames := 3, cells := mc, slots := ms, locals := 70 }
noncomputable def bJ6_ensureCapacityInternal_38 (E : gE) (N : Nat) (h0 : Nat) (S : GS) : Option (Int32 × GS) :=
  some (0, S)
noncomputable def bJ6_ensureCapacityInternal_35 (E : gE) (N : Nat) (h0 : Nat) (S : GS) (t0 : Option Nat) (t1 : Option Nat) : Option (Int32 × GS) :=
  gpv E S t0 113 (va_rf t1) (fun S_1 =>
  bJ6_ensureCapacityInternal_38 E N h0 S_1)
noncomputable def bJ6_ensureCapacityInternal_27 (E : gE) (N : Nat) (h0 : Nat) (S : GS) (t0 : Option Nat) (t1 : Option Nat) (t2 : Int32) : Option (Int32 × GS) :=
  ggi S (some h0) 114 (fun v_1 =>
  gbd (fJ3_copyOf E N S t1 (t2 <<< (v_1 &&& 31))) (fun r_3 S_4 =>
  bJ6_ensureCapacityInternal_35 E N h0 S_4 t0 r_3))
noncomputable def bJ6_ensureCapacityInternal_0 (E : gE) (N : Nat) (h0 : Nat) (S : GS) (x1 : Int32) : Option (Int32 × GS) :=
  ggr S (some h0) 113 (fun v_1 =>
  gal S v_1 (fun v_3 =>
  ggi S (some h0) 114 (fun v_5 =>
  if (x1 - (v_3 >>> (v_5 &&& 31))) ≤ 0 then
    bJ6_ensureCapacityInternal_38 E N h0 S
  else
    ggr S (some h0) 113 (fun v_8 =>
    gbd (vjava_lang_AbstractStringBuilder_newCapacity__I_I E N S (some h0) x1) (fun r_10 S_11 =>
    bJ6_ensureCapacityInternal_27 E N h0 S_11 (some h0) v_8 r_10)))))
noncomputable def fJ6_ensureCapacityInternal (E : gE) (N : Nat) (S : GS) (h0 : Nat) (x1 : Int32) : Option (Int32 × GS) := bJ6_ensureCapacityInternal_0 E N h0 S x1
/-! java/lang/AbstractStringBuilder.isLatin1()Z -/
abbrev rJ6_isLatin1 : Room := { frames := 0, cells := 0, slots := 0, locals := 0 }
noncomputable def bJ6_isLatin1_18 (E : gE) (N : Nat) (h0 : Nat) (S : GS) (t0 : Int32) : Option (Int32 × GS) :=
  mzt t0 (some (t0, S))
noncomputable def bJ6_isLatin1_17 (E : gE) (N : Nat) (h0 : Nat) (S : GS) : Option (Int32 × GS) :=
  bJ6_isLatin1_18 E N h0 S (0 : Int32)
noncomputable def bJ6_isLatin1_0 (E : gE) (N : Nat) (h0 : Nat) (S : GS) : Option (Int32 × GS) :=
  if (1 : Int32) = 0 then
    bJ6_isLatin1_17 E N h0 S
  else
    ggi S (some h0) 114 (fun v_2 =>
    if v_2 = 0 then
      bJ6_isLatin1_18 E N h0 S (1 : Int32)
    else
      bJ6_isLatin1_17 E N h0 S)
noncomputable def fJ6_isLatin1 (E : gE) (N : Nat) (S : GS) (h0 : Nat) : Option (Int32 × GS) := bJ6_isLatin1_0 E N h0 S
/-! java/lang/StringLatin1.canEncode(C)Z -/
abbrev rJ12_canEncode : Room := { frames := 0, cells := 0, slots := 0, locals := 0 }
noncomputable def bJ12_canEncode_12 (E : gE) (N : Nat) (S : GS) (t0 : Int32) : Option (Int32 × GS) :=
  mzt t0 (some (t0, S))
noncomputable def bJ12_canEncode_0 (E : gE) (N : Nat) (S : GS) (x0 : Int32) : Option (Int32 × GS) :=
  if (255 : Int32) < x0 then
    bJ12_canEncode_12 E N S (0 : Int32)
  else
    bJ12_canEncode_12 E N S (1 : Int32)
noncomputable def fJ12_canEncode (E : gE) (N : Nat) (S : GS) (x0 : Int32) : Option (Int32 × GS) := bJ12_canEncode_0 E N S x0
noncomputable def vjava_lang_AbstractStringBuilder_isLatin1___Z (E : gE) (N : Nat) (S : GS) (r : Option Nat) : Option (Int32 × GS) := gvd S r (fun b ci =>
  if ci = 25 then fJ6_isLatin1 E N S b else
  none)
/-! java/lang/AbstractStringBuilder.inflate()V -/
abbrev rJ6_inflate : Room := { frames := 1, cells := 0, slots := 0, locals := 20 }
noncomputable def bJ6_inflate_0 (E : gE) (N : Nat) (h0 : Nat) (S : GS) : Option (Int32 × GS) :=
  gbd (vjava_lang_AbstractStringBuilder_isLatin1___Z E N S (some h0)) (fun r_1 S_2 =>
  if r_1 = 0 then
    some (0, S_2)
  else
    ggr S_2 (some h0) 113 (fun v_6 =>
    gal S_2 v_6 (fun v_8 =>
    none)))
noncomputable def fJ6_inflate (E : gE) (N : Nat) (S : GS) (h0 : Nat) : Option (Int32 × GS) := bJ6_inflate_0 E N h0 S
noncomputable def vjava_lang_AbstractStringBuilder_ensureCapacityInternal__I_V (E : gE) (N : Nat) (S : GS) (r : Option Nat) (y0 : Int32) : Option (Int32 × GS) := gvd S r (fun b ci =>
  if ci = 25 then fJ6_ensureCapacityInternal E N S b y0 else
  none)
noncomputable def vjava_lang_AbstractStringBuilder_inflate___V (E : gE) (N : Nat) (S : GS) (r : Option Nat) : Option (Int32 × GS) := gvd S r (fun b ci =>
  if ci = 25 then fJ6_inflate E N S b else
  none)
/-! java/lang/AbstractStringBuilder.append(C)Ljava/lang/AbstractStringBuilder; -/
abbrev rJ6_append (mc ms : Nat) : Room := { frames := 4, cells := mc, slots := ms, locals := 92 }
noncomputable def bJ6_append_56 (E : gE) (N : Nat) (h0 : Nat) (S : GS) (x1 : Int32) : Option (Option Nat × GS) :=
  ggr S (some h0) 113 (fun v_1 =>
  ggi S (some h0) 116 (fun v_3 =>
  gpv E S (some h0) 116 (.int (v_3 + (1 : Int32))) (fun S_5 =>
  none)))
noncomputable def bJ6_append_49 (E : gE) (N : Nat) (h0 : Nat) (S : GS) (x1 : Int32) (t0 : Int32) : Option (Option Nat × GS) :=
  if t0 = 0 then
    bJ6_append_56 E N h0 S x1
  else
    gbd (vjava_lang_AbstractStringBuilder_inflate___V E N S (some h0)) (fun _ S_3 =>
    bJ6_append_56 E N h0 S_3 x1)
noncomputable def bJ6_append_45 (E : gE) (N : Nat) (h0 : Nat) (S : GS) (x1 : Int32) : Option (Option Nat × GS) :=
  gbd (vjava_lang_AbstractStringBuilder_isLatin1___Z E N S (some h0)) (fun r_1 S_2 =>
  bJ6_append_49 E N h0 S_2 x1 r_1)
noncomputable def bJ6_append_21 (E : gE) (N : Nat) (h0 : Nat) (S : GS) (x1 : Int32) (t0 : Int32) : Option (Option Nat × GS) :=
  if t0 = 0 then
    bJ6_append_45 E N h0 S x1
  else
    ggr S (some h0) 113 (fun v_2 =>
    ggi S (some h0) 116 (fun v_4 =>
    gpv E S (some h0) 116 (.int (v_4 + (1 : Int32))) (fun S_6 =>
    gaw 0 E S_6 v_2 v_4 (vp_nar .byte x1.toInt8.toInt32) (fun S_8 =>
    some ((some h0), S_8)))))
noncomputable def bJ6_append_14 (E : gE) (N : Nat) (h0 : Nat) (S : GS) (x1 : Int32) (t0 : Int32) : Option (Option Nat × GS) :=
  if t0 = 0 then
    bJ6_append_45 E N h0 S x1
  else
    gbd (fJ12_canEncode E N S x1) (fun r_2 S_3 =>
    bJ6_append_21 E N h0 S_3 x1 r_2)
noncomputable def bJ6_append_10 (E : gE) (N : Nat) (h0 : Nat) (S : GS) (x1 : Int32) : Option (Option Nat × GS) :=
  gbd (vjava_lang_AbstractStringBuilder_isLatin1___Z E N S (some h0)) (fun r_1 S_2 =>
  bJ6_append_14 E N h0 S_2 x1 r_1)
noncomputable def bJ6_append_0 (E : gE) (N : Nat) (h0 : Nat) (S : GS) (x1 : Int32) : Option (Option Nat × GS) :=
  ggi S (some h0) 116 (fun v_1 =>
  gbd (vjava_lang_AbstractStringBuilder_ensureCapacityInternal__I_V E N S (some h0) (v_1 + (1 : Int32))) (fun _ S_4 =>
  bJ6_append_10 E N h0 S_4 x1))
noncomputable def fJ6_append (E : gE) (N : Nat) (S : GS) (h0 : Nat) (x1 : Int32) : Option (Option Nat × GS) := bJ6_append_0 E N h0 S x1
noncomputable def vS_java_lang_StringBuilder_append__C_Ljava_lang_AbstractStringBuilder_ (E : gE) (N : Nat) (S : GS) (r : Option Nat) (y0 : Int32) : Option (Option Nat × GS) := gvd S r (fun b ci =>
  if ci = 25 then fJ6_append E N S b y0 else
  none)
/-! java/lang/StringBuilder.append(C)Ljava/lang/StringBuilder; -/
abbrev rJ7_append (mc ms : Nat) : Room := { frames := 5, cells := mc, slots := ms, locals := 113 }
noncomputable def bJ7_append_5 (E : gE) (N : Nat) (h0 : Nat) (S : GS) (t0 : Option Nat) : Option (Option Nat × GS) :=
  some ((some h0), S)
noncomputable def bJ7_append_0 (E : gE) (N : Nat) (h0 : Nat) (S : GS) (x1 : Int32) : Option (Option Nat × GS) :=
  gbd (vS_java_lang_StringBuilder_append__C_Ljava_lang_AbstractStringBuilder_ E N S (some h0) x1) (fun r_1 S_2 =>
  bJ7_append_5 E N h0 S_2 r_1)
noncomputable def fJ7_append (E : gE) (N : Nat) (S : GS) (h0 : Nat) (x1 : Int32) : Option (Option Nat × GS) := bJ7_append_0 E N h0 S x1
/-! java/lang/AbstractStringBuilder.getValue()[B -/
abbrev rJ6_getValue : Room := { frames := 0, cells := 0, slots := 0, locals := 0 }
noncomputable def bJ6_getValue_0 (E : gE) (N : Nat) (h0 : Nat) (S : GS) : Option (Option Nat × GS) :=
  ggr S (some h0) 113 (fun v_1 =>
  some (v_1, S))
noncomputable def fJ6_getValue (E : gE) (N : Nat) (S : GS) (h0 : Nat) : Option (Option Nat × GS) := bJ6_getValue_0 E N h0 S
/-! java/lang/AbstractStringBuilder.length()I -/
abbrev rJ6_length : Room := { frames := 0, cells := 0, slots := 0, locals := 0 }
noncomputable def bJ6_length_0 (E : gE) (N : Nat) (h0 : Nat) (S : GS) : Option (Int32 × GS) :=
  ggi S (some h0) 116 (fun v_1 =>
  some (v_1, S))
noncomputable def fJ6_length (E : gE) (N : Nat) (S : GS) (h0 : Nat) : Option (Int32 × GS) := bJ6_length_0 E N h0 S
noncomputable def vS_java_lang_StringBuilder_length___I (E : gE) (N : Nat) (S : GS) (r : Option Nat) : Option (Int32 × GS) := gvd S r (fun b ci =>
  if ci = 25 then fJ6_length E N S b else
  none)
/-! java/lang/StringBuilder.length()I -/
abbrev rJ7_length : Room := { frames := 1, cells := 0, slots := 0, locals := 20 }
noncomputable def bJ7_length_0 (E : gE) (N : Nat) (h0 : Nat) (S : GS) : Option (Int32 × GS) :=
  gbd (vS_java_lang_StringBuilder_length___I E N S (some h0)) (fun r_1 S_2 =>
  some (r_1, S_2))
noncomputable def fJ7_length (E : gE) (N : Nat) (S : GS) (h0 : Nat) : Option (Int32 × GS) := bJ7_length_0 E N h0 S
/-! java/util/Arrays.checkLength(II)V -/
abbrev rJ3_checkLength : Room := { frames := 0, cells := 0, slots := 0, locals := 0 }
noncomputable def bJ3_checkLength_0 (E : gE) (N : Nat) (S : GS) (x0 : Int32) (x1 : Int32) : Option (Int32 × GS) :=
  if x0 ≤ x1 then
    some (0, S)
  else
    none
noncomputable def fJ3_checkLength (E : gE) (N : Nat) (S : GS) (x0 : Int32) (x1 : Int32) : Option (Int32 × GS) := bJ3_checkLength_0 E N S x0 x1
/-! java/util/Arrays.copyOfRangeByte([BII)[B -/
abbrev rJ3_copyOfRangeByte (mc ms : Nat) : Room := { frames := 1, cells := mc, slots := ms, locals := 40 }
noncomputable def bJ3_copyOfRangeByte_30 (E : gE) (N : Nat) (S : GS) (x4 : Option Nat) : Option (Option Nat × GS) :=
  some (x4, S)
noncomputable def bJ3_copyOfRangeByte_27 (E : gE) (N : Nat) (S : GS) (x4 : Option Nat) (t0 : Option Nat) (t1 : Int32) (t2 : Option Nat) (t3 : Int32) (t4 : Int32) : Option (Option Nat × GS) :=
  gcp E S t0 t1 t2 t3 t4 (fun S_1 =>
  bJ3_copyOfRangeByte_30 E N S_1 x4)
noncomputable def bJ3_copyOfRangeByte_12 (E : gE) (N : Nat) (S : GS) (x0 : Option Nat) (x1 : Int32) (x3 : Int32) (t0 : Option Nat) : Option (Option Nat × GS) :=
  gal S x0 (fun v_1 =>
  bJ3_copyOfRangeByte_27 E N S t0 x0 x1 t0 (0 : Int32) (if x3 < (v_1 - x1) then x3 else (v_1 - x1)))
noncomputable def bJ3_copyOfRangeByte_5 (E : gE) (N : Nat) (S : GS) (x0 : Option Nat) (x1 : Int32) (x2 : Int32) : Option (Option Nat × GS) :=
  gna S 0 (x2 - x1) (fun a_2 S_1 =>
  bJ3_copyOfRangeByte_12 E N S_1 x0 x1 (x2 - x1) (some a_2))
noncomputable def bJ3_copyOfRangeByte_0 (E : gE) (N : Nat) (S : GS) (x0 : Option Nat) (x1 : Int32) (x2 : Int32) : Option (Option Nat × GS) :=
  gbd (fJ3_checkLength E N S x1 x2) (fun _ S_2 =>
  bJ3_copyOfRangeByte_5 E N S_2 x0 x1 x2)
noncomputable def fJ3_copyOfRangeByte (E : gE) (N : Nat) (S : GS) (x0 : Option Nat) (x1 : Int32) (x2 : Int32) : Option (Option Nat × GS) := bJ3_copyOfRangeByte_0 E N S x0 x1 x2
/-! java/util/Arrays.copyOfRange([BII)[B -/
abbrev rJ3_copyOfRange (mc ms : Nat) : Room := { frames := 2, cells := mc, slots := ms, locals := 64 }
noncomputable def bJ3_copyOfRange_16 (E : gE) (N : Nat) (S : GS) (t0 : Option Nat) : Option (Option Nat × GS) :=
  some (t0, S)
noncomputable def bJ3_copyOfRange_10 (E : gE) (N : Nat) (S : GS) (x0 : Option Nat) (x1 : Int32) (x2 : Int32) : Option (Option Nat × GS) :=
  gbd (fJ3_copyOfRangeByte E N S x0 x1 x2) (fun r_1 S_2 =>
  bJ3_copyOfRange_16 E N S_2 r_1)
noncomputable def bJ3_copyOfRange_21 (E : gE) (N : Nat) (S : GS) (t0 : Option Nat) : Option (Option Nat × GS) :=
  gcb S t0 (
  some (t0, S))
noncomputable def bJ3_copyOfRange_0 (E : gE) (N : Nat) (S : GS) (x0 : Option Nat) (x1 : Int32) (x2 : Int32) : Option (Option Nat × GS) :=
  if x1 = 0 then
    gal S x0 (fun v_2 =>
    if x2 = v_2 then
      gcln S x0 (fun a_6 S_5 =>
      bJ3_copyOfRange_21 E N S_5 (some a_6))
    else
      bJ3_copyOfRange_10 E N S x0 x1 x2)
  else
    bJ3_copyOfRange_10 E N S x0 x1 x2
noncomputable def fJ3_copyOfRange (E : gE) (N : Nat) (S : GS) (x0 : Option Nat) (x1 : Int32) (x2 : Int32) : Option (Option Nat × GS) := bJ3_copyOfRange_0 E N S x0 x1 x2
noncomputable def vjava_lang_AbstractStringBuilder_getValue____B (E : gE) (N : Nat) (S : GS) (r : Option Nat) : Option (Option Nat × GS) := gvd S r (fun b ci =>
  if ci = 25 then fJ6_getValue E N S b else
  none)
noncomputable def vjava_lang_AbstractStringBuilder_length___I (E : gE) (N : Nat) (S : GS) (r : Option Nat) : Option (Int32 × GS) := gvd S r (fun b ci =>
  if ci = 25 then fJ7_length E N S b else
  none)
/-! java/lang/String.<init>(Ljava/lang/AbstractStringBuilder;Ljava/lang/Void;)V -/
abbrev rJ8_init_2 (mc ms : Nat) : Room := { frames := 3, cells := mc, slots := ms, locals := 86 }
noncomputable def bJ8_init_2_97 (E : gE) (N : Nat) (h0 : Nat) (S : GS) : Option (Int32 × GS) :=
  some (0, S)
noncomputable def bJ8_init_2_35 (E : gE) (N : Nat) (h0 : Nat) (S : GS) (t0 : Option Nat) (t1 : Option Nat) : Option (Int32 × GS) :=
  gpv E S t0 117 (va_rf t1) (fun S_1 =>
  bJ8_init_2_97 E N h0 S_1)
noncomputable def bJ8_init_2_94 (E : gE) (N : Nat) (h0 : Nat) (S : GS) (t0 : Option Nat) (t1 : Option Nat) : Option (Int32 × GS) :=
  gpv E S t0 117 (va_rf t1) (fun S_1 =>
  bJ8_init_2_97 E N h0 S_1)
noncomputable def bJ8_init_2_79 (E : gE) (N : Nat) (h0 : Nat) (S : GS) (x3 : Option Nat) (x4 : Int32) : Option (Int32 × GS) :=
  gnt .byte (1 : Int32) (
  gpv E S (some h0) 118 (.int (1 : Int32)) (fun S_1 =>
  gbd (fJ3_copyOfRange E N S_1 x3 (0 : Int32) (x4 <<< ((1 : Int32) &&& 31))) (fun r_4 S_5 =>
  bJ8_init_2_94 E N h0 S_5 (some h0) r_4)))
noncomputable def bJ8_init_2_19 (E : gE) (N : Nat) (h0 : Nat) (S : GS) (x1 : Option Nat) (x3 : Option Nat) (x4 : Int32) (t0 : Int32) : Option (Int32 × GS) :=
  if t0 = 0 then
    if (1 : Int32) = 0 then
      bJ8_init_2_79 E N h0 S x3 x4
    else
      ggi S x1 115 (fun v_3 =>
      if v_3 = 0 then
        bJ8_init_2_79 E N h0 S x3 x4
      else
        none)
  else
    gnt .byte (0 : Int32) (
    gpv E S (some h0) 118 (.int (0 : Int32)) (fun S_6 =>
    gbd (fJ3_copyOfRange E N S_6 x3 (0 : Int32) x4) (fun r_9 S_10 =>
    bJ8_init_2_35 E N h0 S_10 (some h0) r_9)))
noncomputable def bJ8_init_2_13 (E : gE) (N : Nat) (h0 : Nat) (S : GS) (x1 : Option Nat) (x3 : Option Nat) (t0 : Int32) : Option (Int32 × GS) :=
  gbd (vjava_lang_AbstractStringBuilder_isLatin1___Z E N S x1) (fun r_1 S_2 =>
  bJ8_init_2_19 E N h0 S_2 x1 x3 t0 r_1)
noncomputable def bJ8_init_2_8 (E : gE) (N : Nat) (h0 : Nat) (S : GS) (x1 : Option Nat) (t0 : Option Nat) : Option (Int32 × GS) :=
  gbd (vjava_lang_AbstractStringBuilder_length___I E N S x1) (fun r_1 S_2 =>
  bJ8_init_2_13 E N h0 S_2 x1 t0 r_1)
noncomputable def bJ8_init_2_4 (E : gE) (N : Nat) (h0 : Nat) (S : GS) (x1 : Option Nat) : Option (Int32 × GS) :=
  gbd (vjava_lang_AbstractStringBuilder_getValue____B E N S x1) (fun r_1 S_2 =>
  bJ8_init_2_8 E N h0 S_2 x1 r_1)
noncomputable def bJ8_init_2_0 (E : gE) (N : Nat) (h0 : Nat) (S : GS) (x1 : Option Nat) : Option (Int32 × GS) :=
  bJ8_init_2_4 E N h0 S x1
noncomputable def fJ8_init_2 (E : gE) (N : Nat) (S : GS) (h0 : Nat) (x1 : Option Nat) (x2 : Option Nat) : Option (Int32 × GS) := bJ8_init_2_0 E N h0 S x1
/-! java/lang/String.<init>(Ljava/lang/StringBuilder;)V -/
abbrev rJ8_init (mc ms : Nat) : Room := { frames := 4, cells := mc, slots := ms, locals := 110 }
noncomputable def bJ8_init_6 (E : gE) (N : Nat) (h0 : Nat) (S : GS) : Option (Int32 × GS) :=
  some (0, S)
noncomputable def bJ8_init_0 (E : gE) (N : Nat) (h0 : Nat) (S : GS) (x1 : Option Nat) : Option (Int32 × GS) :=
  gbd (fJ8_init_2 E N S h0 x1 none) (fun _ S_2 =>
  bJ8_init_6 E N h0 S_2)
noncomputable def fJ8_init (E : gE) (N : Nat) (S : GS) (h0 : Nat) (x1 : Option Nat) : Option (Int32 × GS) := bJ8_init_0 E N h0 S x1
/-! java/lang/StringBuilder.toString()Ljava/lang/String; -/
abbrev rJ7_toString (mc ms : Nat) : Room := { frames := 5, cells := mc, slots := ms, locals := 131 }
noncomputable def bJ7_toString_8 (E : gE) (N : Nat) (h0 : Nat) (S : GS) (t0 : Option Nat) : Option (Option Nat × GS) :=
  some (t0, S)
noncomputable def bJ7_toString_3 (E : gE) (N : Nat) (h0 : Nat) (S : GS) (t0 : Option Nat) : Option (Option Nat × GS) :=
  grf t0 (fun b_5 =>
  gbd (fJ8_init E N S b_5 (some h0)) (fun _ S_2 =>
  bJ7_toString_8 E N h0 S_2 (some b_5)))
noncomputable def bJ7_toString_0 (E : gE) (N : Nat) (h0 : Nat) (S : GS) : Option (Option Nat × GS) :=
  gnw S 26 (fun a_2 S_1 =>
  bJ7_toString_3 E N h0 S_1 (some a_2))
noncomputable def fJ7_toString (E : gE) (N : Nat) (S : GS) (h0 : Nat) : Option (Option Nat × GS) := bJ7_toString_0 E N h0 S
noncomputable def vInchBorders_Reader_byteAt__I_I (E : gE) (N : Nat) (S : GS) (r : Option Nat) (y0 : Int32) : Option (Int32 × GS) := gvd S r (fun b ci =>
  if ci = 4 then fX6_byteAt E N S b y0 else
  if ci = 16 then fX6_byteAt E N S b y0 else
  if ci = 18 then fX6_byteAt E N S b y0 else
  none)
noncomputable def vjava_lang_StringBuilder_append__C_Ljava_lang_StringBuilder_ (E : gE) (N : Nat) (S : GS) (r : Option Nat) (y0 : Int32) : Option (Option Nat × GS) := gvd S r (fun b ci =>
  if ci = 25 then fJ7_append E N S b y0 else
  none)
noncomputable def vjava_lang_StringBuilder_toString___Ljava_lang_String_ (E : gE) (N : Nat) (S : GS) (r : Option Nat) : Option (Option Nat × GS) := gvd S r (fun b ci =>
  if ci = 25 then fJ7_toString E N S b else
  none)
/-! InchBorders$Reader.go()V -/
abbrev rX6_go (mc ms : Nat) : Room := { frames := 6, cells := mc, slots := ms, locals := 151 }
noncomputable def bX6_go_37 (E : gE) (N : Nat) (h0 : Nat) (K0 : GS → Option (Int32 × GS)) (S : GS) : Option (Int32 × GS) :=
  ggi S (some h0) 46 (fun v_1 =>
  gpv E S (some h0) 46 (.int (v_1 + (1 : Int32))) (fun S_3 =>
  K0 S_3))
noncomputable def bX6_go_181 (E : gE) (N : Nat) (h0 : Nat) (S : GS) (x1 : Int32) (t0 : Option Nat) (t1 : Int32) : Option (Int32 × GS) :=
  gpv E S t0 47 (.int t1) (fun S_1 =>
  gpv E S_1 (some h0) 50 (.int x1) (fun S_3 =>
  ggi S_3 (some h0) 46 (fun v_5 =>
  gpv E S_3 (some h0) 46 (.int (v_5 + (1 : Int32))) (fun S_7 =>
  some (0, S_7)))))
noncomputable def bX6_go_175 (E : gE) (N : Nat) (h0 : Nat) (S : GS) (x1 : Int32) (t0 : Option Nat) : Option (Int32 × GS) :=
  bX6_go_181 E N h0 S x1 t0 (6 : Int32)
noncomputable def bX6_go_339 (E : gE) (N : Nat) (h0 : Nat) (K221 : GS → Int32 → Int32 → (Option Nat) → Option (Int32 × GS)) (S : GS) (x2 : Int32) (x3 : Int32) (x4 : Option Nat) : Option (Int32 × GS) :=
  ggi S (some h0) 46 (fun v_1 =>
  gpv E S (some h0) 46 (.int (v_1 + (1 : Int32))) (fun S_3 =>
  K221 S_3 x2 x3 x4))
noncomputable def bX6_go_332 (E : gE) (N : Nat) (h0 : Nat) (K221 : GS → Int32 → Int32 → (Option Nat) → Option (Int32 × GS)) (S : GS) (x2 : Int32) (x3 : Int32) (x4 : Option Nat) (t0 : Option Nat) (t1 : Int32) (t2 : Int32) : Option (Int32 × GS) :=
  gpv E S t0 49 (.int ((t1 + t2) - (48 : Int32))) (fun S_1 =>
  bX6_go_339 E N h0 K221 S_1 x2 x3 x4)
noncomputable def bX6_go_303 (E : gE) (N : Nat) (h0 : Nat) (K221 : GS → Int32 → Int32 → (Option Nat) → Option (Int32 × GS)) (S : GS) (x2 : Int32) (x3 : Int32) (x4 : Option Nat) : Option (Int32 × GS) :=
  ggi S (some h0) 46 (fun v_1 =>
  ggi S (some h0) 48 (fun v_3 =>
  if (3 : Int32) ≤ (v_1 - v_3) then
    bX6_go_339 E N h0 K221 S x2 x3 x4
  else
    ggi S (some h0) 49 (fun v_6 =>
    ggi S (some h0) 46 (fun v_8 =>
    gbd (vInchBorders_Reader_byteAt__I_I E N S (some h0) v_8) (fun r_10 S_11 =>
    bX6_go_332 E N h0 K221 S_11 x2 x3 x4 (some h0) ((10 : Int32) * v_6) r_10)))))
noncomputable def bX6_go_302 (E : gE) (N : Nat) (h0 : Nat) (K221 : GS → Int32 → Int32 → (Option Nat) → Option (Int32 × GS)) (S : GS) (x2 : Int32) (x3 : Int32) (x4 : Option Nat) (t0 : Option Nat) : Option (Int32 × GS) :=
  bX6_go_303 E N h0 K221 S x2 x3 x4
noncomputable def bX6_go_298 (E : gE) (N : Nat) (h0 : Nat) (K221 : GS → Int32 → Int32 → (Option Nat) → Option (Int32 × GS)) (S : GS) (x2 : Int32) (x3 : Int32) (x4 : Option Nat) (t0 : Option Nat) (t1 : Int32) : Option (Int32 × GS) :=
  gbd (vjava_lang_StringBuilder_append__C_Ljava_lang_StringBuilder_ E N S t0 ((t1.toUInt32 % 65536).toInt32)) (fun r_1 S_2 =>
  bX6_go_302 E N h0 K221 S_2 x2 x3 x4 r_1)
noncomputable def bX6_go_273 (E : gE) (N : Nat) (h0 : Nat) (K221 : GS → Int32 → Int32 → (Option Nat) → Option (Int32 × GS)) (S : GS) (x2 : Int32) (x4 : Option Nat) (t0 : Int32) : Option (Int32 × GS) :=
  ggi S (some h0) 46 (fun v_1 =>
  ggi S (some h0) 48 (fun v_3 =>
  if (7 : Int32) ≤ (v_1 - v_3) then
    bX6_go_303 E N h0 K221 S x2 t0 x4
  else
    ggi S (some h0) 46 (fun v_6 =>
    gbd (vInchBorders_Reader_byteAt__I_I E N S (some h0) v_6) (fun r_8 S_9 =>
    bX6_go_298 E N h0 K221 S_9 x2 t0 x4 x4 r_8))))
noncomputable def bX6_go_272 (E : gE) (N : Nat) (h0 : Nat) (K221 : GS → Int32 → Int32 → (Option Nat) → Option (Int32 × GS)) (S : GS) (x2 : Int32) (x4 : Option Nat) : Option (Int32 × GS) :=
  bX6_go_273 E N h0 K221 S x2 x4 (0 : Int32)
noncomputable def bX6_go_264 (E : gE) (N : Nat) (h0 : Nat) (K221 : GS → Int32 → Int32 → (Option Nat) → Option (Int32 × GS)) (S : GS) (x2 : Int32) (x4 : Option Nat) (t0 : Int32) : Option (Int32 × GS) :=
  if t0 = x2 then
    bX6_go_273 E N h0 K221 S x2 x4 (1 : Int32)
  else
    bX6_go_272 E N h0 K221 S x2 x4
noncomputable def bX6_go_261 (E : gE) (N : Nat) (h0 : Nat) (K221 : GS → Int32 → Int32 → (Option Nat) → Option (Int32 × GS)) (S : GS) (x2 : Int32) (x4 : Option Nat) (t0 : Int32) : Option (Int32 × GS) :=
  gbd (fX6_isLetter E N S t0) (fun r_1 S_2 =>
  bX6_go_264 E N h0 K221 S_2 x2 x4 r_1)
noncomputable def bX6_go_249 (E : gE) (N : Nat) (h0 : Nat) (K221 : GS → Int32 → Int32 → (Option Nat) → Option (Int32 × GS)) (S : GS) (x2 : Int32) (x3 : Int32) (x4 : Option Nat) : Option (Int32 × GS) :=
  if x3 = 0 then
    bX6_go_272 E N h0 K221 S x2 x4
  else
    ggi S (some h0) 46 (fun v_2 =>
    gbd (vInchBorders_Reader_byteAt__I_I E N S (some h0) v_2) (fun r_4 S_5 =>
    bX6_go_261 E N h0 K221 S_5 x2 x4 r_4))
noncomputable def bX6_go_401 (E : gE) (N : Nat) (h0 : Nat) (S : GS) (t0 : Option Nat) (t1 : Int32) : Option (Int32 × GS) :=
  gpv E S t0 47 (.int t1) (fun S_1 =>
  some (0, S_1))
noncomputable def bX6_go_388 (E : gE) (N : Nat) (h0 : Nat) (S : GS) (t0 : Option Nat) : Option (Int32 × GS) :=
  bX6_go_401 E N h0 S t0 (1 : Int32)
noncomputable def bX6_go_385 (E : gE) (N : Nat) (h0 : Nat) (S : GS) (x2 : Int32) (t0 : Option Nat) (t1 : Int32) (t2 : Int32) : Option (Int32 × GS) :=
  if t1 ≤ t2 then
    if x2 = 0 then
      bX6_go_401 E N h0 S t0 (3 : Int32)
    else
      bX6_go_401 E N h0 S t0 (2 : Int32)
  else
    bX6_go_388 E N h0 S t0
noncomputable def bX6_go_358 (E : gE) (N : Nat) (h0 : Nat) (S : GS) (x2 : Int32) (x3 : Int32) (t0 : Option Nat) (t1 : Option Nat) : Option (Int32 × GS) :=
  gpv E S t0 51 (va_rf t1) (fun S_1 =>
  if x3 = 0 then
    bX6_go_388 E N h0 S_1 (some h0)
  else
    ggi S_1 (some h0) 46 (fun v_4 =>
    ggi S_1 (some h0) 48 (fun v_6 =>
    if x2 = 0 then
      bX6_go_385 E N h0 S_1 x2 (some h0) (v_4 - v_6) (3 : Int32)
    else
      bX6_go_385 E N h0 S_1 x2 (some h0) (v_4 - v_6) (7 : Int32))))
noncomputable def bX6_go_246 (E : gE) (N : Nat) (h0 : Nat) (K221 : GS → Int32 → Int32 → (Option Nat) → Option (Int32 × GS)) (S : GS) (x2 : Int32) (x3 : Int32) (x4 : Option Nat) (t0 : Int32) : Option (Int32 × GS) :=
  if t0 = 0 then
    gbd (vjava_lang_StringBuilder_toString___Ljava_lang_String_ E N S x4) (fun r_2 S_3 =>
    bX6_go_358 E N h0 S_3 x2 x3 (some h0) r_2)
  else
    bX6_go_249 E N h0 K221 S x2 x3 x4
noncomputable def bX6_go_243 (E : gE) (N : Nat) (h0 : Nat) (K221 : GS → Int32 → Int32 → (Option Nat) → Option (Int32 × GS)) (S : GS) (x2 : Int32) (x3 : Int32) (x4 : Option Nat) (t0 : Int32) : Option (Int32 × GS) :=
  gbd (fX6_isDigit E N S t0) (fun r_1 S_2 =>
  bX6_go_246 E N h0 K221 S_2 x2 x3 x4 r_1)
noncomputable def bX6_go_232 (E : gE) (N : Nat) (h0 : Nat) (K221 : GS → Int32 → Int32 → (Option Nat) → Option (Int32 × GS)) (S : GS) (x2 : Int32) (x3 : Int32) (x4 : Option Nat) (t0 : Int32) : Option (Int32 × GS) :=
  if t0 = 0 then
    ggi S (some h0) 46 (fun v_2 =>
    gbd (vInchBorders_Reader_byteAt__I_I E N S (some h0) v_2) (fun r_4 S_5 =>
    bX6_go_243 E N h0 K221 S_5 x2 x3 x4 r_4))
  else
    bX6_go_249 E N h0 K221 S x2 x3 x4
noncomputable def bX6_go_229 (E : gE) (N : Nat) (h0 : Nat) (K221 : GS → Int32 → Int32 → (Option Nat) → Option (Int32 × GS)) (S : GS) (x2 : Int32) (x3 : Int32) (x4 : Option Nat) (t0 : Int32) : Option (Int32 × GS) :=
  gbd (fX6_isLetter E N S t0) (fun r_1 S_2 =>
  bX6_go_232 E N h0 K221 S_2 x2 x3 x4 r_1)
noncomputable def bX6_go_221 (E : gE) (N : Nat) (h0 : Nat) (K221 : GS → Int32 → Int32 → (Option Nat) → Option (Int32 × GS)) (S : GS) (x2 : Int32) (x3 : Int32) (x4 : Option Nat) : Option (Int32 × GS) :=
  ggi S (some h0) 46 (fun v_1 =>
  gbd (vInchBorders_Reader_byteAt__I_I E N S (some h0) v_1) (fun r_3 S_4 =>
  bX6_go_229 E N h0 K221 S_4 x2 x3 x4 r_3))
noncomputable def bX6_go_221L (E : gE) (N : Nat) (h0 : Nat) : Nat → GS → Int32 → Int32 → (Option Nat) → Option (Int32 × GS)
  | 0 => fun _ _ _ _ => none
  | n + 1 => bX6_go_221 E N h0 (bX6_go_221L E N h0 n)
noncomputable def bX6_go_219 (E : gE) (N : Nat) (h0 : Nat) (S : GS) (x2 : Int32) (x3 : Int32) (t0 : Option Nat) : Option (Int32 × GS) :=
  bX6_go_221L E N h0 N S x2 x3 t0
noncomputable def bX6_go_215 (E : gE) (N : Nat) (h0 : Nat) (S : GS) (x2 : Int32) (x3 : Int32) (t0 : Option Nat) : Option (Int32 × GS) :=
  grf t0 (fun b_5 =>
  gbd (fJ7_init E N S b_5) (fun _ S_2 =>
  bX6_go_219 E N h0 S_2 x2 x3 (some b_5)))
noncomputable def bX6_go_204 (E : gE) (N : Nat) (h0 : Nat) (S : GS) (t0 : Int32) : Option (Int32 × GS) :=
  gpv E S (some h0) 49 (.int (0 : Int32)) (fun S_1 =>
  gnw S_1 25 (fun a_4 S_3 =>
  bX6_go_215 E N h0 S_3 t0 (1 : Int32) (some a_4)))
noncomputable def bX6_go_200 (E : gE) (N : Nat) (h0 : Nat) (S : GS) (x1 : Int32) : Option (Int32 × GS) :=
  gbd (fX6_isLetter E N S x1) (fun r_1 S_2 =>
  bX6_go_204 E N h0 S_2 r_1)
noncomputable def bX6_go_131 (E : gE) (N : Nat) (h0 : Nat) (S : GS) (x1 : Int32) (t0 : Int32) : Option (Int32 × GS) :=
  if t0 = 0 then
    if x1 = (59 : Int32) then
      bX6_go_181 E N h0 S x1 (some h0) (4 : Int32)
    else
      if x1 = (60 : Int32) then
        bX6_go_175 E N h0 S x1 (some h0)
      else
        if x1 = (61 : Int32) then
          bX6_go_175 E N h0 S x1 (some h0)
        else
          if x1 = (62 : Int32) then
            bX6_go_175 E N h0 S x1 (some h0)
          else
            if x1 = (40 : Int32) then
              bX6_go_175 E N h0 S x1 (some h0)
            else
              if x1 = (41 : Int32) then
                bX6_go_175 E N h0 S x1 (some h0)
              else
                bX6_go_181 E N h0 S x1 (some h0) (1 : Int32)
  else
    bX6_go_200 E N h0 S x1
noncomputable def bX6_go_124 (E : gE) (N : Nat) (h0 : Nat) (S : GS) (x1 : Int32) (t0 : Int32) : Option (Int32 × GS) :=
  if t0 = 0 then
    gbd (fX6_isDigit E N S x1) (fun r_2 S_3 =>
    bX6_go_131 E N h0 S_3 x1 r_2)
  else
    bX6_go_200 E N h0 S x1
noncomputable def bX6_go_119 (E : gE) (N : Nat) (h0 : Nat) (S : GS) (t0 : Int32) : Option (Int32 × GS) :=
  gbd (fX6_isLetter E N S t0) (fun r_1 S_2 =>
  bX6_go_124 E N h0 S_2 t0 r_1)
noncomputable def bX6_go_94 (E : gE) (N : Nat) (h0 : Nat) (S : GS) : Option (Int32 × GS) :=
  ggi S (some h0) 46 (fun v_1 =>
  ggi S (some h0) 44 (fun v_3 =>
  if v_1 < v_3 then
    ggi S (some h0) 46 (fun v_6 =>
    gbd (vInchBorders_Reader_byteAt__I_I E N S (some h0) v_6) (fun r_8 S_9 =>
    bX6_go_119 E N h0 S_9 r_8))
  else
    gpv E S (some h0) 47 (.int (0 : Int32)) (fun S_12 =>
    some (0, S_12))))
noncomputable def bX6_go_50 (E : gE) (N : Nat) (h0 : Nat) (S : GS) : Option (Int32 × GS) :=
  ggi S (some h0) 46 (fun v_1 =>
  gpv E S (some h0) 48 (.int v_1) (fun S_3 =>
  ggi S_3 (some h0) 44 (fun v_5 =>
  ggi S_3 (some h0) 45 (fun v_7 =>
  if v_5 ≤ v_7 then
    bX6_go_94 E N h0 S_3
  else
    ggi S_3 (some h0) 48 (fun v_10 =>
    ggi S_3 (some h0) 45 (fun v_12 =>
    if v_10 < v_12 then
      bX6_go_94 E N h0 S_3
    else
      ggi S_3 (some h0) 45 (fun v_15 =>
      gpv E S_3 (some h0) 48 (.int v_15) (fun S_17 =>
      gpv E S_17 (some h0) 47 (.int (5 : Int32)) (fun S_19 =>
      some (0, S_19))))))))))
noncomputable def bX6_go_32 (E : gE) (N : Nat) (h0 : Nat) (K0 : GS → Option (Int32 × GS)) (S : GS) (t0 : Int32) : Option (Int32 × GS) :=
  if t0 = (10 : Int32) then
    bX6_go_37 E N h0 K0 S
  else
    bX6_go_50 E N h0 S
noncomputable def bX6_go_19 (E : gE) (N : Nat) (h0 : Nat) (K0 : GS → Option (Int32 × GS)) (S : GS) (t0 : Int32) : Option (Int32 × GS) :=
  if t0 = (32 : Int32) then
    bX6_go_37 E N h0 K0 S
  else
    ggi S (some h0) 46 (fun v_2 =>
    gbd (vInchBorders_Reader_byteAt__I_I E N S (some h0) v_2) (fun r_4 S_5 =>
    bX6_go_32 E N h0 K0 S_5 r_4))
noncomputable def bX6_go_0 (E : gE) (N : Nat) (h0 : Nat) (K0 : GS → Option (Int32 × GS)) (S : GS) : Option (Int32 × GS) :=
  ggi S (some h0) 46 (fun v_1 =>
  ggi S (some h0) 44 (fun v_3 =>
  if v_3 ≤ v_1 then
    bX6_go_50 E N h0 S
  else
    ggi S (some h0) 46 (fun v_6 =>
    gbd (vInchBorders_Reader_byteAt__I_I E N S (some h0) v_6) (fun r_8 S_9 =>
    bX6_go_19 E N h0 K0 S_9 r_8))))
noncomputable def bX6_go_0L (E : gE) (N : Nat) (h0 : Nat) : Nat → GS → Option (Int32 × GS)
  | 0 => fun _ => none
  | n + 1 => bX6_go_0 E N h0 (bX6_go_0L E N h0 n)
noncomputable def fX6_go (E : gE) (N : Nat) (S : GS) (h0 : Nat) : Option (Int32 × GS) := bX6_go_0L E N h0 N S
/-! java/lang/StringLatin1.equals([B[B)Z -/
abbrev rJ12_equals : Room := { frames := 0, cells := 0, slots := 0, locals := 0 }
noncomputable def bJ12_equals_9 (E : gE) (N : Nat) (K9 : GS → (Option Nat) → (Option Nat) → Int32 → Option (Int32 × GS)) (S : GS) (x0 : Option Nat) (x1 : Option Nat) (x2 : Int32) : Option (Int32 × GS) :=
  gal S x0 (fun v_1 =>
  if v_1 ≤ x2 then
    mzt (1 : Int32) (some ((1 : Int32), S))
  else
    gai 0 S x0 x2 (fun v_5 =>
    gai 0 S x1 x2 (fun v_7 =>
    if v_5 = v_7 then
      K9 S x0 x1 (x2 + (1 : Int32))
    else
      mzt (0 : Int32) (some ((0 : Int32), S)))))
noncomputable def bJ12_equals_9L (E : gE) (N : Nat) : Nat → GS → (Option Nat) → (Option Nat) → Int32 → Option (Int32 × GS)
  | 0 => fun _ _ _ _ => none
  | n + 1 => bJ12_equals_9 E N (bJ12_equals_9L E N n)
noncomputable def bJ12_equals_0 (E : gE) (N : Nat) (S : GS) (x0 : Option Nat) (x1 : Option Nat) : Option (Int32 × GS) :=
  gal S x0 (fun v_1 =>
  gal S x1 (fun v_3 =>
  if v_1 = v_3 then
    bJ12_equals_9L E N N S x0 x1 (0 : Int32)
  else
    mzt (0 : Int32) (some ((0 : Int32), S))))
noncomputable def fJ12_equals (E : gE) (N : Nat) (S : GS) (x0 : Option Nat) (x1 : Option Nat) : Option (Int32 × GS) := bJ12_equals_0 E N S x0 x1
/-! java/lang/String.equals(Ljava/lang/Object;)Z -/
abbrev rJ8_equals : Room := { frames := 1, cells := 0, slots := 0, locals := 22 }
noncomputable def bJ8_equals_55 (E : gE) (N : Nat) (h0 : Nat) (S : GS) (t0 : Int32) : Option (Int32 × GS) :=
  mzt t0 (some (t0, S))
noncomputable def bJ8_equals_54 (E : gE) (N : Nat) (h0 : Nat) (S : GS) : Option (Int32 × GS) :=
  bJ8_equals_55 E N h0 S (0 : Int32)
noncomputable def bJ8_equals_36 (E : gE) (N : Nat) (h0 : Nat) (S : GS) (x2 : Option Nat) : Option (Int32 × GS) :=
  ggr S (some h0) 117 (fun v_1 =>
  ggr S x2 117 (fun v_3 =>
  gbd (fJ12_equals E N S v_1 v_3) (fun r_5 S_6 =>
  if r_5 = 0 then
    bJ8_equals_54 E N h0 S_6
  else
    bJ8_equals_55 E N h0 S_6 (1 : Int32))))
noncomputable def bJ8_equals_0 (E : gE) (N : Nat) (h0 : Nat) (S : GS) (x1 : Option Nat) : Option (Int32 × GS) :=
  if (some h0) = x1 then
    mzt (1 : Int32) (some ((1 : Int32), S))
  else
    gio S x1 [26, 27] (fun v_3 =>
    if v_3 = 0 then
      bJ8_equals_54 E N h0 S
    else
      gcc S x1 [26, 27] (
      if (1 : Int32) = 0 then
        bJ8_equals_36 E N h0 S x1
      else
        ggi S (some h0) 118 (fun v_7 =>
        ggi S x1 118 (fun v_9 =>
        if v_7 = v_9 then
          bJ8_equals_36 E N h0 S x1
        else
          bJ8_equals_54 E N h0 S))))
noncomputable def fJ8_equals (E : gE) (N : Nat) (S : GS) (h0 : Nat) (x1 : Option Nat) : Option (Int32 × GS) := bJ8_equals_0 E N h0 S x1
noncomputable def vjava_lang_String_equals__Ljava_lang_Object__Z (E : gE) (N : Nat) (S : GS) (r : Option Nat) (y0 : Option Nat) : Option (Int32 × GS) := gvd S r (fun b ci =>
  if ci = 26 then fJ8_equals E N S b y0 else
  if ci = 27 then fJ8_equals E N S b y0 else
  none)
/-! InchBorders$Reader.is(Ljava/lang/String;)Z -/
abbrev rX6_is : Room := { frames := 2, cells := 0, slots := 0, locals := 44 }
noncomputable def bX6_is_24 (E : gE) (N : Nat) (h0 : Nat) (S : GS) (t0 : Int32) : Option (Int32 × GS) :=
  mzt t0 (some (t0, S))
noncomputable def bX6_is_23 (E : gE) (N : Nat) (h0 : Nat) (S : GS) : Option (Int32 × GS) :=
  bX6_is_24 E N h0 S (0 : Int32)
noncomputable def bX6_is_0 (E : gE) (N : Nat) (h0 : Nat) (S : GS) (x1 : Option Nat) : Option (Int32 × GS) :=
  ggi S (some h0) 47 (fun v_1 =>
  if v_1 = (2 : Int32) then
    ggr S (some h0) 51 (fun v_4 =>
    gbd (vjava_lang_String_equals__Ljava_lang_Object__Z E N S v_4 x1) (fun r_6 S_7 =>
    if r_6 = 0 then
      bX6_is_23 E N h0 S_7
    else
      bX6_is_24 E N h0 S_7 (1 : Int32)))
  else
    bX6_is_23 E N h0 S)
noncomputable def fX6_is (E : gE) (N : Nat) (S : GS) (h0 : Nat) (x1 : Option Nat) : Option (Int32 × GS) := bX6_is_0 E N h0 S x1
noncomputable def vInchBorders_SentenceReader_is__Ljava_lang_String__Z (E : gE) (N : Nat) (S : GS) (r : Option Nat) (y0 : Option Nat) : Option (Int32 × GS) := gvd S r (fun b ci =>
  if ci = 18 then fX6_is E N S b y0 else
  none)
/-! InchBorders$SentenceReader.named()I -/
abbrev rX25_named : Room := { frames := 3, cells := 0, slots := 0, locals := 65 }
noncomputable def bX25_named_40 (E : gE) (N : Nat) (h0 : Nat) (S : GS) (t0 : Int32) : Option (Int32 × GS) :=
  some (t0, S)
noncomputable def bX25_named_0 (E : gE) (N : Nat) (h0 : Nat) (S : GS) : Option (Int32 × GS) :=
  gbd (vInchBorders_SentenceReader_is__Ljava_lang_String__Z E N S (some h0) (some (E.2.1 14))) (fun r_1 S_2 =>
  if r_1 = 0 then
    gbd (vInchBorders_SentenceReader_is__Ljava_lang_String__Z E N S_2 (some h0) (some (E.2.1 15))) (fun r_6 S_7 =>
    if r_6 = 0 then
      gbd (vInchBorders_SentenceReader_is__Ljava_lang_String__Z E N S_7 (some h0) (some (E.2.1 16))) (fun r_11 S_12 =>
      if r_11 = 0 then
        bX25_named_40 E N h0 S_12 (-1 : Int32)
      else
        bX25_named_40 E N h0 S_12 (2 : Int32))
    else
      bX25_named_40 E N h0 S_7 (1 : Int32))
  else
    bX25_named_40 E N h0 S_2 (0 : Int32))
noncomputable def fX25_named (E : gE) (N : Nat) (S : GS) (h0 : Nat) : Option (Int32 × GS) := bX25_named_0 E N h0 S
/-! InchBorders$SentenceReader.numbered()I -/
abbrev rX25_numbered : Room := { frames := 3, cells := 0, slots := 0, locals := 65 }
noncomputable def bX25_numbered_53 (E : gE) (N : Nat) (h0 : Nat) (S : GS) (t0 : Int32) : Option (Int32 × GS) :=
  some (t0, S)
noncomputable def bX25_numbered_0 (E : gE) (N : Nat) (h0 : Nat) (S : GS) : Option (Int32 × GS) :=
  gbd (vInchBorders_SentenceReader_is__Ljava_lang_String__Z E N S (some h0) (some (E.2.1 17))) (fun r_1 S_2 =>
  if r_1 = 0 then
    gbd (vInchBorders_SentenceReader_is__Ljava_lang_String__Z E N S_2 (some h0) (some (E.2.1 18))) (fun r_6 S_7 =>
    if r_6 = 0 then
      gbd (vInchBorders_SentenceReader_is__Ljava_lang_String__Z E N S_7 (some h0) (some (E.2.1 19))) (fun r_11 S_12 =>
      if r_11 = 0 then
        gbd (vInchBorders_SentenceReader_is__Ljava_lang_String__Z E N S_12 (some h0) (some (E.2.1 20))) (fun r_16 S_17 =>
        if r_16 = 0 then
          bX25_numbered_53 E N h0 S_17 (-1 : Int32)
        else
          bX25_numbered_53 E N h0 S_17 (3 : Int32))
      else
        bX25_numbered_53 E N h0 S_12 (2 : Int32))
    else
      bX25_numbered_53 E N h0 S_7 (1 : Int32))
  else
    bX25_numbered_53 E N h0 S_2 (0 : Int32))
noncomputable def fX25_numbered (E : gE) (N : Nat) (S : GS) (h0 : Nat) : Option (Int32 × GS) := bX25_numbered_0 E N h0 S
/-! java/lang/Throwable.<init>(Ljava/lang/String;Ljava/lang/Throwable;ZZ)V -/
abbrev rJ13_init_2 : Room := { frames := 1, cells := 0, slots := 0, locals := 20 }
noncomputable def bJ13_init_2_60 (E : gE) (N : Nat) (h0 : Nat) (S : GS) : Option (Int32 × GS) :=
  some (0, S)
noncomputable def bJ13_init_2_0 (E : gE) (N : Nat) (h0 : Nat) (S : GS) (x1 : Option Nat) (x2 : Option Nat) (x3 : Int32) (x4 : Int32) : Option (Int32 × GS) :=
  gpv E S (some h0) 53 (va_rf (some h0)) (fun S_1 =>
  gpv E S_1 (some h0) 54 (va_rf (E.2.2 1)) (fun S_3 =>
  gpv E S_3 (some h0) 55 (va_rf (E.2.2 2)) (fun S_5 =>
  if x4 = 0 then
    gpv E S_5 (some h0) 54 (va_rf none) (fun S_8 =>
    gpv E S_8 (some h0) 56 (va_rf x1) (fun S_10 =>
    gpv E S_10 (some h0) 53 (va_rf x2) (fun S_12 =>
    if x3 = 0 then
      gpv E S_12 (some h0) 55 (va_rf none) (fun S_15 =>
      bJ13_init_2_60 E N h0 S_15)
    else
      bJ13_init_2_60 E N h0 S_12)))
  else
    none)))
noncomputable def fJ13_init_2 (E : gE) (N : Nat) (S : GS) (h0 : Nat) (x1 : Option Nat) (x2 : Option Nat) (x3 : Int32) (x4 : Int32) : Option (Int32 × GS) := bJ13_init_2_0 E N h0 S x1 x2 x3 x4
/-! java/lang/Exception.<init>(Ljava/lang/String;Ljava/lang/Throwable;ZZ)V -/
abbrev rJ14_init : Room := { frames := 2, cells := 0, slots := 0, locals := 44 }
noncomputable def bJ14_init_0 (E : gE) (N : Nat) (h0 : Nat) (S : GS) (x1 : Option Nat) (x2 : Option Nat) (x3 : Int32) (x4 : Int32) : Option (Int32 × GS) :=
  gbd (fJ13_init_2 E N S h0 x1 x2 x3 x4) (fun _ S_2 =>
  some (0, S_2))
noncomputable def fJ14_init (E : gE) (N : Nat) (S : GS) (h0 : Nat) (x1 : Option Nat) (x2 : Option Nat) (x3 : Int32) (x4 : Int32) : Option (Int32 × GS) := bJ14_init_0 E N h0 S x1 x2 x3 x4
/-! InchBorders$Fault.<init>(II)V -/
abbrev rX8_init : Room := { frames := 3, cells := 0, slots := 0, locals := 68 }
noncomputable def bX8_init_0 (E : gE) (N : Nat) (h0 : Nat) (S : GS) (x1 : Int32) (x2 : Int32) : Option (Int32 × GS) :=
  gbd (fJ14_init E N S h0 none none (0 : Int32) (0 : Int32)) (fun _ S_2 =>
  gpv E S_2 (some h0) 59 (.int x1) (fun S_5 =>
  gpv E S_5 (some h0) 60 (.int x2) (fun S_7 =>
  some (0, S_7))))
noncomputable def fX8_init (E : gE) (N : Nat) (S : GS) (h0 : Nat) (x1 : Int32) (x2 : Int32) : Option (Int32 × GS) := bX8_init_0 E N h0 S x1 x2
/-! InchBorders$Reader.need(ZI)V -/
abbrev rX6_need (mc ms : Nat) : Room := { frames := 4, cells := mc, slots := ms, locals := 90 }
noncomputable def bX6_need_36 (E : gE) (N : Nat) (h0 : Nat) (S : GS) (t0 : Option Nat) : Option ((Int32 ⊕ Nat) × GS) :=
  gth S t0
noncomputable def bX6_need_29 (E : gE) (N : Nat) (h0 : Nat) (S : GS) (t0 : Option Nat) (t1 : Option Nat) (t2 : Int32) : Option ((Int32 ⊕ Nat) × GS) :=
  ggi S (some h0) 48 (fun v_1 =>
  grf t1 (fun b_7 =>
  gbd (fX8_init E N S b_7 t2 v_1) (fun _ S_4 =>
  bX6_need_36 E N h0 S_4 t0)))
noncomputable def bX6_need_24 (E : gE) (N : Nat) (h0 : Nat) (S : GS) (t0 : Option Nat) (t1 : Option Nat) : Option ((Int32 ⊕ Nat) × GS) :=
  bX6_need_29 E N h0 S t0 t1 (1 : Int32)
noncomputable def bX6_need_7 (E : gE) (N : Nat) (h0 : Nat) (S : GS) (x2 : Int32) (t0 : Option Nat) : Option ((Int32 ⊕ Nat) × GS) :=
  ggi S (some h0) 47 (fun v_1 =>
  if v_1 = (1 : Int32) then
    bX6_need_24 E N h0 S t0 t0
  else
    ggi S (some h0) 47 (fun v_4 =>
    if v_4 = (5 : Int32) then
      bX6_need_24 E N h0 S t0 t0
    else
      bX6_need_29 E N h0 S t0 t0 x2))
noncomputable def bX6_need_0 (E : gE) (N : Nat) (h0 : Nat) (S : GS) (x1 : Int32) (x2 : Int32) : Option ((Int32 ⊕ Nat) × GS) :=
  if x1 = 0 then
    gnw S 5 (fun a_3 S_2 =>
    bX6_need_7 E N h0 S_2 x2 (some a_3))
  else
    some (Sum.inl 0, S)
noncomputable def fX6_need (E : gE) (N : Nat) (S : GS) (h0 : Nat) (x1 : Int32) (x2 : Int32) : Option ((Int32 ⊕ Nat) × GS) := bX6_need_0 E N h0 S x1 x2
/-! InchBorders$Not.<init>(LInchBorders$Cond;)V -/
abbrev rX27_init : Room := { frames := 2, cells := 0, slots := 0, locals := 40 }
noncomputable def bX27_init_0 (E : gE) (N : Nat) (h0 : Nat) (S : GS) (x1 : Option Nat) : Option (Int32 × GS) :=
  gbd (fX26_init E N S h0) (fun _ S_2 =>
  gpv E S_2 (some h0) 100 (va_rf x1) (fun S_5 =>
  some (0, S_5)))
noncomputable def fX27_init (E : gE) (N : Nat) (S : GS) (h0 : Nat) (x1 : Option Nat) : Option (Int32 × GS) := bX27_init_0 E N h0 S x1
/-! InchBorders$IsSo.<init>(Z)V -/
abbrev rX28_init : Room := { frames := 2, cells := 0, slots := 0, locals := 40 }
noncomputable def bX28_init_0 (E : gE) (N : Nat) (h0 : Nat) (S : GS) (x1 : Int32) : Option (Int32 × GS) :=
  gbd (fX26_init E N S h0) (fun _ S_2 =>
  mzt x1 (
  gpv E S_2 (some h0) 101 (.int x1) (fun S_5 =>
  some (0, S_5))))
noncomputable def fX28_init (E : gE) (N : Nat) (S : GS) (h0 : Nat) (x1 : Int32) : Option (Int32 × GS) := bX28_init_0 E N h0 S x1
/-! java/lang/AbstractStringBuilder.appendNull()Ljava/lang/AbstractStringBuilder; -/
abbrev rJ6_appendNull (mc ms : Nat) : Room := { frames := 4, cells := mc, slots := ms, locals := 92 }
noncomputable def bJ6_appendNull_24 (E : gE) (N : Nat) (h0 : Nat) (S : GS) (x1 : Int32) (x2 : Option Nat) (t0 : Int32) : Option (Option Nat × GS) :=
  if t0 = 0 then
    none
  else
    gaw 0 E S x2 x1 (vp_nar .byte (110 : Int32)) (fun S_2 =>
    gaw 0 E S_2 x2 (x1 + (1 : Int32)) (vp_nar .byte (117 : Int32)) (fun S_4 =>
    gaw 0 E S_4 x2 ((x1 + (1 : Int32)) + (1 : Int32)) (vp_nar .byte (108 : Int32)) (fun S_6 =>
    gaw 0 E S_6 x2 (((x1 + (1 : Int32)) + (1 : Int32)) + (1 : Int32)) (vp_nar .byte (108 : Int32)) (fun S_8 =>
    gpv E S_8 (some h0) 116 (.int ((((x1 + (1 : Int32)) + (1 : Int32)) + (1 : Int32)) + (1 : Int32))) (fun S_10 =>
    some ((some h0), S_10))))))
noncomputable def bJ6_appendNull_10 (E : gE) (N : Nat) (h0 : Nat) (S : GS) : Option (Option Nat × GS) :=
  ggi S (some h0) 116 (fun v_1 =>
  ggr S (some h0) 113 (fun v_3 =>
  gbd (vjava_lang_AbstractStringBuilder_isLatin1___Z E N S (some h0)) (fun r_5 S_6 =>
  bJ6_appendNull_24 E N h0 S_6 v_1 v_3 r_5)))
noncomputable def bJ6_appendNull_0 (E : gE) (N : Nat) (h0 : Nat) (S : GS) : Option (Option Nat × GS) :=
  ggi S (some h0) 116 (fun v_1 =>
  gbd (vjava_lang_AbstractStringBuilder_ensureCapacityInternal__I_V E N S (some h0) (v_1 + (4 : Int32))) (fun _ S_4 =>
  bJ6_appendNull_10 E N h0 S_4))
noncomputable def fJ6_appendNull (E : gE) (N : Nat) (S : GS) (h0 : Nat) : Option (Option Nat × GS) := bJ6_appendNull_0 E N h0 S
/-! java/lang/String.coder()B -/
abbrev rJ8_coder : Room := { frames := 0, cells := 0, slots := 0, locals := 0 }
noncomputable def bJ8_coder_14 (E : gE) (N : Nat) (h0 : Nat) (S : GS) (t0 : Int32) : Option (Int32 × GS) :=
  gnt .byte t0 (some (t0, S))
noncomputable def bJ8_coder_0 (E : gE) (N : Nat) (h0 : Nat) (S : GS) : Option (Int32 × GS) :=
  if (1 : Int32) = 0 then
    bJ8_coder_14 E N h0 S (1 : Int32)
  else
    ggi S (some h0) 118 (fun v_2 =>
    bJ8_coder_14 E N h0 S v_2)
noncomputable def fJ8_coder (E : gE) (N : Nat) (S : GS) (h0 : Nat) : Option (Int32 × GS) := bJ8_coder_0 E N h0 S
noncomputable def vjava_lang_String_coder___B (E : gE) (N : Nat) (S : GS) (r : Option Nat) : Option (Int32 × GS) := gvd S r (fun b ci =>
  if ci = 26 then fJ8_coder E N S b else
  if ci = 27 then fJ8_coder E N S b else
  none)
/-! java/lang/String.length()I -/
abbrev rJ8_length : Room := { frames := 1, cells := 0, slots := 0, locals := 20 }
noncomputable def bJ8_length_0 (E : gE) (N : Nat) (h0 : Nat) (S : GS) : Option (Int32 × GS) :=
  ggr S (some h0) 117 (fun v_1 =>
  gal S v_1 (fun v_3 =>
  gbd (vjava_lang_String_coder___B E N S (some h0)) (fun r_5 S_6 =>
  some ((v_3 >>> (r_5 &&& 31)), S_6))))
noncomputable def fJ8_length (E : gE) (N : Nat) (S : GS) (h0 : Nat) : Option (Int32 × GS) := bJ8_length_0 E N h0 S
/-! java/lang/AbstractStringBuilder.inflateIfNeededFor(Ljava/lang/String;)V -/
abbrev rJ6_inflateIfNeededFor : Room := { frames := 2, cells := 0, slots := 0, locals := 41 }
noncomputable def bJ6_inflateIfNeededFor_21 (E : gE) (N : Nat) (h0 : Nat) (S : GS) : Option (Int32 × GS) :=
  some (0, S)
noncomputable def bJ6_inflateIfNeededFor_0 (E : gE) (N : Nat) (h0 : Nat) (S : GS) (x1 : Option Nat) : Option (Int32 × GS) :=
  if (1 : Int32) = 0 then
    bJ6_inflateIfNeededFor_21 E N h0 S
  else
    ggi S (some h0) 114 (fun v_2 =>
    gbd (vjava_lang_String_coder___B E N S x1) (fun r_4 S_5 =>
    if v_2 = r_4 then
      bJ6_inflateIfNeededFor_21 E N h0 S_5
    else
      gbd (vjava_lang_AbstractStringBuilder_inflate___V E N S_5 (some h0)) (fun _ S_10 =>
      bJ6_inflateIfNeededFor_21 E N h0 S_10)))
noncomputable def fJ6_inflateIfNeededFor (E : gE) (N : Nat) (S : GS) (h0 : Nat) (x1 : Option Nat) : Option (Int32 × GS) := bJ6_inflateIfNeededFor_0 E N h0 S x1
/-! java/lang/StringLatin1.inflate([BI[BII)V -/
abbrev rJ12_inflate : Room := { frames := 0, cells := 0, slots := 0, locals := 0 }
noncomputable def bJ12_inflate_0 (E : gE) (N : Nat) (S : GS) (x0 : Option Nat) (x1 : Int32) (x2 : Option Nat) (x3 : Int32) (x4 : Int32) : Option (Int32 × GS) :=
  none
noncomputable def fJ12_inflate (E : gE) (N : Nat) (S : GS) (x0 : Option Nat) (x1 : Int32) (x2 : Option Nat) (x3 : Int32) (x4 : Int32) : Option (Int32 × GS) := bJ12_inflate_0 E N S x0 x1 x2 x3 x4
/-! java/lang/String.getBytes([BIB)V -/
abbrev rJ8_getBytes : Room := { frames := 1, cells := 0, slots := 0, locals := 40 }
noncomputable def bJ8_getBytes_43 (E : gE) (N : Nat) (h0 : Nat) (S : GS) : Option (Int32 × GS) :=
  some (0, S)
noncomputable def bJ8_getBytes_0 (E : gE) (N : Nat) (h0 : Nat) (S : GS) (x1 : Option Nat) (x2 : Int32) (x3 : Int32) : Option (Int32 × GS) :=
  gbd (vjava_lang_String_coder___B E N S (some h0)) (fun r_1 S_2 =>
  if r_1 = x3 then
    ggr S_2 (some h0) 117 (fun v_16 =>
    ggr S_2 (some h0) 117 (fun v_18 =>
    gal S_2 v_18 (fun v_20 =>
    gcp E S_2 v_16 (0 : Int32) x1 (x2 <<< (x3 &&& 31)) v_20 (fun S_22 =>
    bJ8_getBytes_43 E N h0 S_22))))
  else
    ggr S_2 (some h0) 117 (fun v_6 =>
    ggr S_2 (some h0) 117 (fun v_8 =>
    gal S_2 v_8 (fun v_10 =>
    gbd (fJ12_inflate E N S_2 v_6 (0 : Int32) x1 x2 v_10) (fun _ S_13 =>
    bJ8_getBytes_43 E N h0 S_13)))))
noncomputable def fJ8_getBytes (E : gE) (N : Nat) (S : GS) (h0 : Nat) (x1 : Option Nat) (x2 : Int32) (x3 : Int32) : Option (Int32 × GS) := bJ8_getBytes_0 E N h0 S x1 x2 x3
noncomputable def vjava_lang_AbstractStringBuilder_inflateIfNeededFor__Ljava_lang_String__V (E : gE) (N : Nat) (S : GS) (r : Option Nat) (y0 : Option Nat) : Option (Int32 × GS) := gvd S r (fun b ci =>
  if ci = 25 then fJ6_inflateIfNeededFor E N S b y0 else
  none)
noncomputable def vjava_lang_String_getBytes___BIB_V (E : gE) (N : Nat) (S : GS) (r : Option Nat) (y0 : Option Nat) (y1 : Int32) (y2 : Int32) : Option (Int32 × GS) := gvd S r (fun b ci =>
  if ci = 26 then fJ8_getBytes E N S b y0 y1 y2 else
  if ci = 27 then fJ8_getBytes E N S b y0 y1 y2 else
  none)
/-! java/lang/AbstractStringBuilder.putStringAt(ILjava/lang/String;)V -/
abbrev rJ6_putStringAt : Room := { frames := 3, cells := 0, slots := 0, locals := 63 }
noncomputable def bJ6_putStringAt_0 (E : gE) (N : Nat) (h0 : Nat) (S : GS) (x1 : Int32) (x2 : Option Nat) : Option (Int32 × GS) :=
  gbd (vjava_lang_AbstractStringBuilder_inflateIfNeededFor__Ljava_lang_String__V E N S (some h0) x2) (fun _ S_2 =>
  ggr S_2 (some h0) 113 (fun v_5 =>
  ggi S_2 (some h0) 114 (fun v_7 =>
  gbd (vjava_lang_String_getBytes___BIB_V E N S_2 x2 v_5 x1 v_7) (fun _ S_10 =>
  some (0, S_10)))))
noncomputable def fJ6_putStringAt (E : gE) (N : Nat) (S : GS) (h0 : Nat) (x1 : Int32) (x2 : Option Nat) : Option (Int32 × GS) := bJ6_putStringAt_0 E N h0 S x1 x2
noncomputable def vjava_lang_AbstractStringBuilder_appendNull___Ljava_lang_AbstractStringBuilder_ (E : gE) (N : Nat) (S : GS) (r : Option Nat) : Option (Option Nat × GS) := gvd S r (fun b ci =>
  if ci = 25 then fJ6_appendNull E N S b else
  none)
noncomputable def vjava_lang_String_length___I (E : gE) (N : Nat) (S : GS) (r : Option Nat) : Option (Int32 × GS) := gvd S r (fun b ci =>
  if ci = 26 then fJ8_length E N S b else
  if ci = 27 then fJ8_length E N S b else
  none)
noncomputable def vjava_lang_AbstractStringBuilder_putStringAt__ILjava_lang_String__V (E : gE) (N : Nat) (S : GS) (r : Option Nat) (y0 : Int32) (y1 : Option Nat) : Option (Int32 × GS) := gvd S r (fun b ci =>
  if ci = 25 then fJ6_putStringAt E N S b y0 y1 else
  none)
/-! java/lang/AbstractStringBuilder.append(Ljava/lang/String;)Ljava/lang/AbstractStringBuilder; -/
abbrev rJ6_append_2 (mc ms : Nat) : Room := { frames := 5, cells := mc, slots := ms, locals := 114 }
noncomputable def bJ6_append_2_8 (E : gE) (N : Nat) (h0 : Nat) (S : GS) (t0 : Option Nat) : Option (Option Nat × GS) :=
  some (t0, S)
noncomputable def bJ6_append_2_33 (E : gE) (N : Nat) (h0 : Nat) (S : GS) (x2 : Int32) : Option (Option Nat × GS) :=
  ggi S (some h0) 116 (fun v_1 =>
  gpv E S (some h0) 116 (.int (v_1 + x2)) (fun S_3 =>
  some ((some h0), S_3)))
noncomputable def bJ6_append_2_24 (E : gE) (N : Nat) (h0 : Nat) (S : GS) (x1 : Option Nat) (x2 : Int32) : Option (Option Nat × GS) :=
  ggi S (some h0) 116 (fun v_1 =>
  gbd (vjava_lang_AbstractStringBuilder_putStringAt__ILjava_lang_String__V E N S (some h0) v_1 x1) (fun _ S_4 =>
  bJ6_append_2_33 E N h0 S_4 x2))
noncomputable def bJ6_append_2_13 (E : gE) (N : Nat) (h0 : Nat) (S : GS) (x1 : Option Nat) (t0 : Int32) : Option (Option Nat × GS) :=
  ggi S (some h0) 116 (fun v_1 =>
  gbd (vjava_lang_AbstractStringBuilder_ensureCapacityInternal__I_V E N S (some h0) (v_1 + t0)) (fun _ S_4 =>
  bJ6_append_2_24 E N h0 S_4 x1 t0))
noncomputable def bJ6_append_2_0 (E : gE) (N : Nat) (h0 : Nat) (S : GS) (x1 : Option Nat) : Option (Option Nat × GS) :=
  if x1 = none then
    gbd (vjava_lang_AbstractStringBuilder_appendNull___Ljava_lang_AbstractStringBuilder_ E N S (some h0)) (fun r_6 S_7 =>
    bJ6_append_2_8 E N h0 S_7 r_6)
  else
    gbd (vjava_lang_String_length___I E N S x1) (fun r_2 S_3 =>
    bJ6_append_2_13 E N h0 S_3 x1 r_2)
noncomputable def fJ6_append_2 (E : gE) (N : Nat) (S : GS) (h0 : Nat) (x1 : Option Nat) : Option (Option Nat × GS) := bJ6_append_2_0 E N h0 S x1
noncomputable def vS_java_lang_StringBuilder_append__Ljava_lang_String__Ljava_lang_AbstractStringBuilder_ (E : gE) (N : Nat) (S : GS) (r : Option Nat) (y0 : Option Nat) : Option (Option Nat × GS) := gvd S r (fun b ci =>
  if ci = 25 then fJ6_append_2 E N S b y0 else
  none)
/-! java/lang/StringBuilder.append(Ljava/lang/String;)Ljava/lang/StringBuilder; -/
abbrev rJ7_append_2 (mc ms : Nat) : Room := { frames := 6, cells := mc, slots := ms, locals := 136 }
noncomputable def bJ7_append_2_5 (E : gE) (N : Nat) (h0 : Nat) (S : GS) (t0 : Option Nat) : Option (Option Nat × GS) :=
  some ((some h0), S)
noncomputable def bJ7_append_2_0 (E : gE) (N : Nat) (h0 : Nat) (S : GS) (x1 : Option Nat) : Option (Option Nat × GS) :=
  gbd (vS_java_lang_StringBuilder_append__Ljava_lang_String__Ljava_lang_AbstractStringBuilder_ E N S (some h0) x1) (fun r_1 S_2 =>
  bJ7_append_2_5 E N h0 S_2 r_1)
noncomputable def fJ7_append_2 (E : gE) (N : Nat) (S : GS) (h0 : Nat) (x1 : Option Nat) : Option (Option Nat × GS) := bJ7_append_2_0 E N h0 S x1
/-! java/lang/String.isLatin1()Z -/
abbrev rJ8_isLatin1 : Room := { frames := 0, cells := 0, slots := 0, locals := 0 }
noncomputable def bJ8_isLatin1_18 (E : gE) (N : Nat) (h0 : Nat) (S : GS) (t0 : Int32) : Option (Int32 × GS) :=
  mzt t0 (some (t0, S))
noncomputable def bJ8_isLatin1_17 (E : gE) (N : Nat) (h0 : Nat) (S : GS) : Option (Int32 × GS) :=
  bJ8_isLatin1_18 E N h0 S (0 : Int32)
noncomputable def bJ8_isLatin1_0 (E : gE) (N : Nat) (h0 : Nat) (S : GS) : Option (Int32 × GS) :=
  if (1 : Int32) = 0 then
    bJ8_isLatin1_17 E N h0 S
  else
    ggi S (some h0) 118 (fun v_2 =>
    if v_2 = 0 then
      bJ8_isLatin1_18 E N h0 S (1 : Int32)
    else
      bJ8_isLatin1_17 E N h0 S)
noncomputable def fJ8_isLatin1 (E : gE) (N : Nat) (S : GS) (h0 : Nat) : Option (Int32 × GS) := bJ8_isLatin1_0 E N h0 S
/-! java/lang/StringLatin1.indexOf([BI[BII)I -/
abbrev rJ12_indexOf_2 : Room := { frames := 0, cells := 0, slots := 0, locals := 0 }
noncomputable def bJ12_indexOf_2_113 (E : gE) (N : Nat) (K14 : GS → (Option Nat) → (Option Nat) → Int32 → Int32 → Int32 → Int32 → Option (Int32 × GS)) (S : GS) (x0 : Option Nat) (x2 : Option Nat) (x3 : Int32) (x5 : Int32) (x6 : Int32) (x7 : Int32) : Option (Int32 × GS) :=
  K14 S x0 x2 x3 x5 x6 (x7 + (1 : Int32))
noncomputable def bJ12_indexOf_2_103 (E : gE) (N : Nat) (K14 : GS → (Option Nat) → (Option Nat) → Int32 → Int32 → Int32 → Int32 → Option (Int32 × GS)) (S : GS) (x0 : Option Nat) (x2 : Option Nat) (x3 : Int32) (x5 : Int32) (x6 : Int32) (x7 : Int32) (x8 : Int32) (x9 : Int32) : Option (Int32 × GS) :=
  if x8 = x9 then
    some (x7, S)
  else
    bJ12_indexOf_2_113 E N K14 S x0 x2 x3 x5 x6 x7
noncomputable def bJ12_indexOf_2_76 (E : gE) (N : Nat) (K14 : GS → (Option Nat) → (Option Nat) → Int32 → Int32 → Int32 → Int32 → Option (Int32 × GS)) (K76 : GS → (Option Nat) → (Option Nat) → Int32 → Int32 → Int32 → Int32 → Int32 → Int32 → Int32 → Option (Int32 × GS)) (S : GS) (x0 : Option Nat) (x2 : Option Nat) (x3 : Int32) (x5 : Int32) (x6 : Int32) (x7 : Int32) (x8 : Int32) (x9 : Int32) (x10 : Int32) : Option (Int32 × GS) :=
  if x9 ≤ x8 then
    bJ12_indexOf_2_103 E N K14 S x0 x2 x3 x5 x6 x7 x8 x9
  else
    gai 0 S x0 x8 (fun v_2 =>
    gai 0 S x2 x10 (fun v_4 =>
    if v_2 = v_4 then
      K76 S x0 x2 x3 x5 x6 x7 (x8 + (1 : Int32)) x9 (x10 + (1 : Int32))
    else
      bJ12_indexOf_2_103 E N K14 S x0 x2 x3 x5 x6 x7 x8 x9))
noncomputable def bJ12_indexOf_2_76L (E : gE) (N : Nat) (K14 : GS → (Option Nat) → (Option Nat) → Int32 → Int32 → Int32 → Int32 → Option (Int32 × GS)) : Nat → GS → (Option Nat) → (Option Nat) → Int32 → Int32 → Int32 → Int32 → Int32 → Int32 → Int32 → Option (Int32 × GS)
  | 0 => fun _ _ _ _ _ _ _ _ _ _ => none
  | n + 1 => bJ12_indexOf_2_76 E N K14 (bJ12_indexOf_2_76L E N K14 n)
noncomputable def bJ12_indexOf_2_52 (E : gE) (N : Nat) (K14 : GS → (Option Nat) → (Option Nat) → Int32 → Int32 → Int32 → Int32 → Option (Int32 × GS)) (S : GS) (x0 : Option Nat) (x2 : Option Nat) (x3 : Int32) (x5 : Int32) (x6 : Int32) (x7 : Int32) : Option (Int32 × GS) :=
  if x6 < x7 then
    bJ12_indexOf_2_113 E N K14 S x0 x2 x3 x5 x6 x7
  else
    bJ12_indexOf_2_76L E N K14 N S x0 x2 x3 x5 x6 x7 (x7 + (1 : Int32)) (((x7 + (1 : Int32)) + x3) - (1 : Int32)) (1 : Int32)
noncomputable def bJ12_indexOf_2_30 (E : gE) (N : Nat) (K14 : GS → (Option Nat) → (Option Nat) → Int32 → Int32 → Int32 → Int32 → Option (Int32 × GS)) (K30 : GS → (Option Nat) → (Option Nat) → Int32 → Int32 → Int32 → Int32 → Option (Int32 × GS)) (S : GS) (x0 : Option Nat) (x2 : Option Nat) (x3 : Int32) (x5 : Int32) (x6 : Int32) (x7 : Int32) : Option (Int32 × GS) :=
  if x6 < (x7 + (1 : Int32)) then
    bJ12_indexOf_2_52 E N K14 S x0 x2 x3 x5 x6 (x7 + (1 : Int32))
  else
    gai 0 S x0 (x7 + (1 : Int32)) (fun v_2 =>
    if v_2 = x5 then
      bJ12_indexOf_2_52 E N K14 S x0 x2 x3 x5 x6 (x7 + (1 : Int32))
    else
      K30 S x0 x2 x3 x5 x6 (x7 + (1 : Int32)))
noncomputable def bJ12_indexOf_2_30L (E : gE) (N : Nat) (K14 : GS → (Option Nat) → (Option Nat) → Int32 → Int32 → Int32 → Int32 → Option (Int32 × GS)) : Nat → GS → (Option Nat) → (Option Nat) → Int32 → Int32 → Int32 → Int32 → Option (Int32 × GS)
  | 0 => fun _ _ _ _ _ _ _ => none
  | n + 1 => bJ12_indexOf_2_30 E N K14 (bJ12_indexOf_2_30L E N K14 n)
noncomputable def bJ12_indexOf_2_14 (E : gE) (N : Nat) (K14 : GS → (Option Nat) → (Option Nat) → Int32 → Int32 → Int32 → Int32 → Option (Int32 × GS)) (S : GS) (x0 : Option Nat) (x2 : Option Nat) (x3 : Int32) (x5 : Int32) (x6 : Int32) (x7 : Int32) : Option (Int32 × GS) :=
  if x6 < x7 then
    some ((-1 : Int32), S)
  else
    gai 0 S x0 x7 (fun v_2 =>
    if v_2 = x5 then
      bJ12_indexOf_2_52 E N K14 S x0 x2 x3 x5 x6 x7
    else
      bJ12_indexOf_2_30L E N K14 N S x0 x2 x3 x5 x6 x7)
noncomputable def bJ12_indexOf_2_14L (E : gE) (N : Nat) : Nat → GS → (Option Nat) → (Option Nat) → Int32 → Int32 → Int32 → Int32 → Option (Int32 × GS)
  | 0 => fun _ _ _ _ _ _ _ => none
  | n + 1 => bJ12_indexOf_2_14 E N (bJ12_indexOf_2_14L E N n)
noncomputable def bJ12_indexOf_2_0 (E : gE) (N : Nat) (S : GS) (x0 : Option Nat) (x1 : Int32) (x2 : Option Nat) (x3 : Int32) (x4 : Int32) : Option (Int32 × GS) :=
  gai 0 S x2 (0 : Int32) (fun v_1 =>
  bJ12_indexOf_2_14L E N N S x0 x2 x3 v_1 (x1 - x3) x4)
noncomputable def fJ12_indexOf_2 (E : gE) (N : Nat) (S : GS) (x0 : Option Nat) (x1 : Int32) (x2 : Option Nat) (x3 : Int32) (x4 : Int32) : Option (Int32 × GS) := bJ12_indexOf_2_0 E N S x0 x1 x2 x3 x4
/-! java/lang/StringLatin1.indexOf([B[B)I -/
abbrev rJ12_indexOf : Room := { frames := 1, cells := 0, slots := 0, locals := 30 }
noncomputable def bJ12_indexOf_0 (E : gE) (N : Nat) (S : GS) (x0 : Option Nat) (x1 : Option Nat) : Option (Int32 × GS) :=
  gal S x1 (fun v_1 =>
  if v_1 = 0 then
    some ((0 : Int32), S)
  else
    gal S x0 (fun v_4 =>
    if v_4 = 0 then
      some ((-1 : Int32), S)
    else
      gal S x0 (fun v_7 =>
      gal S x1 (fun v_9 =>
      gbd (fJ12_indexOf_2 E N S x0 v_7 x1 v_9 (0 : Int32)) (fun r_11 S_12 =>
      some (r_11, S_12))))))
noncomputable def fJ12_indexOf (E : gE) (N : Nat) (S : GS) (x0 : Option Nat) (x1 : Option Nat) : Option (Int32 × GS) := bJ12_indexOf_0 E N S x0 x1
noncomputable def vjava_lang_String_isLatin1___Z (E : gE) (N : Nat) (S : GS) (r : Option Nat) : Option (Int32 × GS) := gvd S r (fun b ci =>
  if ci = 26 then fJ8_isLatin1 E N S b else
  if ci = 27 then fJ8_isLatin1 E N S b else
  none)
/-! java/lang/String.indexOf(Ljava/lang/String;)I -/
abbrev rJ8_indexOf : Room := { frames := 2, cells := 0, slots := 0, locals := 51 }
noncomputable def bJ8_indexOf_0 (E : gE) (N : Nat) (h0 : Nat) (S : GS) (x1 : Option Nat) : Option (Int32 × GS) :=
  gbd (vjava_lang_String_coder___B E N S (some h0)) (fun r_1 S_2 =>
  gbd (vjava_lang_String_coder___B E N S_2 x1) (fun r_5 S_6 =>
  if r_1 = r_5 then
    gbd (vjava_lang_String_isLatin1___Z E N S_6 (some h0)) (fun r_15 S_16 =>
    if r_15 = 0 then
      ggr S_16 (some h0) 117 (fun v_20 =>
      ggr S_16 x1 117 (fun v_22 =>
      none))
    else
      ggr S_16 (some h0) 117 (fun v_24 =>
      ggr S_16 x1 117 (fun v_26 =>
      gbd (fJ12_indexOf E N S_16 v_24 v_26) (fun r_28 S_29 =>
      some (r_28, S_29)))))
  else
    if r_1 = 0 then
      some ((-1 : Int32), S_6)
    else
      ggr S_6 (some h0) 117 (fun v_11 =>
      ggr S_6 x1 117 (fun v_13 =>
      none))))
noncomputable def fJ8_indexOf (E : gE) (N : Nat) (S : GS) (h0 : Nat) (x1 : Option Nat) : Option (Int32 × GS) := bJ8_indexOf_0 E N h0 S x1
noncomputable def vjava_lang_StringBuilder_append__Ljava_lang_String__Ljava_lang_StringBuilder_ (E : gE) (N : Nat) (S : GS) (r : Option Nat) (y0 : Option Nat) : Option (Option Nat × GS) := gvd S r (fun b ci =>
  if ci = 25 then fJ7_append_2 E N S b y0 else
  none)
noncomputable def vjava_lang_String_indexOf__Ljava_lang_String__I (E : gE) (N : Nat) (S : GS) (r : Option Nat) (y0 : Option Nat) : Option (Int32 × GS) := gvd S r (fun b ci =>
  if ci = 26 then fJ8_indexOf E N S b y0 else
  if ci = 27 then fJ8_indexOf E N S b y0 else
  none)
/-! InchBorders$Reader.isName()Z -/
abbrev rX6_isName (mc ms : Nat) : Room := { frames := 7, cells := mc, slots := ms, locals := 157 }
noncomputable def bX6_isName_48 (E : gE) (N : Nat) (h0 : Nat) (S : GS) (t0 : Int32) : Option (Int32 × GS) :=
  mzt t0 (some (t0, S))
noncomputable def bX6_isName_47 (E : gE) (N : Nat) (h0 : Nat) (S : GS) : Option (Int32 × GS) :=
  bX6_isName_48 E N h0 S (0 : Int32)
noncomputable def bX6_isName_40 (E : gE) (N : Nat) (h0 : Nat) (S : GS) (t0 : Int32) : Option (Int32 × GS) :=
  if 0 ≤ t0 then
    bX6_isName_47 E N h0 S
  else
    bX6_isName_48 E N h0 S (1 : Int32)
noncomputable def bX6_isName_37 (E : gE) (N : Nat) (h0 : Nat) (S : GS) (t0 : Option Nat) (t1 : Option Nat) : Option (Int32 × GS) :=
  gbd (vjava_lang_String_indexOf__Ljava_lang_String__I E N S t0 t1) (fun r_1 S_2 =>
  bX6_isName_40 E N h0 S_2 r_1)
noncomputable def bX6_isName_34 (E : gE) (N : Nat) (h0 : Nat) (S : GS) (t0 : Option Nat) (t1 : Option Nat) : Option (Int32 × GS) :=
  gbd (vjava_lang_StringBuilder_toString___Ljava_lang_String_ E N S t1) (fun r_1 S_2 =>
  bX6_isName_37 E N h0 S_2 t0 r_1)
noncomputable def bX6_isName_29 (E : gE) (N : Nat) (h0 : Nat) (S : GS) (t0 : Option Nat) (t1 : Option Nat) : Option (Int32 × GS) :=
  gbd (vjava_lang_StringBuilder_append__Ljava_lang_String__Ljava_lang_StringBuilder_ E N S t1 (some (E.2.1 25))) (fun r_1 S_2 =>
  bX6_isName_34 E N h0 S_2 t0 r_1)
noncomputable def bX6_isName_22 (E : gE) (N : Nat) (h0 : Nat) (S : GS) (t0 : Option Nat) (t1 : Option Nat) : Option (Int32 × GS) :=
  ggr S (some h0) 51 (fun v_1 =>
  gbd (vjava_lang_StringBuilder_append__Ljava_lang_String__Ljava_lang_StringBuilder_ E N S t1 v_1) (fun r_3 S_4 =>
  bX6_isName_29 E N h0 S_4 t0 r_3))
noncomputable def bX6_isName_17 (E : gE) (N : Nat) (h0 : Nat) (S : GS) (t0 : Option Nat) (t1 : Option Nat) : Option (Int32 × GS) :=
  gbd (vjava_lang_StringBuilder_append__Ljava_lang_String__Ljava_lang_StringBuilder_ E N S t1 (some (E.2.1 25))) (fun r_1 S_2 =>
  bX6_isName_22 E N h0 S_2 t0 r_1)
noncomputable def bX6_isName_13 (E : gE) (N : Nat) (h0 : Nat) (S : GS) (t0 : Option Nat) (t1 : Option Nat) : Option (Int32 × GS) :=
  grf t1 (fun b_5 =>
  gbd (fJ7_init E N S b_5) (fun _ S_2 =>
  bX6_isName_17 E N h0 S_2 t0 (some b_5)))
noncomputable def bX6_isName_0 (E : gE) (N : Nat) (h0 : Nat) (S : GS) : Option (Int32 × GS) :=
  ggi S (some h0) 47 (fun v_1 =>
  if v_1 = (2 : Int32) then
    gnw S 25 (fun a_5 S_4 =>
    bX6_isName_13 E N h0 S_4 (some (E.2.1 24)) (some a_5))
  else
    bX6_isName_47 E N h0 S)
noncomputable def fX6_isName (E : gE) (N : Nat) (S : GS) (h0 : Nat) : Option (Int32 × GS) := bX6_isName_0 E N h0 S
/-! InchBorders$Reader.find(Ljava/util/ArrayList;)I -/
abbrev rX6_find : Room := { frames := 3, cells := 0, slots := 0, locals := 64 }
noncomputable def bX6_find_2 (E : gE) (N : Nat) (h0 : Nat) (K2 : GS → (Option Nat) → Int32 → Option (Int32 × GS)) (S : GS) (x1 : Option Nat) (x2 : Int32) : Option (Int32 × GS) :=
  gbd (vjava_util_ArrayList_size___I E N S x1) (fun r_1 S_2 =>
  if r_1 ≤ x2 then
    some ((-1 : Int32), S_2)
  else
    gbd (vjava_util_ArrayList_get__I_Ljava_lang_Object_ E N S_2 x1 x2) (fun r_6 S_7 =>
    gcc S_7 r_6 [6, 8] (
    ggr S_7 r_6 61 (fun v_11 =>
    ggr S_7 (some h0) 51 (fun v_13 =>
    gbd (vjava_lang_String_equals__Ljava_lang_Object__Z E N S_7 v_11 v_13) (fun r_15 S_16 =>
    if r_15 = 0 then
      K2 S_16 x1 (x2 + (1 : Int32))
    else
      some (x2, S_16)))))))
noncomputable def bX6_find_2L (E : gE) (N : Nat) (h0 : Nat) : Nat → GS → (Option Nat) → Int32 → Option (Int32 × GS)
  | 0 => fun _ _ _ => none
  | n + 1 => bX6_find_2 E N h0 (bX6_find_2L E N h0 n)
noncomputable def bX6_find_0 (E : gE) (N : Nat) (h0 : Nat) (S : GS) (x1 : Option Nat) : Option (Int32 × GS) :=
  bX6_find_2L E N h0 N S x1 (0 : Int32)
noncomputable def fX6_find (E : gE) (N : Nat) (S : GS) (h0 : Nat) (x1 : Option Nat) : Option (Int32 × GS) := bX6_find_0 E N h0 S x1
noncomputable def vInchBorders_Reader_isName___Z (E : gE) (N : Nat) (S : GS) (r : Option Nat) : Option (Int32 × GS) := gvd S r (fun b ci =>
  if ci = 4 then fX6_isName E N S b else
  if ci = 16 then fX6_isName E N S b else
  if ci = 18 then fX6_isName E N S b else
  none)
noncomputable def vInchBorders_Reader_need__ZI_V (E : gE) (N : Nat) (S : GS) (r : Option Nat) (y0 : Int32) (y1 : Int32) : Option ((Int32 ⊕ Nat) × GS) := gvd S r (fun b ci =>
  if ci = 4 then fX6_need E N S b y0 y1 else
  if ci = 16 then fX6_need E N S b y0 y1 else
  if ci = 18 then fX6_need E N S b y0 y1 else
  none)
noncomputable def vInchBorders_Reader_find__Ljava_util_ArrayList__I (E : gE) (N : Nat) (S : GS) (r : Option Nat) (y0 : Option Nat) : Option (Int32 × GS) := gvd S r (fun b ci =>
  if ci = 4 then fX6_find E N S b y0 else
  if ci = 16 then fX6_find E N S b y0 else
  if ci = 18 then fX6_find E N S b y0 else
  none)
/-! InchBorders$Reader.hold(Ljava/util/ArrayList;)I -/
abbrev rX6_hold (mc ms : Nat) : Room := { frames := 8, cells := mc, slots := ms, locals := 177 }
noncomputable def bX6_hold_30 (E : gE) (N : Nat) (h0 : Nat) (S : GS) (x2 : Int32) : Option ((Int32 ⊕ Nat) × GS) :=
  some (Sum.inl x2, S)
noncomputable def bX6_hold_26 (E : gE) (N : Nat) (h0 : Nat) (S : GS) (x2 : Int32) (t0 : Option Nat) (t1 : Int32) : Option ((Int32 ⊕ Nat) × GS) :=
  gbx (vInchBorders_Reader_need__ZI_V E N S t0 t1 (3 : Int32)) (fun _ S_2 =>
  bX6_hold_30 E N h0 S_2 x2)
noncomputable def bX6_hold_14 (E : gE) (N : Nat) (h0 : Nat) (S : GS) (t0 : Int32) : Option ((Int32 ⊕ Nat) × GS) :=
  if t0 = (-1 : Int32) then
    bX6_hold_26 E N h0 S t0 (some h0) (0 : Int32)
  else
    bX6_hold_26 E N h0 S t0 (some h0) (1 : Int32)
noncomputable def bX6_hold_9 (E : gE) (N : Nat) (h0 : Nat) (S : GS) (x1 : Option Nat) : Option ((Int32 ⊕ Nat) × GS) :=
  gbd (vInchBorders_Reader_find__Ljava_util_ArrayList__I E N S (some h0) x1) (fun r_1 S_2 =>
  bX6_hold_14 E N h0 S_2 r_1)
noncomputable def bX6_hold_5 (E : gE) (N : Nat) (h0 : Nat) (S : GS) (x1 : Option Nat) (t0 : Option Nat) (t1 : Int32) : Option ((Int32 ⊕ Nat) × GS) :=
  gbx (vInchBorders_Reader_need__ZI_V E N S t0 t1 (1 : Int32)) (fun _ S_2 =>
  bX6_hold_9 E N h0 S_2 x1)
noncomputable def bX6_hold_0 (E : gE) (N : Nat) (h0 : Nat) (S : GS) (x1 : Option Nat) : Option ((Int32 ⊕ Nat) × GS) :=
  gbd (vInchBorders_Reader_isName___Z E N S (some h0)) (fun r_1 S_2 =>
  bX6_hold_5 E N h0 S_2 x1 (some h0) r_1)
noncomputable def fX6_hold (E : gE) (N : Nat) (S : GS) (h0 : Nat) (x1 : Option Nat) : Option ((Int32 ⊕ Nat) × GS) := bX6_hold_0 E N h0 S x1
noncomputable def vInchBorders_Reader_hold__Ljava_util_ArrayList__I (E : gE) (N : Nat) (S : GS) (r : Option Nat) (y0 : Option Nat) : Option ((Int32 ⊕ Nat) × GS) := gvd S r (fun b ci =>
  if ci = 4 then fX6_hold E N S b y0 else
  if ci = 16 then fX6_hold E N S b y0 else
  if ci = 18 then fX6_hold E N S b y0 else
  none)
noncomputable def vInchBorders_Reader_go___V (E : gE) (N : Nat) (S : GS) (r : Option Nat) : Option (Int32 × GS) := gvd S r (fun b ci =>
  if ci = 4 then fX6_go E N S b else
  if ci = 16 then fX6_go E N S b else
  if ci = 18 then fX6_go E N S b else
  none)
/-! InchBorders$Reader.one(Ljava/util/ArrayList;)I -/
abbrev rX6_one (mc ms : Nat) : Room := { frames := 9, cells := mc, slots := ms, locals := 199 }
noncomputable def bX6_one_10 (E : gE) (N : Nat) (h0 : Nat) (S : GS) (x2 : Int32) : Option ((Int32 ⊕ Nat) × GS) :=
  some (Sum.inl x2, S)
noncomputable def bX6_one_5 (E : gE) (N : Nat) (h0 : Nat) (S : GS) (t0 : Int32) : Option ((Int32 ⊕ Nat) × GS) :=
  gbd (vInchBorders_Reader_go___V E N S (some h0)) (fun _ S_2 =>
  bX6_one_10 E N h0 S_2 t0)
noncomputable def bX6_one_0 (E : gE) (N : Nat) (h0 : Nat) (S : GS) (x1 : Option Nat) : Option ((Int32 ⊕ Nat) × GS) :=
  gbx (vInchBorders_Reader_hold__Ljava_util_ArrayList__I E N S (some h0) x1) (fun r_1 S_2 =>
  bX6_one_5 E N h0 S_2 r_1)
noncomputable def fX6_one (E : gE) (N : Nat) (S : GS) (h0 : Nat) (x1 : Option Nat) : Option ((Int32 ⊕ Nat) × GS) := bX6_one_0 E N h0 S x1
/-! InchBorders.isIn(III)Z -/
abbrev rX1_isIn : Room := { frames := 0, cells := 0, slots := 0, locals := 0 }
noncomputable def bX1_isIn_15 (E : gE) (N : Nat) (S : GS) (t0 : Int32) : Option (Int32 × GS) :=
  mzt t0 (some (t0, S))
noncomputable def bX1_isIn_14 (E : gE) (N : Nat) (S : GS) : Option (Int32 × GS) :=
  bX1_isIn_15 E N S (0 : Int32)
noncomputable def bX1_isIn_0 (E : gE) (N : Nat) (S : GS) (x0 : Int32) (x1 : Int32) (x2 : Int32) : Option (Int32 × GS) :=
  if x0 < x1 then
    bX1_isIn_14 E N S
  else
    if x2 < x0 then
      bX1_isIn_14 E N S
    else
      bX1_isIn_15 E N S (1 : Int32)
noncomputable def fX1_isIn (E : gE) (N : Nat) (S : GS) (x0 : Int32) (x1 : Int32) (x2 : Int32) : Option (Int32 × GS) := bX1_isIn_0 E N S x0 x1 x2
/-! InchBorders$Reader.number(II)I -/
abbrev rX6_number (mc ms : Nat) : Room := { frames := 7, cells := mc, slots := ms, locals := 175 }
noncomputable def bX6_number_41 (E : gE) (N : Nat) (h0 : Nat) (S : GS) (x3 : Int32) : Option ((Int32 ⊕ Nat) × GS) :=
  some (Sum.inl x3, S)
noncomputable def bX6_number_32 (E : gE) (N : Nat) (h0 : Nat) (S : GS) : Option ((Int32 ⊕ Nat) × GS) :=
  ggi S (some h0) 49 (fun v_1 =>
  gbd (vInchBorders_Reader_go___V E N S (some h0)) (fun _ S_4 =>
  bX6_number_41 E N h0 S_4 v_1))
noncomputable def bX6_number_28 (E : gE) (N : Nat) (h0 : Nat) (S : GS) (t0 : Option Nat) (t1 : Int32) : Option ((Int32 ⊕ Nat) × GS) :=
  gbx (vInchBorders_Reader_need__ZI_V E N S t0 t1 (2 : Int32)) (fun _ S_2 =>
  bX6_number_32 E N h0 S_2)
noncomputable def bX6_number_18 (E : gE) (N : Nat) (h0 : Nat) (S : GS) (x1 : Int32) (x2 : Int32) : Option ((Int32 ⊕ Nat) × GS) :=
  ggi S (some h0) 49 (fun v_1 =>
  gbd (fX1_isIn E N S v_1 x1 x2) (fun r_3 S_4 =>
  bX6_number_28 E N h0 S_4 (some h0) r_3))
noncomputable def bX6_number_14 (E : gE) (N : Nat) (h0 : Nat) (S : GS) (x1 : Int32) (x2 : Int32) (t0 : Option Nat) (t1 : Int32) : Option ((Int32 ⊕ Nat) × GS) :=
  gbx (vInchBorders_Reader_need__ZI_V E N S t0 t1 (1 : Int32)) (fun _ S_2 =>
  bX6_number_18 E N h0 S_2 x1 x2)
noncomputable def bX6_number_0 (E : gE) (N : Nat) (h0 : Nat) (S : GS) (x1 : Int32) (x2 : Int32) : Option ((Int32 ⊕ Nat) × GS) :=
  ggi S (some h0) 47 (fun v_1 =>
  if v_1 = (3 : Int32) then
    bX6_number_14 E N h0 S x1 x2 (some h0) (1 : Int32)
  else
    bX6_number_14 E N h0 S x1 x2 (some h0) (0 : Int32))
noncomputable def fX6_number (E : gE) (N : Nat) (S : GS) (h0 : Nat) (x1 : Int32) (x2 : Int32) : Option ((Int32 ⊕ Nat) × GS) := bX6_number_0 E N h0 S x1 x2
/-! InchBorders$Than.<init>(III)V -/
abbrev rX30_init : Room := { frames := 2, cells := 0, slots := 0, locals := 40 }
noncomputable def bX30_init_0 (E : gE) (N : Nat) (h0 : Nat) (S : GS) (x1 : Int32) (x2 : Int32) (x3 : Int32) : Option (Int32 × GS) :=
  gbd (fX26_init E N S h0) (fun _ S_2 =>
  gpv E S_2 (some h0) 104 (.int x1) (fun S_5 =>
  gpv E S_5 (some h0) 105 (.int x2) (fun S_7 =>
  gpv E S_7 (some h0) 106 (.int x3) (fun S_9 =>
  some (0, S_9)))))
noncomputable def fX30_init (E : gE) (N : Nat) (S : GS) (h0 : Nat) (x1 : Int32) (x2 : Int32) (x3 : Int32) : Option (Int32 × GS) := bX30_init_0 E N h0 S x1 x2 x3
noncomputable def vInchBorders_SentenceReader_need__ZI_V (E : gE) (N : Nat) (S : GS) (r : Option Nat) (y0 : Int32) (y1 : Int32) : Option ((Int32 ⊕ Nat) × GS) := gvd S r (fun b ci =>
  if ci = 18 then fX6_need E N S b y0 y1 else
  none)
noncomputable def vInchBorders_SentenceReader_go___V (E : gE) (N : Nat) (S : GS) (r : Option Nat) : Option (Int32 × GS) := gvd S r (fun b ci =>
  if ci = 18 then fX6_go E N S b else
  none)
noncomputable def vInchBorders_SentenceReader_number__II_I (E : gE) (N : Nat) (S : GS) (r : Option Nat) (y0 : Int32) (y1 : Int32) : Option ((Int32 ⊕ Nat) × GS) := gvd S r (fun b ci =>
  if ci = 18 then fX6_number E N S b y0 y1 else
  none)
/-! InchBorders$SentenceReader.than(I)LInchBorders$Cond; -/
abbrev rX25_than (mc ms : Nat) : Room := { frames := 8, cells := mc, slots := ms, locals := 198 }
noncomputable def bX25_than_63 (E : gE) (N : Nat) (h0 : Nat) (S : GS) (t0 : Option Nat) : Option ((Option Nat ⊕ Nat) × GS) :=
  some (Sum.inl t0, S)
noncomputable def bX25_than_60 (E : gE) (N : Nat) (h0 : Nat) (S : GS) (t0 : Option Nat) (t1 : Option Nat) (t2 : Int32) (t3 : Int32) (t4 : Int32) : Option ((Option Nat ⊕ Nat) × GS) :=
  grf t1 (fun b_5 =>
  gbd (fX30_init E N S b_5 t2 t3 t4) (fun _ S_2 =>
  bX25_than_63 E N h0 S_2 t0))
noncomputable def bX25_than_49 (E : gE) (N : Nat) (h0 : Nat) (S : GS) (x1 : Int32) (x2 : Int32) (t0 : Option Nat) : Option ((Option Nat ⊕ Nat) × GS) :=
  gbx (vInchBorders_SentenceReader_number__II_I E N S (some h0) (0 : Int32) (999 : Int32)) (fun r_1 S_2 =>
  bX25_than_60 E N h0 S_2 t0 t0 x1 x2 r_1)
noncomputable def bX25_than_46 (E : gE) (N : Nat) (h0 : Nat) (S : GS) (x1 : Int32) (x2 : Int32) : Option ((Option Nat ⊕ Nat) × GS) :=
  gnw S 22 (fun a_2 S_1 =>
  bX25_than_49 E N h0 S_1 x1 x2 (some a_2))
noncomputable def bX25_than_37 (E : gE) (N : Nat) (h0 : Nat) (S : GS) (x1 : Int32) : Option ((Option Nat ⊕ Nat) × GS) :=
  ggi S (some h0) 50 (fun v_1 =>
  gbd (vInchBorders_SentenceReader_go___V E N S (some h0)) (fun _ S_4 =>
  bX25_than_46 E N h0 S_4 x1 v_1))
noncomputable def bX25_than_33 (E : gE) (N : Nat) (h0 : Nat) (S : GS) (x1 : Int32) (t0 : Option Nat) (t1 : Int32) : Option ((Option Nat ⊕ Nat) × GS) :=
  gbx (vInchBorders_SentenceReader_need__ZI_V E N S t0 t1 (1 : Int32)) (fun _ S_2 =>
  bX25_than_37 E N h0 S_2 x1)
noncomputable def bX25_than_32 (E : gE) (N : Nat) (h0 : Nat) (S : GS) (x1 : Int32) (t0 : Option Nat) : Option ((Option Nat ⊕ Nat) × GS) :=
  bX25_than_33 E N h0 S x1 t0 (0 : Int32)
noncomputable def bX25_than_0 (E : gE) (N : Nat) (h0 : Nat) (S : GS) (x1 : Int32) : Option ((Option Nat ⊕ Nat) × GS) :=
  ggi S (some h0) 47 (fun v_1 =>
  if v_1 = (6 : Int32) then
    ggi S (some h0) 50 (fun v_4 =>
    if v_4 = (40 : Int32) then
      bX25_than_32 E N h0 S x1 (some h0)
    else
      ggi S (some h0) 50 (fun v_7 =>
      if v_7 = (41 : Int32) then
        bX25_than_32 E N h0 S x1 (some h0)
      else
        bX25_than_33 E N h0 S x1 (some h0) (1 : Int32)))
  else
    bX25_than_32 E N h0 S x1 (some h0))
noncomputable def fX25_than (E : gE) (N : Nat) (S : GS) (h0 : Nat) (x1 : Int32) : Option ((Option Nat ⊕ Nat) × GS) := bX25_than_0 E N h0 S x1
/-! InchBorders$Two.<init>(LInchBorders$Cond;LInchBorders$Cond;Z)V -/
abbrev rX31_init : Room := { frames := 2, cells := 0, slots := 0, locals := 40 }
noncomputable def bX31_init_0 (E : gE) (N : Nat) (h0 : Nat) (S : GS) (x1 : Option Nat) (x2 : Option Nat) (x3 : Int32) : Option (Int32 × GS) :=
  gbd (fX26_init E N S h0) (fun _ S_2 =>
  gpv E S_2 (some h0) 107 (va_rf x1) (fun S_5 =>
  gpv E S_5 (some h0) 108 (va_rf x2) (fun S_7 =>
  mzt x3 (
  gpv E S_7 (some h0) 109 (.int x3) (fun S_9 =>
  some (0, S_9))))))
noncomputable def fX31_init (E : gE) (N : Nat) (S : GS) (h0 : Nat) (x1 : Option Nat) (x2 : Option Nat) (x3 : Int32) : Option (Int32 × GS) := bX31_init_0 E N h0 S x1 x2 x3
def NVPInchBorders_SentenceReader_or___LInchBorders_Cond_ (ρ : GS → Option Nat → Option ((Option Nat ⊕ Nat) × GS)) : Prop := ∀ (S : GS) (r : Option Nat) (r0 : (Option Nat ⊕ Nat)) (Sf : GS), ρ S r = some (r0, Sf) → gLe S Sf
def UVPInchBorders_SentenceReader_or___LInchBorders_Cond_ (E : gE) (ρ : GS → Option Nat → Option ((Option Nat ⊕ Nat) × GS)) (fr lo : Nat) : Prop := ∀ {Γ : GG} {own : String} {p : Program} {l : Launch} {e : Env} {R : Room} {s : State} {m : MethodId} {args : Array Value} {below : List Frame} {meth : Method} {c : Code} {H : Heap} {locs : List Loc} {cells slots nL pc index : Nat} {cc : ByteArray} {ls : Array Slot} {rest As st0 : List Value} {ret : Option FieldType} {S0 S Sf : GS} {r : Option Nat} {r0 : (Option Nat ⊕ Nat)}, gFx Γ E own p m c cc nL s args meth ret → GH Γ E S0 s.heap S H locs → Cond.methodLink own index ⟨"InchBorders$SentenceReader", "or", "()LInchBorders$Cond;"⟩ ∈ lw_all → ρ S r = some (r0, Sf) → As = [] → ls.size = nL → st0 = As.reverse ++ va_rf r :: rest → (rest.map fun v => v.category).sum ≤ 8 → decode cc pc = .ok (.invokevirtual index, 3) → (cells + (Sf.2.2.1 - S.2.2.1) ≤ R.cells ∧ slots + (Sf.2.2.2 - S.2.2.2) ≤ R.slots) → (fr + 1 ≤ R.frames ∧ 8 + 11 + lo ≤ R.locals) → vx_Run p l e R s m args below meth c H locs cells slots (Sf.2.2.1 - S.2.2.1) (Sf.2.2.2 - S.2.2.2) (F0 m pc ls st0) rest ((gXQq Γ E S r0 Sf) (va_rf r :: As).toArray) (gXX Γ E S r0 Sf) (gA E S)
def NVPInchBorders_SentenceReader_bracket___LInchBorders_Cond_ (ρ : GS → Option Nat → Option ((Option Nat ⊕ Nat) × GS)) : Prop := ∀ (S : GS) (r : Option Nat) (r0 : (Option Nat ⊕ Nat)) (Sf : GS), ρ S r = some (r0, Sf) → gLe S Sf
def UVPInchBorders_SentenceReader_bracket___LInchBorders_Cond_ (E : gE) (ρ : GS → Option Nat → Option ((Option Nat ⊕ Nat) × GS)) (fr lo : Nat) : Prop := ∀ {Γ : GG} {own : String} {p : Program} {l : Launch} {e : Env} {R : Room} {s : State} {m : MethodId} {args : Array Value} {below : List Frame} {meth : Method} {c : Code} {H : Heap} {locs : List Loc} {cells slots nL pc index : Nat} {cc : ByteArray} {ls : Array Slot} {rest As st0 : List Value} {ret : Option FieldType} {S0 S Sf : GS} {r : Option Nat} {r0 : (Option Nat ⊕ Nat)}, gFx Γ E own p m c cc nL s args meth ret → GH Γ E S0 s.heap S H locs → Cond.methodLink own index ⟨"InchBorders$SentenceReader", "bracket", "()LInchBorders$Cond;"⟩ ∈ lw_all → ρ S r = some (r0, Sf) → As = [] → ls.size = nL → st0 = As.reverse ++ va_rf r :: rest → (rest.map fun v => v.category).sum ≤ 8 → decode cc pc = .ok (.invokevirtual index, 3) → (cells + (Sf.2.2.1 - S.2.2.1) ≤ R.cells ∧ slots + (Sf.2.2.2 - S.2.2.2) ≤ R.slots) → (fr + 1 ≤ R.frames ∧ 8 + 11 + lo ≤ R.locals) → vx_Run p l e R s m args below meth c H locs cells slots (Sf.2.2.1 - S.2.2.1) (Sf.2.2.2 - S.2.2.2) (F0 m pc ls st0) rest ((gXQq Γ E S r0 Sf) (va_rf r :: As).toArray) (gXX Γ E S r0 Sf) (gA E S)
def NVPInchBorders_SentenceReader_says___LInchBorders_Cond_ (ρ : GS → Option Nat → Option ((Option Nat ⊕ Nat) × GS)) : Prop := ∀ (S : GS) (r : Option Nat) (r0 : (Option Nat ⊕ Nat)) (Sf : GS), ρ S r = some (r0, Sf) → gLe S Sf
def UVPInchBorders_SentenceReader_says___LInchBorders_Cond_ (E : gE) (ρ : GS → Option Nat → Option ((Option Nat ⊕ Nat) × GS)) (fr lo : Nat) : Prop := ∀ {Γ : GG} {own : String} {p : Program} {l : Launch} {e : Env} {R : Room} {s : State} {m : MethodId} {args : Array Value} {below : List Frame} {meth : Method} {c : Code} {H : Heap} {locs : List Loc} {cells slots nL pc index : Nat} {cc : ByteArray} {ls : Array Slot} {rest As st0 : List Value} {ret : Option FieldType} {S0 S Sf : GS} {r : Option Nat} {r0 : (Option Nat ⊕ Nat)}, gFx Γ E own p m c cc nL s args meth ret → GH Γ E S0 s.heap S H locs → Cond.methodLink own index ⟨"InchBorders$SentenceReader", "says", "()LInchBorders$Cond;"⟩ ∈ lw_all → ρ S r = some (r0, Sf) → As = [] → ls.size = nL → st0 = As.reverse ++ va_rf r :: rest → (rest.map fun v => v.category).sum ≤ 8 → decode cc pc = .ok (.invokevirtual index, 3) → (cells + (Sf.2.2.1 - S.2.2.1) ≤ R.cells ∧ slots + (Sf.2.2.2 - S.2.2.2) ≤ R.slots) → (fr + 1 ≤ R.frames ∧ 8 + 11 + lo ≤ R.locals) → vx_Run p l e R s m args below meth c H locs cells slots (Sf.2.2.1 - S.2.2.1) (Sf.2.2.2 - S.2.2.2) (F0 m pc ls st0) rest ((gXQq Γ E S r0 Sf) (va_rf r :: As).toArray) (gXX Γ E S r0 Sf) (gA E S)
def NVPInchBorders_SentenceReader_and___LInchBorders_Cond_ (ρ : GS → Option Nat → Option ((Option Nat ⊕ Nat) × GS)) : Prop := ∀ (S : GS) (r : Option Nat) (r0 : (Option Nat ⊕ Nat)) (Sf : GS), ρ S r = some (r0, Sf) → gLe S Sf
def UVPInchBorders_SentenceReader_and___LInchBorders_Cond_ (E : gE) (ρ : GS → Option Nat → Option ((Option Nat ⊕ Nat) × GS)) (fr lo : Nat) : Prop := ∀ {Γ : GG} {own : String} {p : Program} {l : Launch} {e : Env} {R : Room} {s : State} {m : MethodId} {args : Array Value} {below : List Frame} {meth : Method} {c : Code} {H : Heap} {locs : List Loc} {cells slots nL pc index : Nat} {cc : ByteArray} {ls : Array Slot} {rest As st0 : List Value} {ret : Option FieldType} {S0 S Sf : GS} {r : Option Nat} {r0 : (Option Nat ⊕ Nat)}, gFx Γ E own p m c cc nL s args meth ret → GH Γ E S0 s.heap S H locs → Cond.methodLink own index ⟨"InchBorders$SentenceReader", "and", "()LInchBorders$Cond;"⟩ ∈ lw_all → ρ S r = some (r0, Sf) → As = [] → ls.size = nL → st0 = As.reverse ++ va_rf r :: rest → (rest.map fun v => v.category).sum ≤ 8 → decode cc pc = .ok (.invokevirtual index, 3) → (cells + (Sf.2.2.1 - S.2.2.1) ≤ R.cells ∧ slots + (Sf.2.2.2 - S.2.2.2) ≤ R.slots) → (fr + 1 ≤ R.frames ∧ 8 + 11 + lo ≤ R.locals) → vx_Run p l e R s m args below meth c H locs cells slots (Sf.2.2.1 - S.2.2.1) (Sf.2.2.2 - S.2.2.2) (F0 m pc ls st0) rest ((gXQq Γ E S r0 Sf) (va_rf r :: As).toArray) (gXX Γ E S r0 Sf) (gA E S)
/-! InchBorders$SentenceReader.bracket()LInchBorders$Cond; -/
abbrev rX25_bracket (fr lo mc ms : Nat) : Room := { frames := fr + 1 + 10, cells := mc, slots := ms, locals := lo + 19 + 221 }
noncomputable def bX25_bracket_37 (E : gE) (N : Nat) (ρ0 : GS → Option Nat → Option ((Option Nat ⊕ Nat) × GS)) (ρ1 : GS → Option Nat → Option ((Option Nat ⊕ Nat) × GS)) (ρ2 : GS → Option Nat → Option ((Option Nat ⊕ Nat) × GS)) (ρ3 : GS → Option Nat → Option ((Option Nat ⊕ Nat) × GS)) (h0 : Nat) (S : GS) (x1 : Option Nat) : Option ((Option Nat ⊕ Nat) × GS) :=
  some (Sum.inl x1, S)
noncomputable def bX25_bracket_33 (E : gE) (N : Nat) (ρ0 : GS → Option Nat → Option ((Option Nat ⊕ Nat) × GS)) (ρ1 : GS → Option Nat → Option ((Option Nat ⊕ Nat) × GS)) (ρ2 : GS → Option Nat → Option ((Option Nat ⊕ Nat) × GS)) (ρ3 : GS → Option Nat → Option ((Option Nat ⊕ Nat) × GS)) (h0 : Nat) (S : GS) (x1 : Option Nat) : Option ((Option Nat ⊕ Nat) × GS) :=
  gbd (vInchBorders_SentenceReader_go___V E N S (some h0)) (fun _ S_2 =>
  bX25_bracket_37 E N ρ0 ρ1 ρ2 ρ3 h0 S_2 x1)
noncomputable def bX25_bracket_29 (E : gE) (N : Nat) (ρ0 : GS → Option Nat → Option ((Option Nat ⊕ Nat) × GS)) (ρ1 : GS → Option Nat → Option ((Option Nat ⊕ Nat) × GS)) (ρ2 : GS → Option Nat → Option ((Option Nat ⊕ Nat) × GS)) (ρ3 : GS → Option Nat → Option ((Option Nat ⊕ Nat) × GS)) (h0 : Nat) (S : GS) (x1 : Option Nat) (t0 : Option Nat) (t1 : Int32) : Option ((Option Nat ⊕ Nat) × GS) :=
  gbx (vInchBorders_SentenceReader_need__ZI_V E N S t0 t1 (1 : Int32)) (fun _ S_2 =>
  bX25_bracket_33 E N ρ0 ρ1 ρ2 ρ3 h0 S_2 x1)
noncomputable def bX25_bracket_28 (E : gE) (N : Nat) (ρ0 : GS → Option Nat → Option ((Option Nat ⊕ Nat) × GS)) (ρ1 : GS → Option Nat → Option ((Option Nat ⊕ Nat) × GS)) (ρ2 : GS → Option Nat → Option ((Option Nat ⊕ Nat) × GS)) (ρ3 : GS → Option Nat → Option ((Option Nat ⊕ Nat) × GS)) (h0 : Nat) (S : GS) (x1 : Option Nat) (t0 : Option Nat) : Option ((Option Nat ⊕ Nat) × GS) :=
  bX25_bracket_29 E N ρ0 ρ1 ρ2 ρ3 h0 S x1 t0 (0 : Int32)
noncomputable def bX25_bracket_4 (E : gE) (N : Nat) (ρ0 : GS → Option Nat → Option ((Option Nat ⊕ Nat) × GS)) (ρ1 : GS → Option Nat → Option ((Option Nat ⊕ Nat) × GS)) (ρ2 : GS → Option Nat → Option ((Option Nat ⊕ Nat) × GS)) (ρ3 : GS → Option Nat → Option ((Option Nat ⊕ Nat) × GS)) (h0 : Nat) (S : GS) (t0 : Option Nat) : Option ((Option Nat ⊕ Nat) × GS) :=
  ggi S (some h0) 47 (fun v_1 =>
  if v_1 = (6 : Int32) then
    ggi S (some h0) 50 (fun v_4 =>
    if v_4 = (41 : Int32) then
      bX25_bracket_29 E N ρ0 ρ1 ρ2 ρ3 h0 S t0 (some h0) (1 : Int32)
    else
      bX25_bracket_28 E N ρ0 ρ1 ρ2 ρ3 h0 S t0 (some h0))
  else
    bX25_bracket_28 E N ρ0 ρ1 ρ2 ρ3 h0 S t0 (some h0))
noncomputable def bX25_bracket_0 (E : gE) (N : Nat) (ρ0 : GS → Option Nat → Option ((Option Nat ⊕ Nat) × GS)) (ρ1 : GS → Option Nat → Option ((Option Nat ⊕ Nat) × GS)) (ρ2 : GS → Option Nat → Option ((Option Nat ⊕ Nat) × GS)) (ρ3 : GS → Option Nat → Option ((Option Nat ⊕ Nat) × GS)) (h0 : Nat) (S : GS) : Option ((Option Nat ⊕ Nat) × GS) :=
  gbx (ρ0 S (some h0)) (fun r_1 S_2 =>
  bX25_bracket_4 E N ρ0 ρ1 ρ2 ρ3 h0 S_2 r_1)
noncomputable def fX25_bracket (E : gE) (N : Nat) (ρ0 : GS → Option Nat → Option ((Option Nat ⊕ Nat) × GS)) (ρ1 : GS → Option Nat → Option ((Option Nat ⊕ Nat) × GS)) (ρ2 : GS → Option Nat → Option ((Option Nat ⊕ Nat) × GS)) (ρ3 : GS → Option Nat → Option ((Option Nat ⊕ Nat) × GS)) (S : GS) (h0 : Nat) : Option ((Option Nat ⊕ Nat) × GS) := bX25_bracket_0 E N ρ0 ρ1 ρ2 ρ3 h0 S
noncomputable def vInchBorders_SentenceReader_named___I (E : gE) (N : Nat) (S : GS) (r : Option Nat) : Option (Int32 × GS) := gvd S r (fun b ci =>
  if ci = 18 then fX25_named E N S b else
  none)
noncomputable def vInchBorders_SentenceReader_numbered___I (E : gE) (N : Nat) (S : GS) (r : Option Nat) : Option (Int32 × GS) := gvd S r (fun b ci =>
  if ci = 18 then fX25_numbered E N S b else
  none)
noncomputable def vInchBorders_SentenceReader_one__Ljava_util_ArrayList__I (E : gE) (N : Nat) (S : GS) (r : Option Nat) (y0 : Option Nat) : Option ((Int32 ⊕ Nat) × GS) := gvd S r (fun b ci =>
  if ci = 18 then fX6_one E N S b y0 else
  none)
noncomputable def vInchBorders_SentenceReader_than__I_LInchBorders_Cond_ (E : gE) (N : Nat) (S : GS) (r : Option Nat) (y0 : Int32) : Option ((Option Nat ⊕ Nat) × GS) := gvd S r (fun b ci =>
  if ci = 18 then fX25_than E N S b y0 else
  none)
/-! InchBorders$SentenceReader.says()LInchBorders$Cond; -/
abbrev rX25_says (fr lo mc ms : Nat) : Room := { frames := fr + 1 + 10, cells := mc, slots := ms, locals := lo + 19 + 221 }
noncomputable def bX25_says_237 (E : gE) (N : Nat) (ρ0 : GS → Option Nat → Option ((Option Nat ⊕ Nat) × GS)) (ρ1 : GS → Option Nat → Option ((Option Nat ⊕ Nat) × GS)) (ρ2 : GS → Option Nat → Option ((Option Nat ⊕ Nat) × GS)) (ρ3 : GS → Option Nat → Option ((Option Nat ⊕ Nat) × GS)) (h0 : Nat) (S : GS) (t0 : Option Nat) : Option ((Option Nat ⊕ Nat) × GS) :=
  ggi S (some h0) 99 (fun v_1 =>
  gpv E S (some h0) 99 (.int (v_1 - (1 : Int32))) (fun S_3 =>
  some (Sum.inl t0, S_3)))
noncomputable def bX25_says_165 (E : gE) (N : Nat) (ρ0 : GS → Option Nat → Option ((Option Nat ⊕ Nat) × GS)) (ρ1 : GS → Option Nat → Option ((Option Nat ⊕ Nat) × GS)) (ρ2 : GS → Option Nat → Option ((Option Nat ⊕ Nat) × GS)) (ρ3 : GS → Option Nat → Option ((Option Nat ⊕ Nat) × GS)) (h0 : Nat) (S : GS) (t0 : Option Nat) : Option ((Option Nat ⊕ Nat) × GS) :=
  bX25_says_237 E N ρ0 ρ1 ρ2 ρ3 h0 S t0
noncomputable def bX25_says_183 (E : gE) (N : Nat) (ρ0 : GS → Option Nat → Option ((Option Nat ⊕ Nat) × GS)) (ρ1 : GS → Option Nat → Option ((Option Nat ⊕ Nat) × GS)) (ρ2 : GS → Option Nat → Option ((Option Nat ⊕ Nat) × GS)) (ρ3 : GS → Option Nat → Option ((Option Nat ⊕ Nat) × GS)) (h0 : Nat) (S : GS) (t0 : Option Nat) : Option ((Option Nat ⊕ Nat) × GS) :=
  bX25_says_237 E N ρ0 ρ1 ρ2 ρ3 h0 S t0
noncomputable def bX25_says_180 (E : gE) (N : Nat) (ρ0 : GS → Option Nat → Option ((Option Nat ⊕ Nat) × GS)) (ρ1 : GS → Option Nat → Option ((Option Nat ⊕ Nat) × GS)) (ρ2 : GS → Option Nat → Option ((Option Nat ⊕ Nat) × GS)) (ρ3 : GS → Option Nat → Option ((Option Nat ⊕ Nat) × GS)) (h0 : Nat) (S : GS) (t0 : Option Nat) (t1 : Option Nat) (t2 : Option Nat) : Option ((Option Nat ⊕ Nat) × GS) :=
  grf t1 (fun b_5 =>
  gbd (fX27_init E N S b_5 t2) (fun _ S_2 =>
  bX25_says_183 E N ρ0 ρ1 ρ2 ρ3 h0 S_2 t0))
noncomputable def bX25_says_175 (E : gE) (N : Nat) (ρ0 : GS → Option Nat → Option ((Option Nat ⊕ Nat) × GS)) (ρ1 : GS → Option Nat → Option ((Option Nat ⊕ Nat) × GS)) (ρ2 : GS → Option Nat → Option ((Option Nat ⊕ Nat) × GS)) (ρ3 : GS → Option Nat → Option ((Option Nat ⊕ Nat) × GS)) (h0 : Nat) (S : GS) (t0 : Option Nat) : Option ((Option Nat ⊕ Nat) × GS) :=
  gbx (ρ2 S (some h0)) (fun r_1 S_2 =>
  bX25_says_180 E N ρ0 ρ1 ρ2 ρ3 h0 S_2 t0 t0 r_1)
noncomputable def bX25_says_199 (E : gE) (N : Nat) (ρ0 : GS → Option Nat → Option ((Option Nat ⊕ Nat) × GS)) (ρ1 : GS → Option Nat → Option ((Option Nat ⊕ Nat) × GS)) (ρ2 : GS → Option Nat → Option ((Option Nat ⊕ Nat) × GS)) (ρ3 : GS → Option Nat → Option ((Option Nat ⊕ Nat) × GS)) (h0 : Nat) (S : GS) (t0 : Option Nat) : Option ((Option Nat ⊕ Nat) × GS) :=
  bX25_says_237 E N ρ0 ρ1 ρ2 ρ3 h0 S t0
noncomputable def bX25_says_194 (E : gE) (N : Nat) (ρ0 : GS → Option Nat → Option ((Option Nat ⊕ Nat) × GS)) (ρ1 : GS → Option Nat → Option ((Option Nat ⊕ Nat) × GS)) (ρ2 : GS → Option Nat → Option ((Option Nat ⊕ Nat) × GS)) (ρ3 : GS → Option Nat → Option ((Option Nat ⊕ Nat) × GS)) (h0 : Nat) (S : GS) (x3 : Int32) (t0 : Option Nat) : Option ((Option Nat ⊕ Nat) × GS) :=
  grf t0 (fun b_5 =>
  gbd (fX28_init E N S b_5 x3) (fun _ S_2 =>
  bX25_says_199 E N ρ0 ρ1 ρ2 ρ3 h0 S_2 (some b_5)))
noncomputable def bX25_says_228 (E : gE) (N : Nat) (ρ0 : GS → Option Nat → Option ((Option Nat ⊕ Nat) × GS)) (ρ1 : GS → Option Nat → Option ((Option Nat ⊕ Nat) × GS)) (ρ2 : GS → Option Nat → Option ((Option Nat ⊕ Nat) × GS)) (ρ3 : GS → Option Nat → Option ((Option Nat ⊕ Nat) × GS)) (h0 : Nat) (S : GS) (t0 : Option Nat) : Option ((Option Nat ⊕ Nat) × GS) :=
  bX25_says_237 E N ρ0 ρ1 ρ2 ρ3 h0 S t0
noncomputable def bX25_says_225 (E : gE) (N : Nat) (ρ0 : GS → Option Nat → Option ((Option Nat ⊕ Nat) × GS)) (ρ1 : GS → Option Nat → Option ((Option Nat ⊕ Nat) × GS)) (ρ2 : GS → Option Nat → Option ((Option Nat ⊕ Nat) × GS)) (ρ3 : GS → Option Nat → Option ((Option Nat ⊕ Nat) × GS)) (h0 : Nat) (S : GS) (t0 : Option Nat) (t1 : Option Nat) (t2 : Int32) (t3 : Int32) : Option ((Option Nat ⊕ Nat) × GS) :=
  grf t1 (fun b_5 =>
  gbd (fX29_init E N S b_5 t2 t3) (fun _ S_2 =>
  bX25_says_228 E N ρ0 ρ1 ρ2 ρ3 h0 S_2 t0))
noncomputable def bX25_says_211 (E : gE) (N : Nat) (ρ0 : GS → Option Nat → Option ((Option Nat ⊕ Nat) × GS)) (ρ1 : GS → Option Nat → Option ((Option Nat ⊕ Nat) × GS)) (ρ2 : GS → Option Nat → Option ((Option Nat ⊕ Nat) × GS)) (ρ3 : GS → Option Nat → Option ((Option Nat ⊕ Nat) × GS)) (h0 : Nat) (S : GS) (x5 : Int32) (t0 : Option Nat) : Option ((Option Nat ⊕ Nat) × GS) :=
  ggr S (some h0) 97 (fun v_1 =>
  ggr S v_1 25 (fun v_3 =>
  gbx (vInchBorders_SentenceReader_one__Ljava_util_ArrayList__I E N S (some h0) v_3) (fun r_5 S_6 =>
  bX25_says_225 E N ρ0 ρ1 ρ2 ρ3 h0 S_6 t0 t0 x5 r_5)))
noncomputable def bX25_says_157 (E : gE) (N : Nat) (ρ0 : GS → Option Nat → Option ((Option Nat ⊕ Nat) × GS)) (ρ1 : GS → Option Nat → Option ((Option Nat ⊕ Nat) × GS)) (ρ2 : GS → Option Nat → Option ((Option Nat ⊕ Nat) × GS)) (ρ3 : GS → Option Nat → Option ((Option Nat ⊕ Nat) × GS)) (h0 : Nat) (S : GS) (x1 : Int32) (x2 : Int32) (x3 : Int32) (x4 : Int32) (x5 : Int32) (x6 : Int32) : Option ((Option Nat ⊕ Nat) × GS) :=
  if x1 = 0 then
    if x2 = 0 then
      if x4 = 0 then
        if x5 = (-1 : Int32) then
          gbx (vInchBorders_SentenceReader_than__I_LInchBorders_Cond_ E N S (some h0) x6) (fun r_5 S_6 =>
          bX25_says_237 E N ρ0 ρ1 ρ2 ρ3 h0 S_6 r_5)
        else
          gnw S 21 (fun a_11 S_10 =>
          bX25_says_211 E N ρ0 ρ1 ρ2 ρ3 h0 S_10 x5 (some a_11))
      else
        gnw S 20 (fun a_13 S_12 =>
        bX25_says_194 E N ρ0 ρ1 ρ2 ρ3 h0 S_12 x3 (some a_13))
    else
      gnw S 19 (fun a_15 S_14 =>
      bX25_says_175 E N ρ0 ρ1 ρ2 ρ3 h0 S_14 (some a_15))
  else
    gbx (ρ1 S (some h0)) (fun r_16 S_17 =>
    bX25_says_165 E N ρ0 ρ1 ρ2 ρ3 h0 S_17 r_16)
noncomputable def bX25_says_133 (E : gE) (N : Nat) (ρ0 : GS → Option Nat → Option ((Option Nat ⊕ Nat) × GS)) (ρ1 : GS → Option Nat → Option ((Option Nat ⊕ Nat) × GS)) (ρ2 : GS → Option Nat → Option ((Option Nat ⊕ Nat) × GS)) (ρ3 : GS → Option Nat → Option ((Option Nat ⊕ Nat) × GS)) (h0 : Nat) (S : GS) (x1 : Int32) (x2 : Int32) (x3 : Int32) (x4 : Int32) (x5 : Int32) (x6 : Int32) : Option ((Option Nat ⊕ Nat) × GS) :=
  ggi S (some h0) 98 (fun v_1 =>
  gpv E S (some h0) 98 (.int (v_1 + (1 : Int32))) (fun S_3 =>
  ggi S_3 (some h0) 99 (fun v_5 =>
  gpv E S_3 (some h0) 99 (.int (v_5 + (1 : Int32))) (fun S_7 =>
  gbd (vInchBorders_SentenceReader_go___V E N S_7 (some h0)) (fun _ S_10 =>
  bX25_says_157 E N ρ0 ρ1 ρ2 ρ3 h0 S_10 x1 x2 x3 x4 x5 x6)))))
noncomputable def bX25_says_129 (E : gE) (N : Nat) (ρ0 : GS → Option Nat → Option ((Option Nat ⊕ Nat) × GS)) (ρ1 : GS → Option Nat → Option ((Option Nat ⊕ Nat) × GS)) (ρ2 : GS → Option Nat → Option ((Option Nat ⊕ Nat) × GS)) (ρ3 : GS → Option Nat → Option ((Option Nat ⊕ Nat) × GS)) (h0 : Nat) (S : GS) (x1 : Int32) (x2 : Int32) (x3 : Int32) (x4 : Int32) (x5 : Int32) (x6 : Int32) (t0 : Option Nat) (t1 : Int32) : Option ((Option Nat ⊕ Nat) × GS) :=
  gbx (vInchBorders_SentenceReader_need__ZI_V E N S t0 t1 (4 : Int32)) (fun _ S_2 =>
  bX25_says_133 E N ρ0 ρ1 ρ2 ρ3 h0 S_2 x1 x2 x3 x4 x5 x6)
noncomputable def bX25_says_128 (E : gE) (N : Nat) (ρ0 : GS → Option Nat → Option ((Option Nat ⊕ Nat) × GS)) (ρ1 : GS → Option Nat → Option ((Option Nat ⊕ Nat) × GS)) (ρ2 : GS → Option Nat → Option ((Option Nat ⊕ Nat) × GS)) (ρ3 : GS → Option Nat → Option ((Option Nat ⊕ Nat) × GS)) (h0 : Nat) (S : GS) (x1 : Int32) (x2 : Int32) (x3 : Int32) (x4 : Int32) (x5 : Int32) (x6 : Int32) (t0 : Option Nat) : Option ((Option Nat ⊕ Nat) × GS) :=
  bX25_says_129 E N ρ0 ρ1 ρ2 ρ3 h0 S x1 x2 x3 x4 x5 x6 t0 (0 : Int32)
noncomputable def bX25_says_105 (E : gE) (N : Nat) (ρ0 : GS → Option Nat → Option ((Option Nat ⊕ Nat) × GS)) (ρ1 : GS → Option Nat → Option ((Option Nat ⊕ Nat) × GS)) (ρ2 : GS → Option Nat → Option ((Option Nat ⊕ Nat) × GS)) (ρ3 : GS → Option Nat → Option ((Option Nat ⊕ Nat) × GS)) (h0 : Nat) (S : GS) (x1 : Int32) (x2 : Int32) (x3 : Int32) (x4 : Int32) (x5 : Int32) (x6 : Int32) : Option ((Option Nat ⊕ Nat) × GS) :=
  ggi S (some h0) 98 (fun v_1 =>
  if (20 : Int32) ≤ v_1 then
    bX25_says_128 E N ρ0 ρ1 ρ2 ρ3 h0 S x1 x2 x3 x4 x5 x6 (some h0)
  else
    ggi S (some h0) 99 (fun v_4 =>
    if (8 : Int32) ≤ v_4 then
      bX25_says_128 E N ρ0 ρ1 ρ2 ρ3 h0 S x1 x2 x3 x4 x5 x6 (some h0)
    else
      bX25_says_129 E N ρ0 ρ1 ρ2 ρ3 h0 S x1 x2 x3 x4 x5 x6 (some h0) (1 : Int32)))
noncomputable def bX25_says_101 (E : gE) (N : Nat) (ρ0 : GS → Option Nat → Option ((Option Nat ⊕ Nat) × GS)) (ρ1 : GS → Option Nat → Option ((Option Nat ⊕ Nat) × GS)) (ρ2 : GS → Option Nat → Option ((Option Nat ⊕ Nat) × GS)) (ρ3 : GS → Option Nat → Option ((Option Nat ⊕ Nat) × GS)) (h0 : Nat) (S : GS) (x1 : Int32) (x2 : Int32) (x3 : Int32) (x4 : Int32) (x5 : Int32) (x6 : Int32) (t0 : Option Nat) (t1 : Int32) : Option ((Option Nat ⊕ Nat) × GS) :=
  gbx (vInchBorders_SentenceReader_need__ZI_V E N S t0 t1 (1 : Int32)) (fun _ S_2 =>
  bX25_says_105 E N ρ0 ρ1 ρ2 ρ3 h0 S_2 x1 x2 x3 x4 x5 x6)
noncomputable def bX25_says_96 (E : gE) (N : Nat) (ρ0 : GS → Option Nat → Option ((Option Nat ⊕ Nat) × GS)) (ρ1 : GS → Option Nat → Option ((Option Nat ⊕ Nat) × GS)) (ρ2 : GS → Option Nat → Option ((Option Nat ⊕ Nat) × GS)) (ρ3 : GS → Option Nat → Option ((Option Nat ⊕ Nat) × GS)) (h0 : Nat) (S : GS) (x1 : Int32) (x2 : Int32) (x3 : Int32) (x4 : Int32) (x5 : Int32) (x6 : Int32) (t0 : Option Nat) : Option ((Option Nat ⊕ Nat) × GS) :=
  bX25_says_101 E N ρ0 ρ1 ρ2 ρ3 h0 S x1 x2 x3 x4 x5 x6 t0 (1 : Int32)
noncomputable def bX25_says_68 (E : gE) (N : Nat) (ρ0 : GS → Option Nat → Option ((Option Nat ⊕ Nat) × GS)) (ρ1 : GS → Option Nat → Option ((Option Nat ⊕ Nat) × GS)) (ρ2 : GS → Option Nat → Option ((Option Nat ⊕ Nat) × GS)) (ρ3 : GS → Option Nat → Option ((Option Nat ⊕ Nat) × GS)) (h0 : Nat) (S : GS) (x1 : Int32) (x2 : Int32) (x3 : Int32) (x4 : Int32) (x5 : Int32) (t0 : Int32) : Option ((Option Nat ⊕ Nat) × GS) :=
  if x1 = 0 then
    if x2 = 0 then
      if x4 = 0 then
        if x5 = (-1 : Int32) then
          if t0 = (-1 : Int32) then
            bX25_says_101 E N ρ0 ρ1 ρ2 ρ3 h0 S x1 x2 x3 x4 x5 t0 (some h0) (0 : Int32)
          else
            bX25_says_96 E N ρ0 ρ1 ρ2 ρ3 h0 S x1 x2 x3 x4 x5 t0 (some h0)
        else
          bX25_says_96 E N ρ0 ρ1 ρ2 ρ3 h0 S x1 x2 x3 x4 x5 t0 (some h0)
      else
        bX25_says_96 E N ρ0 ρ1 ρ2 ρ3 h0 S x1 x2 x3 x4 x5 t0 (some h0)
    else
      bX25_says_96 E N ρ0 ρ1 ρ2 ρ3 h0 S x1 x2 x3 x4 x5 t0 (some h0)
  else
    bX25_says_96 E N ρ0 ρ1 ρ2 ρ3 h0 S x1 x2 x3 x4 x5 t0 (some h0)
noncomputable def bX25_says_62 (E : gE) (N : Nat) (ρ0 : GS → Option Nat → Option ((Option Nat ⊕ Nat) × GS)) (ρ1 : GS → Option Nat → Option ((Option Nat ⊕ Nat) × GS)) (ρ2 : GS → Option Nat → Option ((Option Nat ⊕ Nat) × GS)) (ρ3 : GS → Option Nat → Option ((Option Nat ⊕ Nat) × GS)) (h0 : Nat) (S : GS) (x1 : Int32) (x2 : Int32) (x3 : Int32) (x4 : Int32) (t0 : Int32) : Option ((Option Nat ⊕ Nat) × GS) :=
  gbd (vInchBorders_SentenceReader_numbered___I E N S (some h0)) (fun r_1 S_2 =>
  bX25_says_68 E N ρ0 ρ1 ρ2 ρ3 h0 S_2 x1 x2 x3 x4 t0 r_1)
noncomputable def bX25_says_56 (E : gE) (N : Nat) (ρ0 : GS → Option Nat → Option ((Option Nat ⊕ Nat) × GS)) (ρ1 : GS → Option Nat → Option ((Option Nat ⊕ Nat) × GS)) (ρ2 : GS → Option Nat → Option ((Option Nat ⊕ Nat) × GS)) (ρ3 : GS → Option Nat → Option ((Option Nat ⊕ Nat) × GS)) (h0 : Nat) (S : GS) (x1 : Int32) (x2 : Int32) (x3 : Int32) (t0 : Int32) : Option ((Option Nat ⊕ Nat) × GS) :=
  gbd (vInchBorders_SentenceReader_named___I E N S (some h0)) (fun r_1 S_2 =>
  bX25_says_62 E N ρ0 ρ1 ρ2 ρ3 h0 S_2 x1 x2 x3 t0 r_1)
noncomputable def bX25_says_51 (E : gE) (N : Nat) (ρ0 : GS → Option Nat → Option ((Option Nat ⊕ Nat) × GS)) (ρ1 : GS → Option Nat → Option ((Option Nat ⊕ Nat) × GS)) (ρ2 : GS → Option Nat → Option ((Option Nat ⊕ Nat) × GS)) (ρ3 : GS → Option Nat → Option ((Option Nat ⊕ Nat) × GS)) (h0 : Nat) (S : GS) (x1 : Int32) (x2 : Int32) (x3 : Int32) : Option ((Option Nat ⊕ Nat) × GS) :=
  bX25_says_56 E N ρ0 ρ1 ρ2 ρ3 h0 S x1 x2 x3 (1 : Int32)
noncomputable def bX25_says_48 (E : gE) (N : Nat) (ρ0 : GS → Option Nat → Option ((Option Nat ⊕ Nat) × GS)) (ρ1 : GS → Option Nat → Option ((Option Nat ⊕ Nat) × GS)) (ρ2 : GS → Option Nat → Option ((Option Nat ⊕ Nat) × GS)) (ρ3 : GS → Option Nat → Option ((Option Nat ⊕ Nat) × GS)) (h0 : Nat) (S : GS) (x1 : Int32) (x2 : Int32) (x3 : Int32) (t0 : Int32) : Option ((Option Nat ⊕ Nat) × GS) :=
  if t0 = 0 then
    bX25_says_56 E N ρ0 ρ1 ρ2 ρ3 h0 S x1 x2 x3 (0 : Int32)
  else
    bX25_says_51 E N ρ0 ρ1 ρ2 ρ3 h0 S x1 x2 x3
noncomputable def bX25_says_37 (E : gE) (N : Nat) (ρ0 : GS → Option Nat → Option ((Option Nat ⊕ Nat) × GS)) (ρ1 : GS → Option Nat → Option ((Option Nat ⊕ Nat) × GS)) (ρ2 : GS → Option Nat → Option ((Option Nat ⊕ Nat) × GS)) (ρ3 : GS → Option Nat → Option ((Option Nat ⊕ Nat) × GS)) (h0 : Nat) (S : GS) (x1 : Int32) (x2 : Int32) (t0 : Int32) : Option ((Option Nat ⊕ Nat) × GS) :=
  if t0 = 0 then
    gbd (vInchBorders_SentenceReader_is__Ljava_lang_String__Z E N S (some h0) (some (E.2.1 13))) (fun r_2 S_3 =>
    bX25_says_48 E N ρ0 ρ1 ρ2 ρ3 h0 S_3 x1 x2 t0 r_2)
  else
    bX25_says_51 E N ρ0 ρ1 ρ2 ρ3 h0 S x1 x2 t0
noncomputable def bX25_says_30 (E : gE) (N : Nat) (ρ0 : GS → Option Nat → Option ((Option Nat ⊕ Nat) × GS)) (ρ1 : GS → Option Nat → Option ((Option Nat ⊕ Nat) × GS)) (ρ2 : GS → Option Nat → Option ((Option Nat ⊕ Nat) × GS)) (ρ3 : GS → Option Nat → Option ((Option Nat ⊕ Nat) × GS)) (h0 : Nat) (S : GS) (x1 : Int32) (t0 : Int32) : Option ((Option Nat ⊕ Nat) × GS) :=
  gbd (vInchBorders_SentenceReader_is__Ljava_lang_String__Z E N S (some h0) (some (E.2.1 12))) (fun r_1 S_2 =>
  bX25_says_37 E N ρ0 ρ1 ρ2 ρ3 h0 S_2 x1 t0 r_1)
noncomputable def bX25_says_23 (E : gE) (N : Nat) (ρ0 : GS → Option Nat → Option ((Option Nat ⊕ Nat) × GS)) (ρ1 : GS → Option Nat → Option ((Option Nat ⊕ Nat) × GS)) (ρ2 : GS → Option Nat → Option ((Option Nat ⊕ Nat) × GS)) (ρ3 : GS → Option Nat → Option ((Option Nat ⊕ Nat) × GS)) (h0 : Nat) (S : GS) (t0 : Int32) : Option ((Option Nat ⊕ Nat) × GS) :=
  gbd (vInchBorders_SentenceReader_is__Ljava_lang_String__Z E N S (some h0) (some (E.2.1 11))) (fun r_1 S_2 =>
  bX25_says_30 E N ρ0 ρ1 ρ2 ρ3 h0 S_2 t0 r_1)
noncomputable def bX25_says_22 (E : gE) (N : Nat) (ρ0 : GS → Option Nat → Option ((Option Nat ⊕ Nat) × GS)) (ρ1 : GS → Option Nat → Option ((Option Nat ⊕ Nat) × GS)) (ρ2 : GS → Option Nat → Option ((Option Nat ⊕ Nat) × GS)) (ρ3 : GS → Option Nat → Option ((Option Nat ⊕ Nat) × GS)) (h0 : Nat) (S : GS) : Option ((Option Nat ⊕ Nat) × GS) :=
  bX25_says_23 E N ρ0 ρ1 ρ2 ρ3 h0 S (0 : Int32)
noncomputable def bX25_says_0 (E : gE) (N : Nat) (ρ0 : GS → Option Nat → Option ((Option Nat ⊕ Nat) × GS)) (ρ1 : GS → Option Nat → Option ((Option Nat ⊕ Nat) × GS)) (ρ2 : GS → Option Nat → Option ((Option Nat ⊕ Nat) × GS)) (ρ3 : GS → Option Nat → Option ((Option Nat ⊕ Nat) × GS)) (h0 : Nat) (S : GS) : Option ((Option Nat ⊕ Nat) × GS) :=
  ggi S (some h0) 47 (fun v_1 =>
  if v_1 = (6 : Int32) then
    ggi S (some h0) 50 (fun v_4 =>
    if v_4 = (40 : Int32) then
      bX25_says_23 E N ρ0 ρ1 ρ2 ρ3 h0 S (1 : Int32)
    else
      bX25_says_22 E N ρ0 ρ1 ρ2 ρ3 h0 S)
  else
    bX25_says_22 E N ρ0 ρ1 ρ2 ρ3 h0 S)
noncomputable def fX25_says (E : gE) (N : Nat) (ρ0 : GS → Option Nat → Option ((Option Nat ⊕ Nat) × GS)) (ρ1 : GS → Option Nat → Option ((Option Nat ⊕ Nat) × GS)) (ρ2 : GS → Option Nat → Option ((Option Nat ⊕ Nat) × GS)) (ρ3 : GS → Option Nat → Option ((Option Nat ⊕ Nat) × GS)) (S : GS) (h0 : Nat) : Option ((Option Nat ⊕ Nat) × GS) := bX25_says_0 E N ρ0 ρ1 ρ2 ρ3 h0 S
/-! InchBorders$SentenceReader.and()LInchBorders$Cond; -/
abbrev rX25_and (fr lo mc ms : Nat) : Room := { frames := fr + 1 + 10, cells := mc, slots := ms, locals := lo + 19 + 221 }
noncomputable def bX25_and_31 (E : gE) (N : Nat) (ρ0 : GS → Option Nat → Option ((Option Nat ⊕ Nat) × GS)) (ρ1 : GS → Option Nat → Option ((Option Nat ⊕ Nat) × GS)) (ρ2 : GS → Option Nat → Option ((Option Nat ⊕ Nat) × GS)) (ρ3 : GS → Option Nat → Option ((Option Nat ⊕ Nat) × GS)) (h0 : Nat) (K5 : GS → (Option Nat) → Option ((Option Nat ⊕ Nat) × GS)) (S : GS) (t0 : Option Nat) : Option ((Option Nat ⊕ Nat) × GS) :=
  K5 S t0
noncomputable def bX25_and_27 (E : gE) (N : Nat) (ρ0 : GS → Option Nat → Option ((Option Nat ⊕ Nat) × GS)) (ρ1 : GS → Option Nat → Option ((Option Nat ⊕ Nat) × GS)) (ρ2 : GS → Option Nat → Option ((Option Nat ⊕ Nat) × GS)) (ρ3 : GS → Option Nat → Option ((Option Nat ⊕ Nat) × GS)) (h0 : Nat) (K5 : GS → (Option Nat) → Option ((Option Nat ⊕ Nat) × GS)) (S : GS) (t0 : Option Nat) (t1 : Option Nat) (t2 : Option Nat) (t3 : Option Nat) : Option ((Option Nat ⊕ Nat) × GS) :=
  grf t1 (fun b_5 =>
  gbd (fX31_init E N S b_5 t2 t3 (1 : Int32)) (fun _ S_2 =>
  bX25_and_31 E N ρ0 ρ1 ρ2 ρ3 h0 K5 S_2 t0))
noncomputable def bX25_and_21 (E : gE) (N : Nat) (ρ0 : GS → Option Nat → Option ((Option Nat ⊕ Nat) × GS)) (ρ1 : GS → Option Nat → Option ((Option Nat ⊕ Nat) × GS)) (ρ2 : GS → Option Nat → Option ((Option Nat ⊕ Nat) × GS)) (ρ3 : GS → Option Nat → Option ((Option Nat ⊕ Nat) × GS)) (h0 : Nat) (K5 : GS → (Option Nat) → Option ((Option Nat ⊕ Nat) × GS)) (S : GS) (x1 : Option Nat) (t0 : Option Nat) : Option ((Option Nat ⊕ Nat) × GS) :=
  gbx (ρ2 S (some h0)) (fun r_1 S_2 =>
  bX25_and_27 E N ρ0 ρ1 ρ2 ρ3 h0 K5 S_2 t0 t0 x1 r_1)
noncomputable def bX25_and_18 (E : gE) (N : Nat) (ρ0 : GS → Option Nat → Option ((Option Nat ⊕ Nat) × GS)) (ρ1 : GS → Option Nat → Option ((Option Nat ⊕ Nat) × GS)) (ρ2 : GS → Option Nat → Option ((Option Nat ⊕ Nat) × GS)) (ρ3 : GS → Option Nat → Option ((Option Nat ⊕ Nat) × GS)) (h0 : Nat) (K5 : GS → (Option Nat) → Option ((Option Nat ⊕ Nat) × GS)) (S : GS) (x1 : Option Nat) : Option ((Option Nat ⊕ Nat) × GS) :=
  gnw S 23 (fun a_2 S_1 =>
  bX25_and_21 E N ρ0 ρ1 ρ2 ρ3 h0 K5 S_1 x1 (some a_2))
noncomputable def bX25_and_11 (E : gE) (N : Nat) (ρ0 : GS → Option Nat → Option ((Option Nat ⊕ Nat) × GS)) (ρ1 : GS → Option Nat → Option ((Option Nat ⊕ Nat) × GS)) (ρ2 : GS → Option Nat → Option ((Option Nat ⊕ Nat) × GS)) (ρ3 : GS → Option Nat → Option ((Option Nat ⊕ Nat) × GS)) (h0 : Nat) (K5 : GS → (Option Nat) → Option ((Option Nat ⊕ Nat) × GS)) (S : GS) (x1 : Option Nat) (t0 : Int32) : Option ((Option Nat ⊕ Nat) × GS) :=
  if t0 = 0 then
    some (Sum.inl x1, S)
  else
    gbd (vInchBorders_SentenceReader_go___V E N S (some h0)) (fun _ S_3 =>
    bX25_and_18 E N ρ0 ρ1 ρ2 ρ3 h0 K5 S_3 x1)
noncomputable def bX25_and_5 (E : gE) (N : Nat) (ρ0 : GS → Option Nat → Option ((Option Nat ⊕ Nat) × GS)) (ρ1 : GS → Option Nat → Option ((Option Nat ⊕ Nat) × GS)) (ρ2 : GS → Option Nat → Option ((Option Nat ⊕ Nat) × GS)) (ρ3 : GS → Option Nat → Option ((Option Nat ⊕ Nat) × GS)) (h0 : Nat) (K5 : GS → (Option Nat) → Option ((Option Nat ⊕ Nat) × GS)) (S : GS) (x1 : Option Nat) : Option ((Option Nat ⊕ Nat) × GS) :=
  gbd (vInchBorders_SentenceReader_is__Ljava_lang_String__Z E N S (some h0) (some (E.2.1 21))) (fun r_1 S_2 =>
  bX25_and_11 E N ρ0 ρ1 ρ2 ρ3 h0 K5 S_2 x1 r_1)
noncomputable def bX25_and_5L (E : gE) (N : Nat) (ρ0 : GS → Option Nat → Option ((Option Nat ⊕ Nat) × GS)) (ρ1 : GS → Option Nat → Option ((Option Nat ⊕ Nat) × GS)) (ρ2 : GS → Option Nat → Option ((Option Nat ⊕ Nat) × GS)) (ρ3 : GS → Option Nat → Option ((Option Nat ⊕ Nat) × GS)) (h0 : Nat) : Nat → GS → (Option Nat) → Option ((Option Nat ⊕ Nat) × GS)
  | 0 => fun _ _ => none
  | n + 1 => bX25_and_5 E N ρ0 ρ1 ρ2 ρ3 h0 (bX25_and_5L E N ρ0 ρ1 ρ2 ρ3 h0 n)
noncomputable def bX25_and_4 (E : gE) (N : Nat) (ρ0 : GS → Option Nat → Option ((Option Nat ⊕ Nat) × GS)) (ρ1 : GS → Option Nat → Option ((Option Nat ⊕ Nat) × GS)) (ρ2 : GS → Option Nat → Option ((Option Nat ⊕ Nat) × GS)) (ρ3 : GS → Option Nat → Option ((Option Nat ⊕ Nat) × GS)) (h0 : Nat) (S : GS) (t0 : Option Nat) : Option ((Option Nat ⊕ Nat) × GS) :=
  bX25_and_5L E N ρ0 ρ1 ρ2 ρ3 h0 N S t0
noncomputable def bX25_and_0 (E : gE) (N : Nat) (ρ0 : GS → Option Nat → Option ((Option Nat ⊕ Nat) × GS)) (ρ1 : GS → Option Nat → Option ((Option Nat ⊕ Nat) × GS)) (ρ2 : GS → Option Nat → Option ((Option Nat ⊕ Nat) × GS)) (ρ3 : GS → Option Nat → Option ((Option Nat ⊕ Nat) × GS)) (h0 : Nat) (S : GS) : Option ((Option Nat ⊕ Nat) × GS) :=
  gbx (ρ2 S (some h0)) (fun r_1 S_2 =>
  bX25_and_4 E N ρ0 ρ1 ρ2 ρ3 h0 S_2 r_1)
noncomputable def fX25_and (E : gE) (N : Nat) (ρ0 : GS → Option Nat → Option ((Option Nat ⊕ Nat) × GS)) (ρ1 : GS → Option Nat → Option ((Option Nat ⊕ Nat) × GS)) (ρ2 : GS → Option Nat → Option ((Option Nat ⊕ Nat) × GS)) (ρ3 : GS → Option Nat → Option ((Option Nat ⊕ Nat) × GS)) (S : GS) (h0 : Nat) : Option ((Option Nat ⊕ Nat) × GS) := bX25_and_0 E N ρ0 ρ1 ρ2 ρ3 h0 S
/-! InchBorders$SentenceReader.or()LInchBorders$Cond; -/
abbrev rX25_or (fr lo mc ms : Nat) : Room := { frames := fr + 1 + 10, cells := mc, slots := ms, locals := lo + 19 + 221 }
noncomputable def bX25_or_31 (E : gE) (N : Nat) (ρ0 : GS → Option Nat → Option ((Option Nat ⊕ Nat) × GS)) (ρ1 : GS → Option Nat → Option ((Option Nat ⊕ Nat) × GS)) (ρ2 : GS → Option Nat → Option ((Option Nat ⊕ Nat) × GS)) (ρ3 : GS → Option Nat → Option ((Option Nat ⊕ Nat) × GS)) (h0 : Nat) (K5 : GS → (Option Nat) → Option ((Option Nat ⊕ Nat) × GS)) (S : GS) (t0 : Option Nat) : Option ((Option Nat ⊕ Nat) × GS) :=
  K5 S t0
noncomputable def bX25_or_27 (E : gE) (N : Nat) (ρ0 : GS → Option Nat → Option ((Option Nat ⊕ Nat) × GS)) (ρ1 : GS → Option Nat → Option ((Option Nat ⊕ Nat) × GS)) (ρ2 : GS → Option Nat → Option ((Option Nat ⊕ Nat) × GS)) (ρ3 : GS → Option Nat → Option ((Option Nat ⊕ Nat) × GS)) (h0 : Nat) (K5 : GS → (Option Nat) → Option ((Option Nat ⊕ Nat) × GS)) (S : GS) (t0 : Option Nat) (t1 : Option Nat) (t2 : Option Nat) (t3 : Option Nat) : Option ((Option Nat ⊕ Nat) × GS) :=
  grf t1 (fun b_5 =>
  gbd (fX31_init E N S b_5 t2 t3 (0 : Int32)) (fun _ S_2 =>
  bX25_or_31 E N ρ0 ρ1 ρ2 ρ3 h0 K5 S_2 t0))
noncomputable def bX25_or_21 (E : gE) (N : Nat) (ρ0 : GS → Option Nat → Option ((Option Nat ⊕ Nat) × GS)) (ρ1 : GS → Option Nat → Option ((Option Nat ⊕ Nat) × GS)) (ρ2 : GS → Option Nat → Option ((Option Nat ⊕ Nat) × GS)) (ρ3 : GS → Option Nat → Option ((Option Nat ⊕ Nat) × GS)) (h0 : Nat) (K5 : GS → (Option Nat) → Option ((Option Nat ⊕ Nat) × GS)) (S : GS) (x1 : Option Nat) (t0 : Option Nat) : Option ((Option Nat ⊕ Nat) × GS) :=
  gbx (ρ3 S (some h0)) (fun r_1 S_2 =>
  bX25_or_27 E N ρ0 ρ1 ρ2 ρ3 h0 K5 S_2 t0 t0 x1 r_1)
noncomputable def bX25_or_18 (E : gE) (N : Nat) (ρ0 : GS → Option Nat → Option ((Option Nat ⊕ Nat) × GS)) (ρ1 : GS → Option Nat → Option ((Option Nat ⊕ Nat) × GS)) (ρ2 : GS → Option Nat → Option ((Option Nat ⊕ Nat) × GS)) (ρ3 : GS → Option Nat → Option ((Option Nat ⊕ Nat) × GS)) (h0 : Nat) (K5 : GS → (Option Nat) → Option ((Option Nat ⊕ Nat) × GS)) (S : GS) (x1 : Option Nat) : Option ((Option Nat ⊕ Nat) × GS) :=
  gnw S 23 (fun a_2 S_1 =>
  bX25_or_21 E N ρ0 ρ1 ρ2 ρ3 h0 K5 S_1 x1 (some a_2))
noncomputable def bX25_or_11 (E : gE) (N : Nat) (ρ0 : GS → Option Nat → Option ((Option Nat ⊕ Nat) × GS)) (ρ1 : GS → Option Nat → Option ((Option Nat ⊕ Nat) × GS)) (ρ2 : GS → Option Nat → Option ((Option Nat ⊕ Nat) × GS)) (ρ3 : GS → Option Nat → Option ((Option Nat ⊕ Nat) × GS)) (h0 : Nat) (K5 : GS → (Option Nat) → Option ((Option Nat ⊕ Nat) × GS)) (S : GS) (x1 : Option Nat) (t0 : Int32) : Option ((Option Nat ⊕ Nat) × GS) :=
  if t0 = 0 then
    some (Sum.inl x1, S)
  else
    gbd (vInchBorders_SentenceReader_go___V E N S (some h0)) (fun _ S_3 =>
    bX25_or_18 E N ρ0 ρ1 ρ2 ρ3 h0 K5 S_3 x1)
noncomputable def bX25_or_5 (E : gE) (N : Nat) (ρ0 : GS → Option Nat → Option ((Option Nat ⊕ Nat) × GS)) (ρ1 : GS → Option Nat → Option ((Option Nat ⊕ Nat) × GS)) (ρ2 : GS → Option Nat → Option ((Option Nat ⊕ Nat) × GS)) (ρ3 : GS → Option Nat → Option ((Option Nat ⊕ Nat) × GS)) (h0 : Nat) (K5 : GS → (Option Nat) → Option ((Option Nat ⊕ Nat) × GS)) (S : GS) (x1 : Option Nat) : Option ((Option Nat ⊕ Nat) × GS) :=
  gbd (vInchBorders_SentenceReader_is__Ljava_lang_String__Z E N S (some h0) (some (E.2.1 22))) (fun r_1 S_2 =>
  bX25_or_11 E N ρ0 ρ1 ρ2 ρ3 h0 K5 S_2 x1 r_1)
noncomputable def bX25_or_5L (E : gE) (N : Nat) (ρ0 : GS → Option Nat → Option ((Option Nat ⊕ Nat) × GS)) (ρ1 : GS → Option Nat → Option ((Option Nat ⊕ Nat) × GS)) (ρ2 : GS → Option Nat → Option ((Option Nat ⊕ Nat) × GS)) (ρ3 : GS → Option Nat → Option ((Option Nat ⊕ Nat) × GS)) (h0 : Nat) : Nat → GS → (Option Nat) → Option ((Option Nat ⊕ Nat) × GS)
  | 0 => fun _ _ => none
  | n + 1 => bX25_or_5 E N ρ0 ρ1 ρ2 ρ3 h0 (bX25_or_5L E N ρ0 ρ1 ρ2 ρ3 h0 n)
noncomputable def bX25_or_4 (E : gE) (N : Nat) (ρ0 : GS → Option Nat → Option ((Option Nat ⊕ Nat) × GS)) (ρ1 : GS → Option Nat → Option ((Option Nat ⊕ Nat) × GS)) (ρ2 : GS → Option Nat → Option ((Option Nat ⊕ Nat) × GS)) (ρ3 : GS → Option Nat → Option ((Option Nat ⊕ Nat) × GS)) (h0 : Nat) (S : GS) (t0 : Option Nat) : Option ((Option Nat ⊕ Nat) × GS) :=
  bX25_or_5L E N ρ0 ρ1 ρ2 ρ3 h0 N S t0
noncomputable def bX25_or_0 (E : gE) (N : Nat) (ρ0 : GS → Option Nat → Option ((Option Nat ⊕ Nat) × GS)) (ρ1 : GS → Option Nat → Option ((Option Nat ⊕ Nat) × GS)) (ρ2 : GS → Option Nat → Option ((Option Nat ⊕ Nat) × GS)) (ρ3 : GS → Option Nat → Option ((Option Nat ⊕ Nat) × GS)) (h0 : Nat) (S : GS) : Option ((Option Nat ⊕ Nat) × GS) :=
  gbx (ρ3 S (some h0)) (fun r_1 S_2 =>
  bX25_or_4 E N ρ0 ρ1 ρ2 ρ3 h0 S_2 r_1)
noncomputable def fX25_or (E : gE) (N : Nat) (ρ0 : GS → Option Nat → Option ((Option Nat ⊕ Nat) × GS)) (ρ1 : GS → Option Nat → Option ((Option Nat ⊕ Nat) × GS)) (ρ2 : GS → Option Nat → Option ((Option Nat ⊕ Nat) × GS)) (ρ3 : GS → Option Nat → Option ((Option Nat ⊕ Nat) × GS)) (S : GS) (h0 : Nat) : Option ((Option Nat ⊕ Nat) × GS) := bX25_or_0 E N ρ0 ρ1 ρ2 ρ3 h0 S
noncomputable def vbInchBorders_SentenceReader_or___LInchBorders_Cond_ (E : gE) (N : Nat) (ρ0 : GS → Option Nat → Option ((Option Nat ⊕ Nat) × GS)) (ρ1 : GS → Option Nat → Option ((Option Nat ⊕ Nat) × GS)) (ρ2 : GS → Option Nat → Option ((Option Nat ⊕ Nat) × GS)) (ρ3 : GS → Option Nat → Option ((Option Nat ⊕ Nat) × GS)) : GS → Option Nat → Option ((Option Nat ⊕ Nat) × GS) := fun S r => gvd S r (fun b ci =>
  if ci = 18 then fX25_or E N ρ0 ρ1 ρ2 ρ3 S b else
  none)
noncomputable def vbInchBorders_SentenceReader_bracket___LInchBorders_Cond_ (E : gE) (N : Nat) (ρ0 : GS → Option Nat → Option ((Option Nat ⊕ Nat) × GS)) (ρ1 : GS → Option Nat → Option ((Option Nat ⊕ Nat) × GS)) (ρ2 : GS → Option Nat → Option ((Option Nat ⊕ Nat) × GS)) (ρ3 : GS → Option Nat → Option ((Option Nat ⊕ Nat) × GS)) : GS → Option Nat → Option ((Option Nat ⊕ Nat) × GS) := fun S r => gvd S r (fun b ci =>
  if ci = 18 then fX25_bracket E N ρ0 ρ1 ρ2 ρ3 S b else
  none)
noncomputable def vbInchBorders_SentenceReader_says___LInchBorders_Cond_ (E : gE) (N : Nat) (ρ0 : GS → Option Nat → Option ((Option Nat ⊕ Nat) × GS)) (ρ1 : GS → Option Nat → Option ((Option Nat ⊕ Nat) × GS)) (ρ2 : GS → Option Nat → Option ((Option Nat ⊕ Nat) × GS)) (ρ3 : GS → Option Nat → Option ((Option Nat ⊕ Nat) × GS)) : GS → Option Nat → Option ((Option Nat ⊕ Nat) × GS) := fun S r => gvd S r (fun b ci =>
  if ci = 18 then fX25_says E N ρ0 ρ1 ρ2 ρ3 S b else
  none)
noncomputable def vbInchBorders_SentenceReader_and___LInchBorders_Cond_ (E : gE) (N : Nat) (ρ0 : GS → Option Nat → Option ((Option Nat ⊕ Nat) × GS)) (ρ1 : GS → Option Nat → Option ((Option Nat ⊕ Nat) × GS)) (ρ2 : GS → Option Nat → Option ((Option Nat ⊕ Nat) × GS)) (ρ3 : GS → Option Nat → Option ((Option Nat ⊕ Nat) × GS)) : GS → Option Nat → Option ((Option Nat ⊕ Nat) × GS) := fun S r => gvd S r (fun b ci =>
  if ci = 18 then fX25_and E N ρ0 ρ1 ρ2 ρ3 S b else
  none)
noncomputable def zX25_bracket (E : gE) (N : Nat) : Nat → (GS → Option Nat → Option ((Option Nat ⊕ Nat) × GS)) × (GS → Option Nat → Option ((Option Nat ⊕ Nat) × GS)) × (GS → Option Nat → Option ((Option Nat ⊕ Nat) × GS)) × (GS → Option Nat → Option ((Option Nat ⊕ Nat) × GS))
  | 0 => (fun _ _ => none, fun _ _ => none, fun _ _ => none, fun _ _ => none)
  | d + 1 => (vbInchBorders_SentenceReader_or___LInchBorders_Cond_ E N (zX25_bracket E N d).1 (zX25_bracket E N d).2.1 (zX25_bracket E N d).2.2.1 (zX25_bracket E N d).2.2.2, vbInchBorders_SentenceReader_bracket___LInchBorders_Cond_ E N (zX25_bracket E N d).1 (zX25_bracket E N d).2.1 (zX25_bracket E N d).2.2.1 (zX25_bracket E N d).2.2.2, vbInchBorders_SentenceReader_says___LInchBorders_Cond_ E N (zX25_bracket E N d).1 (zX25_bracket E N d).2.1 (zX25_bracket E N d).2.2.1 (zX25_bracket E N d).2.2.2, vbInchBorders_SentenceReader_and___LInchBorders_Cond_ E N (zX25_bracket E N d).1 (zX25_bracket E N d).2.1 (zX25_bracket E N d).2.2.1 (zX25_bracket E N d).2.2.2)
noncomputable def vInchBorders_SentenceReader_or___LInchBorders_Cond_ (E : gE) (N : Nat) (S : GS) (r : Option Nat) : Option ((Option Nat ⊕ Nat) × GS) := (zX25_bracket E N 64).1 S r
noncomputable def vInchBorders_SentenceReader_bracket___LInchBorders_Cond_ (E : gE) (N : Nat) (S : GS) (r : Option Nat) : Option ((Option Nat ⊕ Nat) × GS) := (zX25_bracket E N 64).2.1 S r
noncomputable def vInchBorders_SentenceReader_says___LInchBorders_Cond_ (E : gE) (N : Nat) (S : GS) (r : Option Nat) : Option ((Option Nat ⊕ Nat) × GS) := (zX25_bracket E N 64).2.2.1 S r
noncomputable def vInchBorders_SentenceReader_and___LInchBorders_Cond_ (E : gE) (N : Nat) (S : GS) (r : Option Nat) : Option ((Option Nat ⊕ Nat) × GS) := (zX25_bracket E N 64).2.2.2 S r
/-! InchBorders$SentenceReader.read()LInchBorders$Cond; -/
abbrev rX25_read (mc ms : Nat) : Room := { frames := 705, cells := mc, slots := ms, locals := 15891 }
noncomputable def bX25_read_26 (E : gE) (N : Nat) (h0 : Nat) (S : GS) (x1 : Option Nat) : Option ((Option Nat ⊕ Nat) × GS) :=
  some (Sum.inl x1, S)
noncomputable def bX25_read_22 (E : gE) (N : Nat) (h0 : Nat) (S : GS) (x1 : Option Nat) (t0 : Option Nat) (t1 : Int32) : Option ((Option Nat ⊕ Nat) × GS) :=
  gbx (vInchBorders_SentenceReader_need__ZI_V E N S t0 t1 (1 : Int32)) (fun _ S_2 =>
  bX25_read_26 E N h0 S_2 x1)
noncomputable def bX25_read_8 (E : gE) (N : Nat) (h0 : Nat) (S : GS) (t0 : Option Nat) : Option ((Option Nat ⊕ Nat) × GS) :=
  ggi S (some h0) 47 (fun v_1 =>
  if v_1 = 0 then
    bX25_read_22 E N h0 S t0 (some h0) (1 : Int32)
  else
    bX25_read_22 E N h0 S t0 (some h0) (0 : Int32))
noncomputable def bX25_read_4 (E : gE) (N : Nat) (h0 : Nat) (S : GS) : Option ((Option Nat ⊕ Nat) × GS) :=
  gbx (vInchBorders_SentenceReader_or___LInchBorders_Cond_ E N S (some h0)) (fun r_1 S_2 =>
  bX25_read_8 E N h0 S_2 r_1)
noncomputable def bX25_read_0 (E : gE) (N : Nat) (h0 : Nat) (S : GS) : Option ((Option Nat ⊕ Nat) × GS) :=
  gbd (vInchBorders_SentenceReader_go___V E N S (some h0)) (fun _ S_2 =>
  bX25_read_4 E N h0 S_2)
noncomputable def fX25_read (E : gE) (N : Nat) (S : GS) (h0 : Nat) : Option ((Option Nat ⊕ Nat) × GS) := bX25_read_0 E N h0 S
/-! InchBorders$Atlas.isRoad(I)Z -/
abbrev rX2_isRoad : Room := { frames := 1, cells := 0, slots := 0, locals := 22 }
noncomputable def bX2_isRoad_0 (E : gE) (N : Nat) (h0 : Nat) (S : GS) (x1 : Int32) : Option (Int32 × GS) :=
  ggr S (some h0) 26 (fun v_1 =>
  gbd (vjava_util_ArrayList_size___I E N S v_1) (fun r_3 S_4 =>
  gbd (fX1_isIn E N S_4 x1 (0 : Int32) (r_3 - (1 : Int32))) (fun r_7 S_8 =>
  mzt r_7 (some (r_7, S_8)))))
noncomputable def fX2_isRoad (E : gE) (N : Nat) (S : GS) (h0 : Nat) (x1 : Int32) : Option (Int32 × GS) := bX2_isRoad_0 E N h0 S x1
noncomputable def vInchBorders_Atlas_isRoad__I_Z (E : gE) (N : Nat) (S : GS) (r : Option Nat) (y0 : Int32) : Option (Int32 × GS) := gvd S r (fun b ci =>
  if ci = 1 then fX2_isRoad E N S b y0 else
  none)
/-! InchBorders$Closes.does(LInchBorders$Times;)I -/
abbrev rX15_does : Room := { frames := 2, cells := 0, slots := 0, locals := 43 }
noncomputable def bX15_does_76 (E : gE) (N : Nat) (h0 : Nat) (S : GS) (t0 : Int32) (t1 : Int32) : Option (Int32 × GS) :=
  gbd (fX13_told E N S t0 t1) (fun r_1 S_2 =>
  some (r_1, S_2))
noncomputable def bX15_does_61 (E : gE) (N : Nat) (h0 : Nat) (S : GS) (x2 : Int32) : Option (Int32 × GS) :=
  ggi S (some h0) 76 (fun v_1 =>
  if v_1 = 0 then
    bX15_does_76 E N h0 S x2 (40 : Int32)
  else
    bX15_does_76 E N h0 S x2 (30 : Int32))
noncomputable def bX15_does_41 (E : gE) (N : Nat) (h0 : Nat) (S : GS) (x1 : Option Nat) (t0 : Int32) : Option (Int32 × GS) :=
  if t0 = 0 then
    ggi S x1 31 (fun v_2 =>
    ggi S (some h0) 75 (fun v_4 =>
    gpv E S x1 31 (.int (v_2 ^^^ ((1 : Int32) <<< (v_4 &&& 31)))) (fun S_6 =>
    bX15_does_61 E N h0 S_6 t0)))
  else
    bX15_does_61 E N h0 S t0
noncomputable def bX15_does_0 (E : gE) (N : Nat) (h0 : Nat) (S : GS) (x1 : Option Nat) : Option (Int32 × GS) :=
  ggr S x1 28 (fun v_1 =>
  ggi S (some h0) 75 (fun v_3 =>
  gbd (vInchBorders_Atlas_isRoad__I_Z E N S v_1 v_3) (fun r_5 S_6 =>
  if r_5 = 0 then
    bX15_does_41 E N h0 S_6 x1 (1 : Int32)
  else
    ggi S_6 x1 31 (fun v_10 =>
    ggi S_6 (some h0) 75 (fun v_12 =>
    gbd (fX1_isOf E N S_6 v_10 v_12) (fun r_14 S_15 =>
    ggi S_15 (some h0) 76 (fun v_18 =>
    if r_14 = v_18 then
      bX15_does_41 E N h0 S_15 x1 (2 : Int32)
    else
      bX15_does_41 E N h0 S_15 x1 (0 : Int32))))))))
noncomputable def fX15_does (E : gE) (N : Nat) (S : GS) (h0 : Nat) (x1 : Option Nat) : Option (Int32 × GS) := bX15_does_0 E N h0 S x1
/-! InchBorders$Closes.<init>(IZ)V -/
abbrev rX15_init : Room := { frames := 2, cells := 0, slots := 0, locals := 40 }
noncomputable def bX15_init_0 (E : gE) (N : Nat) (h0 : Nat) (S : GS) (x1 : Int32) (x2 : Int32) : Option (Int32 × GS) :=
  gbd (fX13_init E N S h0) (fun _ S_2 =>
  gpv E S_2 (some h0) 75 (.int x1) (fun S_5 =>
  mzt x2 (
  gpv E S_5 (some h0) 76 (.int x2) (fun S_7 =>
  some (0, S_7)))))
noncomputable def fX15_init (E : gE) (N : Nat) (S : GS) (h0 : Nat) (x1 : Int32) (x2 : Int32) : Option (Int32 × GS) := bX15_init_0 E N h0 S x1 x2
/-! InchBorders$Road.<init>(IIII)V -/
abbrev rX11_init : Room := { frames := 1, cells := 0, slots := 0, locals := 20 }
noncomputable def bX11_init_0 (E : gE) (N : Nat) (h0 : Nat) (S : GS) (x1 : Int32) (x2 : Int32) (x3 : Int32) (x4 : Int32) : Option (Int32 × GS) :=
  gpv E S (some h0) 67 (.int x1) (fun S_1 =>
  gpv E S_1 (some h0) 68 (.int x2) (fun S_3 =>
  gpv E S_3 (some h0) 69 (.int x3) (fun S_5 =>
  gpv E S_5 (some h0) 70 (.int x4) (fun S_7 =>
  some (0, S_7)))))
noncomputable def fX11_init (E : gE) (N : Nat) (S : GS) (h0 : Nat) (x1 : Int32) (x2 : Int32) (x3 : Int32) (x4 : Int32) : Option (Int32 × GS) := bX11_init_0 E N h0 S x1 x2 x3 x4
/-! InchBorders$Times.<init>()V -/
abbrev rX3_init (mc ms : Nat) : Room := { frames := 1, cells := mc, slots := ms, locals := 20 }
noncomputable def bX3_init_57 (E : gE) (N : Nat) (h0 : Nat) (S : GS) (t0 : Option Nat) (t1 : Option Nat) : Option (Int32 × GS) :=
  gpv E S t0 38 (va_rf t1) (fun S_1 =>
  some (0, S_1))
noncomputable def bX3_init_49 (E : gE) (N : Nat) (h0 : Nat) (S : GS) (t0 : Option Nat) (t1 : Option Nat) : Option (Int32 × GS) :=
  gpv E S t0 37 (va_rf t1) (fun S_1 =>
  gna S_1 1 (6 : Int32) (fun a_4 S_3 =>
  bX3_init_57 E N h0 S_3 (some h0) (some a_4)))
noncomputable def bX3_init_41 (E : gE) (N : Nat) (h0 : Nat) (S : GS) (t0 : Option Nat) (t1 : Option Nat) : Option (Int32 × GS) :=
  gpv E S t0 36 (va_rf t1) (fun S_1 =>
  gna S_1 1 (6 : Int32) (fun a_4 S_3 =>
  bX3_init_49 E N h0 S_3 (some h0) (some a_4)))
noncomputable def bX3_init_33 (E : gE) (N : Nat) (h0 : Nat) (S : GS) (t0 : Option Nat) (t1 : Option Nat) : Option (Int32 × GS) :=
  gpv E S t0 35 (va_rf t1) (fun S_1 =>
  gna S_1 1 (6 : Int32) (fun a_4 S_3 =>
  bX3_init_41 E N h0 S_3 (some h0) (some a_4)))
noncomputable def bX3_init_25 (E : gE) (N : Nat) (h0 : Nat) (S : GS) (t0 : Option Nat) (t1 : Option Nat) : Option (Int32 × GS) :=
  gpv E S t0 34 (va_rf t1) (fun S_1 =>
  gna S_1 1 (6 : Int32) (fun a_4 S_3 =>
  bX3_init_33 E N h0 S_3 (some h0) (some a_4)))
noncomputable def bX3_init_17 (E : gE) (N : Nat) (h0 : Nat) (S : GS) (t0 : Option Nat) (t1 : Option Nat) : Option (Int32 × GS) :=
  gpv E S t0 33 (va_rf t1) (fun S_1 =>
  gna S_1 1 (6 : Int32) (fun a_4 S_3 =>
  bX3_init_25 E N h0 S_3 (some h0) (some a_4)))
noncomputable def bX3_init_9 (E : gE) (N : Nat) (h0 : Nat) (S : GS) (t0 : Option Nat) (t1 : Option Nat) : Option (Int32 × GS) :=
  gpv E S t0 32 (va_rf t1) (fun S_1 =>
  gna S_1 1 (7 : Int32) (fun a_4 S_3 =>
  bX3_init_17 E N h0 S_3 (some h0) (some a_4)))
noncomputable def bX3_init_4 (E : gE) (N : Nat) (h0 : Nat) (S : GS) : Option (Int32 × GS) :=
  gna S 1 (7 : Int32) (fun a_2 S_1 =>
  bX3_init_9 E N h0 S_1 (some h0) (some a_2))
noncomputable def bX3_init_0 (E : gE) (N : Nat) (h0 : Nat) (S : GS) : Option (Int32 × GS) :=
  bX3_init_4 E N h0 S
noncomputable def fX3_init (E : gE) (N : Nat) (S : GS) (h0 : Nat) : Option (Int32 × GS) := bX3_init_0 E N h0 S
/-! java/util/Arrays.fill([II)V -/
abbrev rJ3_fill : Room := { frames := 0, cells := 0, slots := 0, locals := 0 }
noncomputable def bJ3_fill_5 (E : gE) (N : Nat) (K5 : GS → (Option Nat) → Int32 → Int32 → Int32 → Option (Int32 × GS)) (S : GS) (x0 : Option Nat) (x1 : Int32) (x2 : Int32) (x3 : Int32) : Option (Int32 × GS) :=
  if x3 ≤ x2 then
    some (0, S)
  else
    gaw 1 E S x0 x2 x1 (fun S_2 =>
    K5 S_2 x0 x1 (x2 + (1 : Int32)) x3)
noncomputable def bJ3_fill_5L (E : gE) (N : Nat) : Nat → GS → (Option Nat) → Int32 → Int32 → Int32 → Option (Int32 × GS)
  | 0 => fun _ _ _ _ _ => none
  | n + 1 => bJ3_fill_5 E N (bJ3_fill_5L E N n)
noncomputable def bJ3_fill_0 (E : gE) (N : Nat) (S : GS) (x0 : Option Nat) (x1 : Int32) : Option (Int32 × GS) :=
  gal S x0 (fun v_1 =>
  bJ3_fill_5L E N N S x0 x1 (0 : Int32) v_1)
noncomputable def fJ3_fill (E : gE) (N : Nat) (S : GS) (x0 : Option Nat) (x1 : Int32) : Option (Int32 × GS) := bJ3_fill_0 E N S x0 x1
/-! InchBorders$Times.clear([I)V -/
abbrev rX3_clear : Room := { frames := 1, cells := 0, slots := 0, locals := 23 }
noncomputable def bX3_clear_0 (E : gE) (N : Nat) (S : GS) (x0 : Option Nat) : Option (Int32 × GS) :=
  gbd (fJ3_fill E N S x0 (0 : Int32)) (fun _ S_2 =>
  some (0, S_2))
noncomputable def fX3_clear (E : gE) (N : Nat) (S : GS) (x0 : Option Nat) : Option (Int32 × GS) := bX3_clear_0 E N S x0
/-! InchBorders$Times.persons()I -/
abbrev rX3_persons : Room := { frames := 1, cells := 0, slots := 0, locals := 20 }
noncomputable def bX3_persons_0 (E : gE) (N : Nat) (h0 : Nat) (S : GS) : Option (Int32 × GS) :=
  ggr S (some h0) 28 (fun v_1 =>
  ggr S v_1 27 (fun v_3 =>
  gbd (vjava_util_ArrayList_size___I E N S v_3) (fun r_5 S_6 =>
  some (r_5, S_6))))
noncomputable def fX3_persons (E : gE) (N : Nat) (S : GS) (h0 : Nat) : Option (Int32 × GS) := bX3_persons_0 E N h0 S
noncomputable def vInchBorders_Times_persons___I (E : gE) (N : Nat) (S : GS) (r : Option Nat) : Option (Int32 × GS) := gvd S r (fun b ci =>
  if ci = 2 then fX3_persons E N S b else
  none)
/-! InchBorders$Times.begin(LInchBorders$Atlas;)LInchBorders$Times; -/
abbrev rX3_begin : Room := { frames := 4, cells := 0, slots := 0, locals := 85 }
noncomputable def bX3_begin_133 (E : gE) (N : Nat) (h0 : Nat) (K133 : GS → Int32 → Option (Option Nat × GS)) (S : GS) (x2 : Int32) : Option (Option Nat × GS) :=
  gbd (vInchBorders_Times_persons___I E N S (some h0)) (fun r_1 S_2 =>
  if r_1 ≤ x2 then
    some ((some h0), S_2)
  else
    ggr S_2 (some h0) 34 (fun v_6 =>
    ggr S_2 (some h0) 28 (fun v_8 =>
    gbd (vInchBorders_Atlas_home__I_I E N S_2 v_8 x2) (fun r_10 S_11 =>
    gaw 1 E S_11 v_6 x2 r_10 (fun S_14 =>
    ggr S_14 (some h0) 35 (fun v_16 =>
    ggr S_14 (some h0) 28 (fun v_18 =>
    ggr S_14 v_18 27 (fun v_20 =>
    gbd (vjava_util_ArrayList_get__I_Ljava_lang_Object_ E N S_14 v_20 x2) (fun r_22 S_23 =>
    gcc S_23 r_22 [8] (
    ggi S_23 r_22 72 (fun v_27 =>
    gaw 1 E S_23 v_16 x2 v_27 (fun S_29 =>
    K133 S_29 (x2 + (1 : Int32))))))))))))))
noncomputable def bX3_begin_133L (E : gE) (N : Nat) (h0 : Nat) : Nat → GS → Int32 → Option (Option Nat × GS)
  | 0 => fun _ _ => none
  | n + 1 => bX3_begin_133 E N h0 (bX3_begin_133L E N h0 n)
noncomputable def bX3_begin_71 (E : gE) (N : Nat) (h0 : Nat) (K71 : GS → Int32 → Option (Option Nat × GS)) (S : GS) (x2 : Int32) : Option (Option Nat × GS) :=
  gbd (vInchBorders_Times_lands___I E N S (some h0)) (fun r_1 S_2 =>
  if r_1 ≤ x2 then
    bX3_begin_133L E N h0 N S_2 (0 : Int32)
  else
    ggr S_2 (some h0) 32 (fun v_6 =>
    ggr S_2 (some h0) 28 (fun v_8 =>
    ggr S_2 v_8 25 (fun v_10 =>
    gbd (vjava_util_ArrayList_get__I_Ljava_lang_Object_ E N S_2 v_10 x2) (fun r_12 S_13 =>
    gcc S_13 r_12 [6] (
    ggi S_13 r_12 64 (fun v_17 =>
    gaw 1 E S_13 v_6 x2 v_17 (fun S_19 =>
    ggr S_19 (some h0) 33 (fun v_21 =>
    ggr S_19 (some h0) 28 (fun v_23 =>
    ggr S_19 v_23 25 (fun v_25 =>
    gbd (vjava_util_ArrayList_get__I_Ljava_lang_Object_ E N S_19 v_25 x2) (fun r_27 S_28 =>
    gcc S_28 r_27 [6] (
    ggi S_28 r_27 65 (fun v_32 =>
    gaw 1 E S_28 v_21 x2 v_32 (fun S_34 =>
    K71 S_34 (x2 + (1 : Int32)))))))))))))))))
noncomputable def bX3_begin_71L (E : gE) (N : Nat) (h0 : Nat) : Nat → GS → Int32 → Option (Option Nat × GS)
  | 0 => fun _ _ => none
  | n + 1 => bX3_begin_71 E N h0 (bX3_begin_71L E N h0 n)
noncomputable def bX3_begin_0 (E : gE) (N : Nat) (h0 : Nat) (S : GS) (x1 : Option Nat) : Option (Option Nat × GS) :=
  gpv E S (some h0) 28 (va_rf x1) (fun S_1 =>
  gpv E S_1 (some h0) 29 (.int (0 : Int32)) (fun S_3 =>
  gpv E S_3 (some h0) 30 (.int (0 : Int32)) (fun S_5 =>
  gpv E S_5 (some h0) 31 (.int (0 : Int32)) (fun S_7 =>
  ggr S_7 (some h0) 32 (fun v_9 =>
  gbd (fX3_clear E N S_7 v_9) (fun _ S_12 =>
  ggr S_12 (some h0) 33 (fun v_15 =>
  gbd (fX3_clear E N S_12 v_15) (fun _ S_18 =>
  ggr S_18 (some h0) 34 (fun v_21 =>
  gbd (fX3_clear E N S_18 v_21) (fun _ S_24 =>
  ggr S_24 (some h0) 35 (fun v_27 =>
  gbd (fX3_clear E N S_24 v_27) (fun _ S_30 =>
  ggr S_30 (some h0) 36 (fun v_33 =>
  gbd (fX3_clear E N S_30 v_33) (fun _ S_36 =>
  ggr S_36 (some h0) 37 (fun v_39 =>
  gbd (fX3_clear E N S_36 v_39) (fun _ S_42 =>
  ggr S_42 (some h0) 38 (fun v_45 =>
  gbd (fX3_clear E N S_42 v_45) (fun _ S_48 =>
  bX3_begin_71L E N h0 N S_48 (0 : Int32)))))))))))))))))))
noncomputable def fX3_begin (E : gE) (N : Nat) (S : GS) (h0 : Nat) (x1 : Option Nat) : Option (Option Nat × GS) := bX3_begin_0 E N h0 S x1
/-! InchBorders$Times.lengths()I -/
abbrev rX3_lengths : Room := { frames := 0, cells := 0, slots := 0, locals := 0 }
noncomputable def bX3_lengths_13 (E : gE) (N : Nat) (h0 : Nat) (K13 : GS → Int32 → (Option Nat) → Int32 → Int32 → Option (Int32 × GS)) (S : GS) (x1 : Int32) (x2 : Option Nat) (x3 : Int32) (x4 : Int32) : Option (Int32 × GS) :=
  if x3 ≤ x4 then
    some (x1, S)
  else
    gai 1 S x2 x4 (fun v_2 =>
    K13 S (x1 + v_2) x2 x3 (x4 + (1 : Int32)))
noncomputable def bX3_lengths_13L (E : gE) (N : Nat) (h0 : Nat) : Nat → GS → Int32 → (Option Nat) → Int32 → Int32 → Option (Int32 × GS)
  | 0 => fun _ _ _ _ _ => none
  | n + 1 => bX3_lengths_13 E N h0 (bX3_lengths_13L E N h0 n)
noncomputable def bX3_lengths_0 (E : gE) (N : Nat) (h0 : Nat) (S : GS) : Option (Int32 × GS) :=
  ggr S (some h0) 35 (fun v_1 =>
  gal S v_1 (fun v_3 =>
  bX3_lengths_13L E N h0 N S (0 : Int32) v_1 v_3 (0 : Int32)))
noncomputable def fX3_lengths (E : gE) (N : Nat) (S : GS) (h0 : Nat) : Option (Int32 × GS) := bX3_lengths_0 E N h0 S
/-! InchBorders$Times.isSpared(II)Z -/
abbrev rX3_isSpared : Room := { frames := 1, cells := 0, slots := 0, locals := 21 }
noncomputable def bX3_isSpared_23 (E : gE) (N : Nat) (h0 : Nat) (S : GS) (t0 : Int32) : Option (Int32 × GS) :=
  mzt t0 (some (t0, S))
noncomputable def bX3_isSpared_18 (E : gE) (N : Nat) (h0 : Nat) (S : GS) : Option (Int32 × GS) :=
  bX3_isSpared_23 E N h0 S (1 : Int32)
noncomputable def bX3_isSpared_0 (E : gE) (N : Nat) (h0 : Nat) (S : GS) (x1 : Int32) (x2 : Int32) : Option (Int32 × GS) :=
  if x1 = x2 then
    bX3_isSpared_18 E N h0 S
  else
    ggr S (some h0) 33 (fun v_2 =>
    gai 1 S v_2 x1 (fun v_4 =>
    gbd (fX1_isOf E N S v_4 x2) (fun r_6 S_7 =>
    if r_6 = 0 then
      bX3_isSpared_23 E N h0 S_7 (0 : Int32)
    else
      bX3_isSpared_18 E N h0 S_7)))
noncomputable def fX3_isSpared (E : gE) (N : Nat) (S : GS) (h0 : Nat) (x1 : Int32) (x2 : Int32) : Option (Int32 × GS) := bX3_isSpared_0 E N h0 S x1 x2
noncomputable def vInchBorders_Times_isSpared__II_Z (E : gE) (N : Nat) (S : GS) (r : Option Nat) (y0 : Int32) (y1 : Int32) : Option (Int32 × GS) := gvd S r (fun b ci =>
  if ci = 2 then fX3_isSpared E N S b y0 y1 else
  none)
/-! InchBorders$Times.whyCross(II)I -/
abbrev rX3_whyCross : Room := { frames := 5, cells := 0, slots := 0, locals := 113 }
noncomputable def bX3_whyCross_0 (E : gE) (N : Nat) (h0 : Nat) (S : GS) (x1 : Int32) (x2 : Int32) : Option (Int32 × GS) :=
  ggr S (some h0) 34 (fun v_1 =>
  gai 1 S v_1 x1 (fun v_3 =>
  ggr S (some h0) 35 (fun v_5 =>
  gai 1 S v_5 x1 (fun v_7 =>
  ggr S (some h0) 28 (fun v_9 =>
  gbd (vInchBorders_Atlas_home__I_I E N S v_9 x1) (fun r_11 S_12 =>
  gbd (vInchBorders_Times_isSpared__II_Z E N S_12 (some h0) r_11 x2) (fun r_15 S_16 =>
  gbd (vInchBorders_Times_why__IIIZ_I E N S_16 (some h0) v_3 x2 v_7 r_15) (fun r_19 S_20 =>
  some (r_19, S_20)))))))))
noncomputable def fX3_whyCross (E : gE) (N : Nat) (S : GS) (h0 : Nat) (x1 : Int32) (x2 : Int32) : Option (Int32 × GS) := bX3_whyCross_0 E N h0 S x1 x2
noncomputable def vInchBorders_Times_whyCross__II_I (E : gE) (N : Nat) (S : GS) (r : Option Nat) (y0 : Int32) (y1 : Int32) : Option (Int32 × GS) := gvd S r (fun b ci =>
  if ci = 2 then fX3_whyCross E N S b y0 y1 else
  none)
/-! InchBorders$Times.canCross(I)I -/
abbrev rX3_canCross : Room := { frames := 6, cells := 0, slots := 0, locals := 135 }
noncomputable def bX3_canCross_27 (E : gE) (N : Nat) (h0 : Nat) (K4 : GS → Int32 → Int32 → Int32 → Option (Int32 × GS)) (S : GS) (x1 : Int32) (x2 : Int32) (x3 : Int32) : Option (Int32 × GS) :=
  K4 S x1 x2 (x3 + (1 : Int32))
noncomputable def bX3_canCross_4 (E : gE) (N : Nat) (h0 : Nat) (K4 : GS → Int32 → Int32 → Int32 → Option (Int32 × GS)) (S : GS) (x1 : Int32) (x2 : Int32) (x3 : Int32) : Option (Int32 × GS) :=
  gbd (vInchBorders_Times_lands___I E N S (some h0)) (fun r_1 S_2 =>
  if r_1 ≤ x3 then
    some (x2, S_2)
  else
    gbd (vInchBorders_Times_whyCross__II_I E N S_2 (some h0) x1 x3) (fun r_6 S_7 =>
    if r_6 = 0 then
      bX3_canCross_27 E N h0 K4 S_7 x1 (x2 ||| ((1 : Int32) <<< (x3 &&& 31))) x3
    else
      bX3_canCross_27 E N h0 K4 S_7 x1 x2 x3))
noncomputable def bX3_canCross_4L (E : gE) (N : Nat) (h0 : Nat) : Nat → GS → Int32 → Int32 → Int32 → Option (Int32 × GS)
  | 0 => fun _ _ _ _ => none
  | n + 1 => bX3_canCross_4 E N h0 (bX3_canCross_4L E N h0 n)
noncomputable def bX3_canCross_0 (E : gE) (N : Nat) (h0 : Nat) (S : GS) (x1 : Int32) : Option (Int32 × GS) :=
  bX3_canCross_4L E N h0 N S x1 (0 : Int32) (0 : Int32)
noncomputable def fX3_canCross (E : gE) (N : Nat) (S : GS) (h0 : Nat) (x1 : Int32) : Option (Int32 × GS) := bX3_canCross_0 E N h0 S x1
/-! InchBorders$Times.copy([I[I)V -/
abbrev rX3_copy : Room := { frames := 1, cells := 0, slots := 0, locals := 40 }
noncomputable def bX3_copy_0 (E : gE) (N : Nat) (S : GS) (x0 : Option Nat) (x1 : Option Nat) : Option (Int32 × GS) :=
  gal S x1 (fun v_1 =>
  gcp E S x0 (0 : Int32) x1 (0 : Int32) v_1 (fun S_3 =>
  some (0, S_3)))
noncomputable def fX3_copy (E : gE) (N : Nat) (S : GS) (x0 : Option Nat) (x1 : Option Nat) : Option (Int32 × GS) := bX3_copy_0 E N S x0 x1
/-! InchBorders$Times.as(LInchBorders$Times;)LInchBorders$Times; -/
abbrev rX3_as : Room := { frames := 2, cells := 0, slots := 0, locals := 61 }
noncomputable def bX3_as_0 (E : gE) (N : Nat) (h0 : Nat) (S : GS) (x1 : Option Nat) : Option (Option Nat × GS) :=
  ggr S x1 28 (fun v_1 =>
  gpv E S (some h0) 28 (va_rf v_1) (fun S_3 =>
  ggi S_3 x1 29 (fun v_5 =>
  gpv E S_3 (some h0) 29 (.int v_5) (fun S_7 =>
  ggi S_7 x1 30 (fun v_9 =>
  gpv E S_7 (some h0) 30 (.int v_9) (fun S_11 =>
  ggi S_11 x1 31 (fun v_13 =>
  gpv E S_11 (some h0) 31 (.int v_13) (fun S_15 =>
  ggr S_15 x1 32 (fun v_17 =>
  ggr S_15 (some h0) 32 (fun v_19 =>
  gbd (fX3_copy E N S_15 v_17 v_19) (fun _ S_22 =>
  ggr S_22 x1 33 (fun v_25 =>
  ggr S_22 (some h0) 33 (fun v_27 =>
  gbd (fX3_copy E N S_22 v_25 v_27) (fun _ S_30 =>
  ggr S_30 x1 34 (fun v_33 =>
  ggr S_30 (some h0) 34 (fun v_35 =>
  gbd (fX3_copy E N S_30 v_33 v_35) (fun _ S_38 =>
  ggr S_38 x1 35 (fun v_41 =>
  ggr S_38 (some h0) 35 (fun v_43 =>
  gbd (fX3_copy E N S_38 v_41 v_43) (fun _ S_46 =>
  ggr S_46 x1 36 (fun v_49 =>
  ggr S_46 (some h0) 36 (fun v_51 =>
  gbd (fX3_copy E N S_46 v_49 v_51) (fun _ S_54 =>
  ggr S_54 x1 37 (fun v_57 =>
  ggr S_54 (some h0) 37 (fun v_59 =>
  gbd (fX3_copy E N S_54 v_57 v_59) (fun _ S_62 =>
  ggr S_62 x1 38 (fun v_65 =>
  ggr S_62 (some h0) 38 (fun v_67 =>
  gbd (fX3_copy E N S_62 v_65 v_67) (fun _ S_70 =>
  some ((some h0), S_70))))))))))))))))))))))))))))))
noncomputable def fX3_as (E : gE) (N : Nat) (S : GS) (h0 : Nat) (x1 : Option Nat) : Option (Option Nat × GS) := bX3_as_0 E N h0 S x1
/-! InchBorders$Times.cross(II)V -/
abbrev rX3_cross : Room := { frames := 4, cells := 0, slots := 0, locals := 87 }
noncomputable def bX3_cross_120 (E : gE) (N : Nat) (h0 : Nat) (S : GS) (x1 : Int32) (x2 : Int32) : Option (Int32 × GS) :=
  ggr S (some h0) 34 (fun v_1 =>
  gaw 1 E S v_1 x1 x2 (fun S_3 =>
  ggr S_3 (some h0) 38 (fun v_5 =>
  gai 1 S_3 v_5 x1 (fun v_7 =>
  gaw 1 E S_3 v_5 x1 (v_7 + (1 : Int32)) (fun S_9 =>
  ggi S_9 (some h0) 30 (fun v_11 =>
  gpv E S_9 (some h0) 30 (.int (v_11 + (1 : Int32))) (fun S_13 =>
  some (0, S_13))))))))
noncomputable def bX3_cross_0 (E : gE) (N : Nat) (h0 : Nat) (S : GS) (x1 : Int32) (x2 : Int32) : Option (Int32 × GS) :=
  ggr S (some h0) 28 (fun v_1 =>
  gbd (vInchBorders_Atlas_home__I_I E N S v_1 x1) (fun r_3 S_4 =>
  if x2 = r_3 then
    ggr S_4 (some h0) 35 (fun v_43 =>
    gai 1 S_4 v_43 x1 (fun v_45 =>
    ggr S_4 (some h0) 32 (fun v_47 =>
    gai 1 S_4 v_47 r_3 (fun v_49 =>
    gbd (vInchBorders_Times_gives__III_I E N S_4 (some h0) r_3 v_45 v_49) (fun r_51 S_52 =>
    ggr S_52 (some h0) 32 (fun v_55 =>
    gai 1 S_52 v_55 r_3 (fun v_57 =>
    gaw 1 E S_52 v_55 r_3 (v_57 - r_51) (fun S_59 =>
    ggr S_59 (some h0) 35 (fun v_61 =>
    gai 1 S_59 v_61 x1 (fun v_63 =>
    gaw 1 E S_59 v_61 x1 (v_63 + r_51) (fun S_65 =>
    ggr S_65 (some h0) 37 (fun v_67 =>
    gai 1 S_65 v_67 x1 (fun v_69 =>
    gaw 1 E S_65 v_67 x1 (v_69 + r_51) (fun S_71 =>
    bX3_cross_120 E N h0 S_71 x1 x2))))))))))))))
  else
    gbd (vInchBorders_Times_isSpared__II_Z E N S_4 (some h0) r_3 x2) (fun r_8 S_9 =>
    if r_8 = 0 then
      ggr S_9 (some h0) 32 (fun v_13 =>
      gai 1 S_9 v_13 x2 (fun v_15 =>
      gbd (vInchBorders_Times_take__I_I E N S_9 (some h0) x2) (fun r_17 S_18 =>
      gaw 1 E S_18 v_13 x2 (v_15 + r_17) (fun S_21 =>
      ggr S_21 (some h0) 35 (fun v_23 =>
      gai 1 S_21 v_23 x1 (fun v_25 =>
      gbd (vInchBorders_Times_take__I_I E N S_21 (some h0) x2) (fun r_27 S_28 =>
      gaw 1 E S_28 v_23 x1 (v_25 - r_27) (fun S_31 =>
      ggr S_31 (some h0) 36 (fun v_33 =>
      gai 1 S_31 v_33 x1 (fun v_35 =>
      gbd (vInchBorders_Times_take__I_I E N S_31 (some h0) x2) (fun r_37 S_38 =>
      gaw 1 E S_38 v_33 x1 (v_35 + r_37) (fun S_41 =>
      bX3_cross_120 E N h0 S_41 x1 x2))))))))))))
    else
      bX3_cross_120 E N h0 S_9 x1 x2)))
noncomputable def fX3_cross (E : gE) (N : Nat) (S : GS) (h0 : Nat) (x1 : Int32) (x2 : Int32) : Option (Int32 × GS) := bX3_cross_0 E N h0 S x1 x2
/-! InchBorders$Times.isOver()Z -/
abbrev rX3_isOver : Room := { frames := 0, cells := 0, slots := 0, locals := 0 }
noncomputable def bX3_isOver_15 (E : gE) (N : Nat) (h0 : Nat) (S : GS) (t0 : Int32) : Option (Int32 × GS) :=
  mzt t0 (some (t0, S))
noncomputable def bX3_isOver_0 (E : gE) (N : Nat) (h0 : Nat) (S : GS) : Option (Int32 × GS) :=
  ggi S (some h0) 29 (fun v_1 =>
  if v_1 = (400 : Int32) then
    bX3_isOver_15 E N h0 S (1 : Int32)
  else
    bX3_isOver_15 E N h0 S (0 : Int32))
noncomputable def fX3_isOver (E : gE) (N : Nat) (S : GS) (h0 : Nat) : Option (Int32 × GS) := bX3_isOver_0 E N h0 S
/-! InchBorders$Times.grows(I)Z -/
abbrev rX3_grows : Room := { frames := 4, cells := 0, slots := 0, locals := 85 }
noncomputable def bX3_grows_48 (E : gE) (N : Nat) (h0 : Nat) (S : GS) (t0 : Int32) : Option (Int32 × GS) :=
  mzt t0 (some (t0, S))
noncomputable def bX3_grows_47 (E : gE) (N : Nat) (h0 : Nat) (S : GS) : Option (Int32 × GS) :=
  bX3_grows_48 E N h0 S (0 : Int32)
noncomputable def bX3_grows_0 (E : gE) (N : Nat) (h0 : Nat) (S : GS) (x1 : Int32) : Option (Int32 × GS) :=
  ggr S (some h0) 34 (fun v_1 =>
  gai 1 S v_1 x1 (fun v_3 =>
  ggr S (some h0) 28 (fun v_5 =>
  gbd (vInchBorders_Atlas_home__I_I E N S v_5 x1) (fun r_7 S_8 =>
  if v_3 = r_7 then
    ggr S_8 (some h0) 35 (fun v_12 =>
    gai 1 S_8 v_12 x1 (fun v_14 =>
    if (240 : Int32) ≤ v_14 then
      bX3_grows_47 E N h0 S_8
    else
      ggr S_8 (some h0) 32 (fun v_17 =>
      ggr S_8 (some h0) 34 (fun v_19 =>
      gai 1 S_8 v_19 x1 (fun v_21 =>
      gai 1 S_8 v_17 v_21 (fun v_23 =>
      if v_23 ≤ 0 then
        bX3_grows_47 E N h0 S_8
      else
        bX3_grows_48 E N h0 S_8 (1 : Int32)))))))
  else
    bX3_grows_47 E N h0 S_8))))
noncomputable def fX3_grows (E : gE) (N : Nat) (S : GS) (h0 : Nat) (x1 : Int32) : Option (Int32 × GS) := bX3_grows_0 E N h0 S x1
noncomputable def vInchBorders_Times_grows__I_Z (E : gE) (N : Nat) (S : GS) (r : Option Nat) (y0 : Int32) : Option (Int32 × GS) := gvd S r (fun b ci =>
  if ci = 2 then fX3_grows E N S b y0 else
  none)
/-! InchBorders$Times.pass()V -/
abbrev rX3_pass : Room := { frames := 5, cells := 0, slots := 0, locals := 106 }
noncomputable def bX3_pass_46 (E : gE) (N : Nat) (h0 : Nat) (K2 : GS → Int32 → Option (Int32 × GS)) (S : GS) (x1 : Int32) : Option (Int32 × GS) :=
  K2 S (x1 + (1 : Int32))
noncomputable def bX3_pass_2 (E : gE) (N : Nat) (h0 : Nat) (K2 : GS → Int32 → Option (Int32 × GS)) (S : GS) (x1 : Int32) : Option (Int32 × GS) :=
  gbd (vInchBorders_Times_persons___I E N S (some h0)) (fun r_1 S_2 =>
  if r_1 ≤ x1 then
    ggi S_2 (some h0) 29 (fun v_6 =>
    gpv E S_2 (some h0) 29 (.int (v_6 + (1 : Int32))) (fun S_8 =>
    some (0, S_8)))
  else
    gbd (vInchBorders_Times_grows__I_Z E N S_2 (some h0) x1) (fun r_10 S_11 =>
    if r_10 = 0 then
      bX3_pass_46 E N h0 K2 S_11 x1
    else
      ggr S_11 (some h0) 32 (fun v_15 =>
      ggr S_11 (some h0) 34 (fun v_17 =>
      gai 1 S_11 v_17 x1 (fun v_19 =>
      gai 1 S_11 v_15 v_19 (fun v_21 =>
      gaw 1 E S_11 v_15 v_19 (v_21 - (1 : Int32)) (fun S_23 =>
      ggr S_23 (some h0) 35 (fun v_25 =>
      gai 1 S_23 v_25 x1 (fun v_27 =>
      gaw 1 E S_23 v_25 x1 (v_27 + (1 : Int32)) (fun S_29 =>
      bX3_pass_46 E N h0 K2 S_29 x1))))))))))
noncomputable def bX3_pass_2L (E : gE) (N : Nat) (h0 : Nat) : Nat → GS → Int32 → Option (Int32 × GS)
  | 0 => fun _ _ => none
  | n + 1 => bX3_pass_2 E N h0 (bX3_pass_2L E N h0 n)
noncomputable def bX3_pass_0 (E : gE) (N : Nat) (h0 : Nat) (S : GS) : Option (Int32 × GS) :=
  bX3_pass_2L E N h0 N S (0 : Int32)
noncomputable def fX3_pass (E : gE) (N : Nat) (S : GS) (h0 : Nat) : Option (Int32 × GS) := bX3_pass_0 E N h0 S
noncomputable def vInchBorders_Times_isOver___Z (E : gE) (N : Nat) (S : GS) (r : Option Nat) : Option (Int32 × GS) := gvd S r (fun b ci =>
  if ci = 2 then fX3_isOver E N S b else
  none)
noncomputable def vInchBorders_Times_pass___V (E : gE) (N : Nat) (S : GS) (r : Option Nat) : Option (Int32 × GS) := gvd S r (fun b ci =>
  if ci = 2 then fX3_pass E N S b else
  none)
/-! InchBorders$Times.passAll(I)I -/
abbrev rX3_passAll : Room := { frames := 6, cells := 0, slots := 0, locals := 127 }
noncomputable def bX3_passAll_24 (E : gE) (N : Nat) (h0 : Nat) (S : GS) (x2 : Int32) : Option (Int32 × GS) :=
  some (x2, S)
noncomputable def bX3_passAll_2 (E : gE) (N : Nat) (h0 : Nat) (K2 : GS → Int32 → Int32 → Option (Int32 × GS)) (S : GS) (x1 : Int32) (x2 : Int32) : Option (Int32 × GS) :=
  if x1 ≤ x2 then
    bX3_passAll_24 E N h0 S x2
  else
    gbd (vInchBorders_Times_isOver___Z E N S (some h0)) (fun r_2 S_3 =>
    if r_2 = 0 then
      gbd (vInchBorders_Times_pass___V E N S_3 (some h0)) (fun _ S_8 =>
      K2 S_8 x1 (x2 + (1 : Int32)))
    else
      bX3_passAll_24 E N h0 S_3 x2)
noncomputable def bX3_passAll_2L (E : gE) (N : Nat) (h0 : Nat) : Nat → GS → Int32 → Int32 → Option (Int32 × GS)
  | 0 => fun _ _ _ => none
  | n + 1 => bX3_passAll_2 E N h0 (bX3_passAll_2L E N h0 n)
noncomputable def bX3_passAll_0 (E : gE) (N : Nat) (h0 : Nat) (S : GS) (x1 : Int32) : Option (Int32 × GS) :=
  bX3_passAll_2L E N h0 N S x1 (0 : Int32)
noncomputable def fX3_passAll (E : gE) (N : Nat) (S : GS) (h0 : Nat) (x1 : Int32) : Option (Int32 × GS) := bX3_passAll_0 E N h0 S x1
/-! InchBorders$Times.anyGrows()Z -/
abbrev rX3_anyGrows : Room := { frames := 5, cells := 0, slots := 0, locals := 106 }
noncomputable def bX3_anyGrows_2 (E : gE) (N : Nat) (h0 : Nat) (K2 : GS → Int32 → Option (Int32 × GS)) (S : GS) (x1 : Int32) : Option (Int32 × GS) :=
  gbd (vInchBorders_Times_persons___I E N S (some h0)) (fun r_1 S_2 =>
  if r_1 ≤ x1 then
    mzt (0 : Int32) (some ((0 : Int32), S_2))
  else
    gbd (vInchBorders_Times_grows__I_Z E N S_2 (some h0) x1) (fun r_7 S_8 =>
    if r_7 = 0 then
      K2 S_8 (x1 + (1 : Int32))
    else
      mzt (1 : Int32) (some ((1 : Int32), S_8))))
noncomputable def bX3_anyGrows_2L (E : gE) (N : Nat) (h0 : Nat) : Nat → GS → Int32 → Option (Int32 × GS)
  | 0 => fun _ _ => none
  | n + 1 => bX3_anyGrows_2 E N h0 (bX3_anyGrows_2L E N h0 n)
noncomputable def bX3_anyGrows_0 (E : gE) (N : Nat) (h0 : Nat) (S : GS) : Option (Int32 × GS) :=
  bX3_anyGrows_2L E N h0 N S (0 : Int32)
noncomputable def fX3_anyGrows (E : gE) (N : Nat) (S : GS) (h0 : Nat) : Option (Int32 × GS) := bX3_anyGrows_0 E N h0 S
/-! InchBorders$Times.draw(I)I -/
abbrev rX3_draw : Room := { frames := 0, cells := 0, slots := 0, locals := 0 }
noncomputable def bX3_draw_0 (E : gE) (N : Nat) (h0 : Nat) (S : GS) (x1 : Int32) : Option (Int32 × GS) :=
  ggi S (some h0) 39 (fun v_1 =>
  gpv E S (some h0) 39 (.int ((v_1 * (1103515245 : Int32)) + (12345 : Int32))) (fun S_3 =>
  ggi S_3 (some h0) 39 (fun v_5 =>
  mnz x1 (
  some ((((v_5.toUInt32 >>> ((8 : Int32).toUInt32 &&& Int32.toUInt32 31)).toInt32) - ((v_5.toUInt32 >>> ((8 : Int32).toUInt32 &&& Int32.toUInt32 31)).toInt32) / x1 * x1), S_3)))))
noncomputable def fX3_draw (E : gE) (N : Nat) (S : GS) (h0 : Nat) (x1 : Int32) : Option (Int32 × GS) := bX3_draw_0 E N h0 S x1
/-! java/util/ArrayList.isEmpty()Z -/
abbrev rJ2_isEmpty : Room := { frames := 0, cells := 0, slots := 0, locals := 0 }
noncomputable def bJ2_isEmpty_12 (E : gE) (N : Nat) (h0 : Nat) (S : GS) (t0 : Int32) : Option (Int32 × GS) :=
  mzt t0 (some (t0, S))
noncomputable def bJ2_isEmpty_0 (E : gE) (N : Nat) (h0 : Nat) (S : GS) : Option (Int32 × GS) :=
  ggi S (some h0) 112 (fun v_1 =>
  if v_1 = 0 then
    bJ2_isEmpty_12 E N h0 S (1 : Int32)
  else
    bJ2_isEmpty_12 E N h0 S (0 : Int32))
noncomputable def fJ2_isEmpty (E : gE) (N : Nat) (S : GS) (h0 : Nat) : Option (Int32 × GS) := bJ2_isEmpty_0 E N h0 S
noncomputable def vInchBorders_Times_draw__I_I (E : gE) (N : Nat) (S : GS) (r : Option Nat) (y0 : Int32) : Option (Int32 × GS) := gvd S r (fun b ci =>
  if ci = 2 then fX3_draw E N S b y0 else
  none)
noncomputable def vjava_util_ArrayList_isEmpty___Z (E : gE) (N : Nat) (S : GS) (r : Option Nat) : Option (Int32 × GS) := gvd S r (fun b ci =>
  if ci = 24 then fJ2_isEmpty E N S b else
  none)
noncomputable def vInchBorders_Times_cross__II_V (E : gE) (N : Nat) (S : GS) (r : Option Nat) (y0 : Int32) (y1 : Int32) : Option (Int32 × GS) := gvd S r (fun b ci =>
  if ci = 2 then fX3_cross E N S b y0 y1 else
  none)
/-! InchBorders$Times.drawn(II)I -/
abbrev rX3_drawn : Room := { frames := 6, cells := 0, slots := 0, locals := 135 }
noncomputable def bX3_drawn_106 (E : gE) (N : Nat) (h0 : Nat) (K7 : GS → Int32 → Int32 → Option (Int32 × GS)) (K68 : GS → Int32 → Int32 → Int32 → Option (Int32 × GS)) (S : GS) (x1 : Int32) (x3 : Int32) (x4 : Int32) : Option (Int32 × GS) :=
  K68 S x1 x3 (x4 + (1 : Int32))
noncomputable def bX3_drawn_68 (E : gE) (N : Nat) (h0 : Nat) (K7 : GS → Int32 → Int32 → Option (Int32 × GS)) (K68 : GS → Int32 → Int32 → Int32 → Option (Int32 × GS)) (S : GS) (x1 : Int32) (x3 : Int32) (x4 : Int32) : Option (Int32 × GS) :=
  gbd (vInchBorders_Times_persons___I E N S (some h0)) (fun r_1 S_2 =>
  if r_1 ≤ x4 then
    gbd (vInchBorders_Times_pass___V E N S_2 (some h0)) (fun _ S_7 =>
    K7 S_7 x1 (x3 + (1 : Int32)))
  else
    gbd (vInchBorders_Times_lands___I E N S_2 (some h0)) (fun r_10 S_11 =>
    gbd (vInchBorders_Times_draw__I_I E N S_11 (some h0) r_10) (fun r_14 S_15 =>
    gbd (vInchBorders_Times_whyCross__II_I E N S_15 (some h0) x4 r_14) (fun r_18 S_19 =>
    if r_18 = 0 then
      gbd (vInchBorders_Times_cross__II_V E N S_19 (some h0) x4 r_14) (fun _ S_24 =>
      bX3_drawn_106 E N h0 K7 K68 S_24 x1 x3 x4)
    else
      bX3_drawn_106 E N h0 K7 K68 S_19 x1 x3 x4))))
noncomputable def bX3_drawn_68L (E : gE) (N : Nat) (h0 : Nat) (K7 : GS → Int32 → Int32 → Option (Int32 × GS)) : Nat → GS → Int32 → Int32 → Int32 → Option (Int32 × GS)
  | 0 => fun _ _ _ _ => none
  | n + 1 => bX3_drawn_68 E N h0 K7 (bX3_drawn_68L E N h0 K7 n)
noncomputable def bX3_drawn_65 (E : gE) (N : Nat) (h0 : Nat) (K7 : GS → Int32 → Int32 → Option (Int32 × GS)) (S : GS) (x1 : Int32) (x3 : Int32) : Option (Int32 × GS) :=
  bX3_drawn_68L E N h0 K7 N S x1 x3 (0 : Int32)
noncomputable def bX3_drawn_122 (E : gE) (N : Nat) (h0 : Nat) (S : GS) (x3 : Int32) : Option (Int32 × GS) :=
  some (x3, S)
noncomputable def bX3_drawn_7 (E : gE) (N : Nat) (h0 : Nat) (K7 : GS → Int32 → Int32 → Option (Int32 × GS)) (S : GS) (x1 : Int32) (x3 : Int32) : Option (Int32 × GS) :=
  if x1 ≤ x3 then
    bX3_drawn_122 E N h0 S x3
  else
    gbd (vInchBorders_Times_isOver___Z E N S (some h0)) (fun r_2 S_3 =>
    if r_2 = 0 then
      gbd (vInchBorders_Times_draw__I_I E N S_3 (some h0) (4 : Int32)) (fun r_7 S_8 =>
      if r_7 = 0 then
        ggr S_8 (some h0) 28 (fun v_12 =>
        ggr S_8 v_12 26 (fun v_14 =>
        gbd (vjava_util_ArrayList_isEmpty___Z E N S_8 v_14) (fun r_16 S_17 =>
        if r_16 = 0 then
          ggi S_17 (some h0) 31 (fun v_21 =>
          ggr S_17 (some h0) 28 (fun v_23 =>
          ggr S_17 v_23 26 (fun v_25 =>
          gbd (vjava_util_ArrayList_size___I E N S_17 v_25) (fun r_27 S_28 =>
          gbd (vInchBorders_Times_draw__I_I E N S_28 (some h0) r_27) (fun r_31 S_32 =>
          gpv E S_32 (some h0) 31 (.int (v_21 ^^^ ((1 : Int32) <<< (r_31 &&& 31)))) (fun S_35 =>
          bX3_drawn_65 E N h0 K7 S_35 x1 x3))))))
        else
          bX3_drawn_65 E N h0 K7 S_17 x1 x3)))
      else
        bX3_drawn_65 E N h0 K7 S_8 x1 x3)
    else
      bX3_drawn_122 E N h0 S_3 x3)
noncomputable def bX3_drawn_7L (E : gE) (N : Nat) (h0 : Nat) : Nat → GS → Int32 → Int32 → Option (Int32 × GS)
  | 0 => fun _ _ _ => none
  | n + 1 => bX3_drawn_7 E N h0 (bX3_drawn_7L E N h0 n)
noncomputable def bX3_drawn_0 (E : gE) (N : Nat) (h0 : Nat) (S : GS) (x1 : Int32) (x2 : Int32) : Option (Int32 × GS) :=
  gpv E S (some h0) 39 (.int x2) (fun S_1 =>
  bX3_drawn_7L E N h0 N S_1 x1 (0 : Int32))
noncomputable def fX3_drawn (E : gE) (N : Nat) (S : GS) (h0 : Nat) (x1 : Int32) (x2 : Int32) : Option (Int32 × GS) := bX3_drawn_0 E N h0 S x1 x2
/-! java/lang/Throwable.<init>()V -/
abbrev rJ13_init : Room := { frames := 1, cells := 0, slots := 0, locals := 20 }
noncomputable def bJ13_init_0 (E : gE) (N : Nat) (h0 : Nat) (S : GS) : Option (Int32 × GS) :=
  gpv E S (some h0) 53 (va_rf (some h0)) (fun S_1 =>
  gpv E S_1 (some h0) 54 (va_rf (E.2.2 1)) (fun S_3 =>
  gpv E S_3 (some h0) 55 (va_rf (E.2.2 2)) (fun S_5 =>
  none)))
noncomputable def fJ13_init (E : gE) (N : Nat) (S : GS) (h0 : Nat) : Option (Int32 × GS) := bJ13_init_0 E N h0 S
/-! java/lang/Exception.<init>()V -/
abbrev rJ14_init_2 : Room := { frames := 2, cells := 0, slots := 0, locals := 40 }
noncomputable def bJ14_init_2_0 (E : gE) (N : Nat) (h0 : Nat) (S : GS) : Option (Int32 × GS) :=
  gbd (fJ13_init E N S h0) (fun _ S_2 =>
  some (0, S_2))
noncomputable def fJ14_init_2 (E : gE) (N : Nat) (S : GS) (h0 : Nat) : Option (Int32 × GS) := bJ14_init_2_0 E N h0 S
/-! InchBorders$Named.<init>(Ljava/lang/String;)V -/
abbrev rX9_init : Room := { frames := 1, cells := 0, slots := 0, locals := 20 }
noncomputable def bX9_init_0 (E : gE) (N : Nat) (h0 : Nat) (S : GS) (x1 : Option Nat) : Option (Int32 × GS) :=
  gpv E S (some h0) 61 (va_rf x1) (fun S_1 =>
  some (0, S_1))
noncomputable def fX9_init (E : gE) (N : Nat) (S : GS) (h0 : Nat) (x1 : Option Nat) : Option (Int32 × GS) := bX9_init_0 E N h0 S x1
/-! java/lang/Integer.stringSize(I)I -/
abbrev rJ17_stringSize : Room := { frames := 0, cells := 0, slots := 0, locals := 0 }
noncomputable def bJ17_stringSize_16 (E : gE) (N : Nat) (K16 : GS → Int32 → Int32 → Int32 → Int32 → Option (Int32 × GS)) (S : GS) (x0 : Int32) (x1 : Int32) (x2 : Int32) (x3 : Int32) : Option (Int32 × GS) :=
  if (10 : Int32) ≤ x3 then
    some (((10 : Int32) + x1), S)
  else
    if x0 ≤ x2 then
      K16 S x0 x1 ((10 : Int32) * x2) (x3 + (1 : Int32))
    else
      some ((x3 + x1), S)
noncomputable def bJ17_stringSize_16L (E : gE) (N : Nat) : Nat → GS → Int32 → Int32 → Int32 → Int32 → Option (Int32 × GS)
  | 0 => fun _ _ _ _ _ => none
  | n + 1 => bJ17_stringSize_16 E N (bJ17_stringSize_16L E N n)
noncomputable def bJ17_stringSize_11 (E : gE) (N : Nat) (S : GS) (x0 : Int32) (x1 : Int32) : Option (Int32 × GS) :=
  bJ17_stringSize_16L E N N S x0 x1 (-10 : Int32) (1 : Int32)
noncomputable def bJ17_stringSize_0 (E : gE) (N : Nat) (S : GS) (x0 : Int32) : Option (Int32 × GS) :=
  if x0 < 0 then
    bJ17_stringSize_11 E N S x0 (1 : Int32)
  else
    bJ17_stringSize_11 E N S (-x0) (0 : Int32)
noncomputable def fJ17_stringSize (E : gE) (N : Nat) (S : GS) (x0 : Int32) : Option (Int32 × GS) := bJ17_stringSize_0 E N S x0
/-! java/lang/Integer.getChars(II[B)I -/
abbrev rJ17_getChars : Room := { frames := 0, cells := 0, slots := 0, locals := 0 }
noncomputable def bJ17_getChars_118 (E : gE) (N : Nat) (S : GS) (x5 : Int32) : Option (Int32 × GS) :=
  some (x5, S)
noncomputable def bJ17_getChars_104 (E : gE) (N : Nat) (S : GS) (x2 : Option Nat) (x5 : Int32) (x6 : Int32) : Option (Int32 × GS) :=
  if x6 = 0 then
    bJ17_getChars_118 E N S x5
  else
    gaw 0 E S x2 (x5 + (-1 : Int32)) (vp_nar .byte (45 : Int32)) (fun S_2 =>
    bJ17_getChars_118 E N S_2 (x5 + (-1 : Int32)))
noncomputable def bJ17_getChars_22 (E : gE) (N : Nat) (K22 : GS → Int32 → (Option Nat) → Int32 → Int32 → Option (Int32 × GS)) (S : GS) (x0 : Int32) (x2 : Option Nat) (x5 : Int32) (x6 : Int32) : Option (Int32 × GS) :=
  if (-100 : Int32) < x0 then
    gai 0 S (E.2.2 4) (-x0) (fun v_2 =>
    gaw 0 E S x2 (x5 + (-1 : Int32)) (vp_nar .byte v_2) (fun S_4 =>
    if (-9 : Int32) ≤ x0 then
      bJ17_getChars_104 E N S_4 x2 (x5 + (-1 : Int32)) x6
    else
      gai 0 S_4 (E.2.2 5) (-x0) (fun v_7 =>
      gaw 0 E S_4 x2 ((x5 + (-1 : Int32)) + (-1 : Int32)) (vp_nar .byte v_7) (fun S_9 =>
      bJ17_getChars_104 E N S_9 x2 ((x5 + (-1 : Int32)) + (-1 : Int32)) x6))))
  else
    gai 0 S (E.2.2 4) (((x0 / (100 : Int32)) * (100 : Int32)) - x0) (fun v_11 =>
    gaw 0 E S x2 (x5 + (-1 : Int32)) (vp_nar .byte v_11) (fun S_13 =>
    gai 0 S_13 (E.2.2 5) (((x0 / (100 : Int32)) * (100 : Int32)) - x0) (fun v_15 =>
    gaw 0 E S_13 x2 ((x5 + (-1 : Int32)) + (-1 : Int32)) (vp_nar .byte v_15) (fun S_17 =>
    K22 S_17 (x0 / (100 : Int32)) x2 ((x5 + (-1 : Int32)) + (-1 : Int32)) x6))))
noncomputable def bJ17_getChars_22L (E : gE) (N : Nat) : Nat → GS → Int32 → (Option Nat) → Int32 → Int32 → Option (Int32 × GS)
  | 0 => fun _ _ _ _ _ => none
  | n + 1 => bJ17_getChars_22 E N (bJ17_getChars_22L E N n)
noncomputable def bJ17_getChars_12 (E : gE) (N : Nat) (S : GS) (x0 : Int32) (x2 : Option Nat) (x5 : Int32) (t0 : Int32) : Option (Int32 × GS) :=
  if t0 = 0 then
    bJ17_getChars_22L E N N S (-x0) x2 x5 t0
  else
    bJ17_getChars_22L E N N S x0 x2 x5 t0
noncomputable def bJ17_getChars_0 (E : gE) (N : Nat) (S : GS) (x0 : Int32) (x1 : Int32) (x2 : Option Nat) : Option (Int32 × GS) :=
  if 0 ≤ x0 then
    bJ17_getChars_12 E N S x0 x2 x1 (0 : Int32)
  else
    bJ17_getChars_12 E N S x0 x2 x1 (1 : Int32)
noncomputable def fJ17_getChars (E : gE) (N : Nat) (S : GS) (x0 : Int32) (x1 : Int32) (x2 : Option Nat) : Option (Int32 × GS) := bJ17_getChars_0 E N S x0 x1 x2
/-! java/lang/AbstractStringBuilder.append(I)Ljava/lang/AbstractStringBuilder; -/
abbrev rJ6_append_3 (mc ms : Nat) : Room := { frames := 4, cells := mc, slots := ms, locals := 92 }
noncomputable def bJ6_append_3_33 (E : gE) (N : Nat) (h0 : Nat) (S : GS) (x3 : Int32) (t0 : Int32) : Option (Option Nat × GS) :=
  gpv E S (some h0) 116 (.int x3) (fun S_1 =>
  some ((some h0), S_1))
noncomputable def bJ6_append_3_21 (E : gE) (N : Nat) (h0 : Nat) (S : GS) (x1 : Int32) (x2 : Int32) (x3 : Int32) (t0 : Int32) : Option (Option Nat × GS) :=
  if t0 = 0 then
    ggr S (some h0) 113 (fun v_2 =>
    none)
  else
    ggr S (some h0) 113 (fun v_4 =>
    gbd (fJ17_getChars E N S x1 x3 v_4) (fun r_6 S_7 =>
    bJ6_append_3_33 E N h0 S_7 x3 r_6))
noncomputable def bJ6_append_3_17 (E : gE) (N : Nat) (h0 : Nat) (S : GS) (x1 : Int32) (x2 : Int32) (x3 : Int32) : Option (Option Nat × GS) :=
  gbd (vjava_lang_AbstractStringBuilder_isLatin1___Z E N S (some h0)) (fun r_1 S_2 =>
  bJ6_append_3_21 E N h0 S_2 x1 x2 x3 r_1)
noncomputable def bJ6_append_3_10 (E : gE) (N : Nat) (h0 : Nat) (S : GS) (x1 : Int32) (x2 : Int32) (t0 : Int32) (t1 : Int32) : Option (Option Nat × GS) :=
  gbd (vjava_lang_AbstractStringBuilder_ensureCapacityInternal__I_V E N S (some h0) (t0 + t1)) (fun _ S_2 =>
  bJ6_append_3_17 E N h0 S_2 x1 x2 (t0 + t1))
noncomputable def bJ6_append_3_0 (E : gE) (N : Nat) (h0 : Nat) (S : GS) (x1 : Int32) : Option (Option Nat × GS) :=
  ggi S (some h0) 116 (fun v_1 =>
  gbd (fJ17_stringSize E N S x1) (fun r_3 S_4 =>
  bJ6_append_3_10 E N h0 S_4 x1 v_1 v_1 r_3))
noncomputable def fJ6_append_3 (E : gE) (N : Nat) (S : GS) (h0 : Nat) (x1 : Int32) : Option (Option Nat × GS) := bJ6_append_3_0 E N h0 S x1
/-! java/lang/String.checkIndex(II)V -/
abbrev rJ8_checkIndex : Room := { frames := 1, cells := 0, slots := 0, locals := 22 }
noncomputable def bJ8_checkIndex_0 (E : gE) (N : Nat) (S : GS) (x0 : Int32) (x1 : Int32) : Option (Int32 × GS) :=
  gbd (fJ5_checkIndex E N S x0 x1 (E.2.2 3)) (fun r_1 S_2 =>
  some (0, S_2))
noncomputable def fJ8_checkIndex (E : gE) (N : Nat) (S : GS) (x0 : Int32) (x1 : Int32) : Option (Int32 × GS) := bJ8_checkIndex_0 E N S x0 x1
/-! java/lang/StringLatin1.charAt([BI)C -/
abbrev rJ12_charAt : Room := { frames := 2, cells := 0, slots := 0, locals := 43 }
noncomputable def bJ12_charAt_0 (E : gE) (N : Nat) (S : GS) (x0 : Option Nat) (x1 : Int32) : Option (Int32 × GS) :=
  gal S x0 (fun v_1 =>
  gbd (fJ8_checkIndex E N S x1 v_1) (fun _ S_4 =>
  gai 0 S_4 x0 x1 (fun v_7 =>
  gnt .char (((v_7 &&& (255 : Int32)).toUInt32 % 65536).toInt32) (some ((((v_7 &&& (255 : Int32)).toUInt32 % 65536).toInt32), S_4)))))
noncomputable def fJ12_charAt (E : gE) (N : Nat) (S : GS) (x0 : Option Nat) (x1 : Int32) : Option (Int32 × GS) := bJ12_charAt_0 E N S x0 x1
/-! java/util/AbstractCollection.<init>()V -/
abbrev rJ0_init : Room := { frames := 1, cells := 0, slots := 0, locals := 20 }
noncomputable def bJ0_init_0 (E : gE) (N : Nat) (h0 : Nat) (S : GS) : Option (Int32 × GS) :=
  some (0, S)
noncomputable def fJ0_init (E : gE) (N : Nat) (S : GS) (h0 : Nat) : Option (Int32 × GS) := bJ0_init_0 E N h0 S
/-! java/util/AbstractList.<init>()V -/
abbrev rJ1_init : Room := { frames := 2, cells := 0, slots := 0, locals := 40 }
noncomputable def bJ1_init_0 (E : gE) (N : Nat) (h0 : Nat) (S : GS) : Option (Int32 × GS) :=
  gbd (fJ0_init E N S h0) (fun _ S_2 =>
  gpv E S_2 (some h0) 110 (.int (0 : Int32)) (fun S_5 =>
  some (0, S_5)))
noncomputable def fJ1_init (E : gE) (N : Nat) (S : GS) (h0 : Nat) : Option (Int32 × GS) := bJ1_init_0 E N h0 S
/-! java/util/ArrayList.<init>()V -/
abbrev rJ2_init : Room := { frames := 3, cells := 0, slots := 0, locals := 60 }
noncomputable def bJ2_init_0 (E : gE) (N : Nat) (h0 : Nat) (S : GS) : Option (Int32 × GS) :=
  gbd (fJ1_init E N S h0) (fun _ S_2 =>
  gpv E S_2 (some h0) 111 (va_rf (E.2.2 0)) (fun S_5 =>
  some (0, S_5)))
noncomputable def fJ2_init (E : gE) (N : Nat) (S : GS) (h0 : Nat) : Option (Int32 × GS) := bJ2_init_0 E N h0 S
/-! InchBorders$Atlas.<init>()V -/
abbrev rX2_init (mc ms : Nat) : Room := { frames := 4, cells := mc, slots := ms, locals := 80 }
noncomputable def bX2_init_34 (E : gE) (N : Nat) (h0 : Nat) (S : GS) (t0 : Option Nat) (t1 : Option Nat) : Option (Int32 × GS) :=
  gpv E S t0 27 (va_rf t1) (fun S_1 =>
  some (0, S_1))
noncomputable def bX2_init_30 (E : gE) (N : Nat) (h0 : Nat) (S : GS) (t0 : Option Nat) (t1 : Option Nat) : Option (Int32 × GS) :=
  grf t1 (fun b_5 =>
  gbd (fJ2_init E N S b_5) (fun _ S_2 =>
  bX2_init_34 E N h0 S_2 t0 (some b_5)))
noncomputable def bX2_init_23 (E : gE) (N : Nat) (h0 : Nat) (S : GS) (t0 : Option Nat) (t1 : Option Nat) : Option (Int32 × GS) :=
  gpv E S t0 26 (va_rf t1) (fun S_1 =>
  gnw S_1 24 (fun a_4 S_3 =>
  bX2_init_30 E N h0 S_3 (some h0) (some a_4)))
noncomputable def bX2_init_19 (E : gE) (N : Nat) (h0 : Nat) (S : GS) (t0 : Option Nat) (t1 : Option Nat) : Option (Int32 × GS) :=
  grf t1 (fun b_5 =>
  gbd (fJ2_init E N S b_5) (fun _ S_2 =>
  bX2_init_23 E N h0 S_2 t0 (some b_5)))
noncomputable def bX2_init_12 (E : gE) (N : Nat) (h0 : Nat) (S : GS) (t0 : Option Nat) (t1 : Option Nat) : Option (Int32 × GS) :=
  gpv E S t0 25 (va_rf t1) (fun S_1 =>
  gnw S_1 24 (fun a_4 S_3 =>
  bX2_init_19 E N h0 S_3 (some h0) (some a_4)))
noncomputable def bX2_init_8 (E : gE) (N : Nat) (h0 : Nat) (S : GS) (t0 : Option Nat) (t1 : Option Nat) : Option (Int32 × GS) :=
  grf t1 (fun b_5 =>
  gbd (fJ2_init E N S b_5) (fun _ S_2 =>
  bX2_init_12 E N h0 S_2 t0 (some b_5)))
noncomputable def bX2_init_4 (E : gE) (N : Nat) (h0 : Nat) (S : GS) : Option (Int32 × GS) :=
  gnw S 24 (fun a_2 S_1 =>
  bX2_init_8 E N h0 S_1 (some h0) (some a_2))
noncomputable def bX2_init_0 (E : gE) (N : Nat) (h0 : Nat) (S : GS) : Option (Int32 × GS) :=
  bX2_init_4 E N h0 S
noncomputable def fX2_init (E : gE) (N : Nat) (S : GS) (h0 : Nat) : Option (Int32 × GS) := bX2_init_0 E N h0 S
/-! InchBorders$Kept.<init>()V -/
abbrev rX4_init (mc ms : Nat) : Room := { frames := 2, cells := mc, slots := ms, locals := 40 }
noncomputable def bX4_init_12 (E : gE) (N : Nat) (h0 : Nat) (S : GS) (t0 : Option Nat) (t1 : Option Nat) : Option (Int32 × GS) :=
  gpv E S t0 42 (va_rf t1) (fun S_1 =>
  some (0, S_1))
noncomputable def bX4_init_8 (E : gE) (N : Nat) (h0 : Nat) (S : GS) (t0 : Option Nat) (t1 : Option Nat) : Option (Int32 × GS) :=
  grf t1 (fun b_5 =>
  gbd (fX3_init E N S b_5) (fun _ S_2 =>
  bX4_init_12 E N h0 S_2 t0 (some b_5)))
noncomputable def bX4_init_4 (E : gE) (N : Nat) (h0 : Nat) (S : GS) : Option (Int32 × GS) :=
  gnw S 2 (fun a_2 S_1 =>
  bX4_init_8 E N h0 S_1 (some h0) (some a_2))
noncomputable def bX4_init_0 (E : gE) (N : Nat) (h0 : Nat) (S : GS) : Option (Int32 × GS) :=
  bX4_init_4 E N h0 S
noncomputable def fX4_init (E : gE) (N : Nat) (S : GS) (h0 : Nat) : Option (Int32 × GS) := bX4_init_0 E N h0 S
noncomputable def vInchBorders_Times_begin__LInchBorders_Atlas__LInchBorders_Times_ (E : gE) (N : Nat) (S : GS) (r : Option Nat) (y0 : Option Nat) : Option (Option Nat × GS) := gvd S r (fun b ci =>
  if ci = 2 then fX3_begin E N S b y0 else
  none)
/-! InchBorders.<init>()V -/
abbrev rX1_init (mc ms : Nat) : Room := { frames := 5, cells := mc, slots := ms, locals := 107 }
noncomputable def bX1_init_191 (E : gE) (N : Nat) (h0 : Nat) (K173 : GS → Int32 → Option (Int32 × GS)) (S : GS) (x1 : Int32) (t0 : Option Nat) (t1 : Int32) (t2 : Option Nat) : Option (Int32 × GS) :=
  gaq E S t0 t1 t2 (fun S_1 =>
  K173 S_1 (x1 + (1 : Int32)))
noncomputable def bX1_init_187 (E : gE) (N : Nat) (h0 : Nat) (K173 : GS → Int32 → Option (Int32 × GS)) (S : GS) (x1 : Int32) (t0 : Option Nat) (t1 : Int32) (t2 : Option Nat) : Option (Int32 × GS) :=
  grf t2 (fun b_5 =>
  gbd (fX3_init E N S b_5) (fun _ S_2 =>
  bX1_init_191 E N h0 K173 S_2 x1 t0 t1 (some b_5)))
noncomputable def bX1_init_173 (E : gE) (N : Nat) (h0 : Nat) (K173 : GS → Int32 → Option (Int32 × GS)) (S : GS) (x1 : Int32) : Option (Int32 × GS) :=
  if (8 : Int32) ≤ x1 then
    some (0, S)
  else
    ggr S (some h0) 7 (fun v_2 =>
    gnw S 2 (fun a_5 S_4 =>
    bX1_init_187 E N h0 K173 S_4 x1 v_2 x1 (some a_5)))
noncomputable def bX1_init_173L (E : gE) (N : Nat) (h0 : Nat) : Nat → GS → Int32 → Option (Int32 × GS)
  | 0 => fun _ _ => none
  | n + 1 => bX1_init_173 E N h0 (bX1_init_173L E N h0 n)
noncomputable def bX1_init_167 (E : gE) (N : Nat) (h0 : Nat) (S : GS) (t0 : Option Nat) (t1 : Option Nat) (t2 : Option Nat) (t3 : Int32) (t4 : Option Nat) : Option (Int32 × GS) :=
  gaq E S t2 t3 t4 (fun S_1 =>
  gpv E S_1 t0 23 (va_rf t1) (fun S_3 =>
  bX1_init_173L E N h0 N S_3 (0 : Int32)))
noncomputable def bX1_init_163 (E : gE) (N : Nat) (h0 : Nat) (S : GS) (t0 : Option Nat) (t1 : Option Nat) (t2 : Option Nat) (t3 : Int32) (t4 : Option Nat) : Option (Int32 × GS) :=
  grf t4 (fun b_5 =>
  gbd (fX4_init E N S b_5) (fun _ S_2 =>
  bX1_init_167 E N h0 S_2 t0 t1 t2 t3 (some b_5)))
noncomputable def bX1_init_157 (E : gE) (N : Nat) (h0 : Nat) (S : GS) (t0 : Option Nat) (t1 : Option Nat) (t2 : Option Nat) (t3 : Int32) (t4 : Option Nat) : Option (Int32 × GS) :=
  gaq E S t2 t3 t4 (fun S_1 =>
  gnw S_1 3 (fun a_4 S_3 =>
  bX1_init_163 E N h0 S_3 t0 t1 t1 (1 : Int32) (some a_4)))
noncomputable def bX1_init_153 (E : gE) (N : Nat) (h0 : Nat) (S : GS) (t0 : Option Nat) (t1 : Option Nat) (t2 : Option Nat) (t3 : Int32) (t4 : Option Nat) : Option (Int32 × GS) :=
  grf t4 (fun b_5 =>
  gbd (fX4_init E N S b_5) (fun _ S_2 =>
  bX1_init_157 E N h0 S_2 t0 t1 t2 t3 (some b_5)))
noncomputable def bX1_init_148 (E : gE) (N : Nat) (h0 : Nat) (S : GS) (t0 : Option Nat) (t1 : Option Nat) : Option (Int32 × GS) :=
  gnw S 3 (fun a_2 S_1 =>
  bX1_init_153 E N h0 S_1 t0 t1 t1 (0 : Int32) (some a_2))
noncomputable def bX1_init_124 (E : gE) (N : Nat) (h0 : Nat) (S : GS) (t0 : Option Nat) (t1 : Option Nat) : Option (Int32 × GS) :=
  gaw 1 E S t1 (0 : Int32) (-1 : Int32) (fun S_1 =>
  gaw 1 E S_1 t1 (1 : Int32) (-1 : Int32) (fun S_3 =>
  gaw 1 E S_3 t1 (2 : Int32) (-1 : Int32) (fun S_5 =>
  gaw 1 E S_5 t1 (3 : Int32) (-1 : Int32) (fun S_7 =>
  gpv E S_7 t0 22 (va_rf t1) (fun S_9 =>
  gna S_9 4 (2 : Int32) (fun a_12 S_11 =>
  bX1_init_148 E N h0 S_11 (some h0) (some a_12)))))))
noncomputable def bX1_init_106 (E : gE) (N : Nat) (h0 : Nat) (S : GS) (t0 : Option Nat) (t1 : Option Nat) : Option (Int32 × GS) :=
  gpv E S t0 16 (va_rf t1) (fun S_1 =>
  gpv E S_1 (some h0) 20 (.int (-1 : Int32)) (fun S_3 =>
  gpv E S_3 (some h0) 21 (va_rf (some (E.2.1 0))) (fun S_5 =>
  gna S_5 1 (4 : Int32) (fun a_8 S_7 =>
  bX1_init_124 E N h0 S_7 (some h0) (some a_8)))))
noncomputable def bX1_init_98 (E : gE) (N : Nat) (h0 : Nat) (S : GS) (t0 : Option Nat) (t1 : Option Nat) : Option (Int32 × GS) :=
  gpv E S t0 15 (va_rf t1) (fun S_1 =>
  gna S_1 1 (6 : Int32) (fun a_4 S_3 =>
  bX1_init_106 E N h0 S_3 (some h0) (some a_4)))
noncomputable def bX1_init_80 (E : gE) (N : Nat) (h0 : Nat) (S : GS) (t0 : Option Nat) (t1 : Option Nat) : Option (Int32 × GS) :=
  gpv E S t0 10 (va_rf t1) (fun S_1 =>
  gpv E S_1 (some h0) 13 (.int (-1 : Int32)) (fun S_3 =>
  gpv E S_3 (some h0) 14 (.int (-1 : Int32)) (fun S_5 =>
  gna S_5 1 (6 : Int32) (fun a_8 S_7 =>
  bX1_init_98 E N h0 S_7 (some h0) (some a_8)))))
noncomputable def bX1_init_73 (E : gE) (N : Nat) (h0 : Nat) (S : GS) (t0 : Option Nat) (t1 : Option Nat) : Option (Int32 × GS) :=
  gpv E S t0 9 (va_rf t1) (fun S_1 =>
  gna S_1 1 (5 : Int32) (fun a_4 S_3 =>
  bX1_init_80 E N h0 S_3 (some h0) (some a_4)))
noncomputable def bX1_init_66 (E : gE) (N : Nat) (h0 : Nat) (S : GS) (t0 : Option Nat) (t1 : Option Nat) : Option (Int32 × GS) :=
  gpv E S t0 7 (va_rf t1) (fun S_1 =>
  gna S_1 1 (5 : Int32) (fun a_4 S_3 =>
  bX1_init_73 E N h0 S_3 (some h0) (some a_4)))
noncomputable def bX1_init_57 (E : gE) (N : Nat) (h0 : Nat) (S : GS) (t0 : Option Nat) (t1 : Option Nat) : Option (Int32 × GS) :=
  gpv E S t0 5 (va_rf t1) (fun S_1 =>
  gna S_1 3 (8 : Int32) (fun a_4 S_3 =>
  bX1_init_66 E N h0 S_3 (some h0) (some a_4)))
noncomputable def bX1_init_50 (E : gE) (N : Nat) (h0 : Nat) (S : GS) (t0 : Option Nat) (t1 : Option Nat) : Option (Int32 × GS) :=
  ggr S (some h0) 3 (fun v_1 =>
  gbd (vInchBorders_Times_begin__LInchBorders_Atlas__LInchBorders_Times_ E N S t1 v_1) (fun r_3 S_4 =>
  bX1_init_57 E N h0 S_4 t0 r_3))
noncomputable def bX1_init_46 (E : gE) (N : Nat) (h0 : Nat) (S : GS) (t0 : Option Nat) (t1 : Option Nat) : Option (Int32 × GS) :=
  grf t1 (fun b_5 =>
  gbd (fX3_init E N S b_5) (fun _ S_2 =>
  bX1_init_50 E N h0 S_2 t0 (some b_5)))
noncomputable def bX1_init_39 (E : gE) (N : Nat) (h0 : Nat) (S : GS) (t0 : Option Nat) (t1 : Option Nat) : Option (Int32 × GS) :=
  gpv E S t0 4 (va_rf t1) (fun S_1 =>
  gnw S_1 2 (fun a_4 S_3 =>
  bX1_init_46 E N h0 S_3 (some h0) (some a_4)))
noncomputable def bX1_init_32 (E : gE) (N : Nat) (h0 : Nat) (S : GS) (t0 : Option Nat) (t1 : Option Nat) : Option (Int32 × GS) :=
  ggr S (some h0) 3 (fun v_1 =>
  gbd (vInchBorders_Times_begin__LInchBorders_Atlas__LInchBorders_Times_ E N S t1 v_1) (fun r_3 S_4 =>
  bX1_init_39 E N h0 S_4 t0 r_3))
noncomputable def bX1_init_28 (E : gE) (N : Nat) (h0 : Nat) (S : GS) (t0 : Option Nat) (t1 : Option Nat) : Option (Int32 × GS) :=
  grf t1 (fun b_5 =>
  gbd (fX3_init E N S b_5) (fun _ S_2 =>
  bX1_init_32 E N h0 S_2 t0 (some b_5)))
noncomputable def bX1_init_21 (E : gE) (N : Nat) (h0 : Nat) (S : GS) (t0 : Option Nat) (t1 : Option Nat) : Option (Int32 × GS) :=
  gpv E S t0 3 (va_rf t1) (fun S_1 =>
  gnw S_1 2 (fun a_4 S_3 =>
  bX1_init_28 E N h0 S_3 (some h0) (some a_4)))
noncomputable def bX1_init_17 (E : gE) (N : Nat) (h0 : Nat) (S : GS) (t0 : Option Nat) (t1 : Option Nat) : Option (Int32 × GS) :=
  grf t1 (fun b_5 =>
  gbd (fX2_init E N S b_5) (fun _ S_2 =>
  bX1_init_21 E N h0 S_2 t0 (some b_5)))
noncomputable def bX1_init_10 (E : gE) (N : Nat) (h0 : Nat) (S : GS) (t0 : Option Nat) (t1 : Option Nat) : Option (Int32 × GS) :=
  gpv E S t0 0 (va_rf t1) (fun S_1 =>
  gnw S_1 1 (fun a_4 S_3 =>
  bX1_init_17 E N h0 S_3 (some h0) (some a_4)))
noncomputable def bX1_init_4 (E : gE) (N : Nat) (h0 : Nat) (S : GS) : Option (Int32 × GS) :=
  gna S 0 (940 : Int32) (fun a_2 S_1 =>
  bX1_init_10 E N h0 S_1 (some h0) (some a_2))
noncomputable def bX1_init_0 (E : gE) (N : Nat) (h0 : Nat) (S : GS) : Option (Int32 × GS) :=
  bX1_init_4 E N h0 S
noncomputable def fX1_init (E : gE) (N : Nat) (S : GS) (h0 : Nat) : Option (Int32 × GS) := bX1_init_0 E N h0 S
/-! InchBorders.come(I)V -/
abbrev rX1_come : Room := { frames := 0, cells := 0, slots := 0, locals := 0 }
noncomputable def bX1_come_3 (E : gE) (N : Nat) (h0 : Nat) (K3 : GS → Int32 → Int32 → Option (Int32 × GS)) (S : GS) (x1 : Int32) (x2 : Int32) : Option (Int32 × GS) :=
  if x2 < 0 then
    some (0, S)
  else
    ggr S (some h0) 0 (fun v_2 =>
    ggi S (some h0) 1 (fun v_4 =>
    gaw 0 E S v_2 v_4 (vp_nar .byte ((x1 >>> (x2 &&& 31)).toInt8.toInt32)) (fun S_6 =>
    ggi S_6 (some h0) 1 (fun v_8 =>
    gpv E S_6 (some h0) 1 (.int (v_8 + (1 : Int32))) (fun S_10 =>
    K3 S_10 x1 (x2 + (-8 : Int32)))))))
noncomputable def bX1_come_3L (E : gE) (N : Nat) (h0 : Nat) : Nat → GS → Int32 → Int32 → Option (Int32 × GS)
  | 0 => fun _ _ _ => none
  | n + 1 => bX1_come_3 E N h0 (bX1_come_3L E N h0 n)
noncomputable def bX1_come_0 (E : gE) (N : Nat) (h0 : Nat) (S : GS) (x1 : Int32) : Option (Int32 × GS) :=
  bX1_come_3L E N h0 N S x1 (24 : Int32)
noncomputable def fX1_come (E : gE) (N : Nat) (S : GS) (h0 : Nat) (x1 : Int32) : Option (Int32 × GS) := bX1_come_0 E N h0 S x1
noncomputable def vInchBorders_come__I_V (E : gE) (N : Nat) (S : GS) (r : Option Nat) (y0 : Int32) : Option (Int32 × GS) := gvd S r (fun b ci =>
  if ci = 0 then fX1_come E N S b y0 else
  none)
/-! InchBorders.feed(IIIII)I -/
abbrev rX1_feed : Room := { frames := 1, cells := 0, slots := 0, locals := 22 }
noncomputable def bX1_feed_0 (E : gE) (N : Nat) (h0 : Nat) (S : GS) (x1 : Int32) (x2 : Int32) (x3 : Int32) (x4 : Int32) (x5 : Int32) : Option (Int32 × GS) :=
  ggi S (some h0) 1 (fun v_1 =>
  if (v_1 + (20 : Int32)) ≤ (940 : Int32) then
    gbd (vInchBorders_come__I_V E N S (some h0) x1) (fun _ S_5 =>
    gbd (vInchBorders_come__I_V E N S_5 (some h0) x2) (fun _ S_9 =>
    gbd (vInchBorders_come__I_V E N S_9 (some h0) x3) (fun _ S_13 =>
    gbd (vInchBorders_come__I_V E N S_13 (some h0) x4) (fun _ S_17 =>
    gbd (vInchBorders_come__I_V E N S_17 (some h0) x5) (fun _ S_21 =>
    ggi S_21 (some h0) 1 (fun v_24 =>
    some (v_24, S_21)))))))
  else
    some ((-1 : Int32), S))
noncomputable def fX1_feed (E : gE) (N : Nat) (S : GS) (h0 : Nat) (x1 : Int32) (x2 : Int32) (x3 : Int32) (x4 : Int32) (x5 : Int32) : Option (Int32 × GS) := bX1_feed_0 E N h0 S x1 x2 x3 x4 x5
/-! InchBorders.end(I)Z -/
abbrev rX1_end : Room := { frames := 0, cells := 0, slots := 0, locals := 0 }
noncomputable def bX1_end_12 (E : gE) (N : Nat) (h0 : Nat) (S : GS) : Option (Int32 × GS) :=
  mzt (0 : Int32) (some ((0 : Int32), S))
noncomputable def bX1_end_0 (E : gE) (N : Nat) (h0 : Nat) (S : GS) (x1 : Int32) : Option (Int32 × GS) :=
  if x1 < 0 then
    bX1_end_12 E N h0 S
  else
    ggi S (some h0) 1 (fun v_2 =>
    if x1 ≤ v_2 then
      gpv E S (some h0) 1 (.int x1) (fun S_5 =>
      mzt (1 : Int32) (some ((1 : Int32), S_5)))
    else
      bX1_end_12 E N h0 S)
noncomputable def fX1_end (E : gE) (N : Nat) (S : GS) (h0 : Nat) (x1 : Int32) : Option (Int32 × GS) := bX1_end_0 E N h0 S x1
/-! InchBorders.take()I -/
abbrev rX1_take : Room := { frames := 0, cells := 0, slots := 0, locals := 0 }
noncomputable def bX1_take_0 (E : gE) (N : Nat) (h0 : Nat) (S : GS) : Option (Int32 × GS) :=
  ggi S (some h0) 1 (fun v_1 =>
  gpv E S (some h0) 1 (.int (0 : Int32)) (fun S_3 =>
  some (v_1, S_3)))
noncomputable def fX1_take (E : gE) (N : Nat) (S : GS) (h0 : Nat) : Option (Int32 × GS) := bX1_take_0 E N h0 S
/-! InchBorders$MapReader.<init>([BI)V -/
abbrev rX7_init (mc ms : Nat) : Room := { frames := 5, cells := mc, slots := ms, locals := 100 }
noncomputable def bX7_init_17 (E : gE) (N : Nat) (h0 : Nat) (S : GS) (t0 : Option Nat) (t1 : Option Nat) : Option (Int32 × GS) :=
  gpv E S t0 52 (va_rf t1) (fun S_1 =>
  some (0, S_1))
noncomputable def bX7_init_13 (E : gE) (N : Nat) (h0 : Nat) (S : GS) (t0 : Option Nat) (t1 : Option Nat) : Option (Int32 × GS) :=
  grf t1 (fun b_5 =>
  gbd (fX2_init E N S b_5) (fun _ S_2 =>
  bX7_init_17 E N h0 S_2 t0 (some b_5)))
noncomputable def bX7_init_9 (E : gE) (N : Nat) (h0 : Nat) (S : GS) : Option (Int32 × GS) :=
  gnw S 1 (fun a_2 S_1 =>
  bX7_init_13 E N h0 S_1 (some h0) (some a_2))
noncomputable def bX7_init_0 (E : gE) (N : Nat) (h0 : Nat) (S : GS) (x1 : Option Nat) (x2 : Int32) : Option (Int32 × GS) :=
  gbd (fX6_init E N S h0 x1 x2 (900 : Int32)) (fun _ S_2 =>
  bX7_init_9 E N h0 S_2)
noncomputable def fX7_init (E : gE) (N : Nat) (S : GS) (h0 : Nat) (x1 : Option Nat) (x2 : Int32) : Option (Int32 × GS) := bX7_init_0 E N h0 S x1 x2
noncomputable def vInchBorders_MapReader_need__ZI_V (E : gE) (N : Nat) (S : GS) (r : Option Nat) (y0 : Int32) (y1 : Int32) : Option ((Int32 ⊕ Nat) × GS) := gvd S r (fun b ci =>
  if ci = 4 then fX6_need E N S b y0 y1 else
  none)
noncomputable def vInchBorders_MapReader_go___V (E : gE) (N : Nat) (S : GS) (r : Option Nat) : Option (Int32 × GS) := gvd S r (fun b ci =>
  if ci = 4 then fX6_go E N S b else
  none)
/-! InchBorders$MapReader.first(II)V -/
abbrev rX7_first (mc ms : Nat) : Room := { frames := 7, cells := mc, slots := ms, locals := 175 }
noncomputable def bX7_first_19 (E : gE) (N : Nat) (h0 : Nat) (S : GS) : Option ((Int32 ⊕ Nat) × GS) :=
  some (Sum.inl 0, S)
noncomputable def bX7_first_15 (E : gE) (N : Nat) (h0 : Nat) (S : GS) : Option ((Int32 ⊕ Nat) × GS) :=
  gbd (vInchBorders_MapReader_go___V E N S (some h0)) (fun _ S_2 =>
  bX7_first_19 E N h0 S_2)
noncomputable def bX7_first_11 (E : gE) (N : Nat) (h0 : Nat) (S : GS) (t0 : Option Nat) (t1 : Int32) : Option ((Int32 ⊕ Nat) × GS) :=
  gbx (vInchBorders_MapReader_need__ZI_V E N S t0 t1 (4 : Int32)) (fun _ S_2 =>
  bX7_first_15 E N h0 S_2)
noncomputable def bX7_first_0 (E : gE) (N : Nat) (h0 : Nat) (S : GS) (x1 : Int32) (x2 : Int32) : Option ((Int32 ⊕ Nat) × GS) :=
  if x2 ≤ x1 then
    bX7_first_11 E N h0 S (some h0) (0 : Int32)
  else
    bX7_first_11 E N h0 S (some h0) (1 : Int32)
noncomputable def fX7_first (E : gE) (N : Nat) (S : GS) (h0 : Nat) (x1 : Int32) (x2 : Int32) : Option ((Int32 ⊕ Nat) × GS) := bX7_first_0 E N h0 S x1 x2
noncomputable def vInchBorders_MapReader_isName___Z (E : gE) (N : Nat) (S : GS) (r : Option Nat) : Option (Int32 × GS) := gvd S r (fun b ci =>
  if ci = 4 then fX6_isName E N S b else
  none)
noncomputable def vInchBorders_MapReader_find__Ljava_util_ArrayList__I (E : gE) (N : Nat) (S : GS) (r : Option Nat) (y0 : Option Nat) : Option (Int32 × GS) := gvd S r (fun b ci =>
  if ci = 4 then fX6_find E N S b y0 else
  none)
/-! InchBorders$MapReader.fresh()Ljava/lang/String; -/
abbrev rX7_fresh (mc ms : Nat) : Room := { frames := 8, cells := mc, slots := ms, locals := 177 }
noncomputable def bX7_fresh_58 (E : gE) (N : Nat) (h0 : Nat) (S : GS) (x1 : Option Nat) : Option ((Option Nat ⊕ Nat) × GS) :=
  some (Sum.inl x1, S)
noncomputable def bX7_fresh_49 (E : gE) (N : Nat) (h0 : Nat) (S : GS) : Option ((Option Nat ⊕ Nat) × GS) :=
  ggr S (some h0) 51 (fun v_1 =>
  gbd (vInchBorders_MapReader_go___V E N S (some h0)) (fun _ S_4 =>
  bX7_fresh_58 E N h0 S_4 v_1))
noncomputable def bX7_fresh_45 (E : gE) (N : Nat) (h0 : Nat) (S : GS) (t0 : Option Nat) (t1 : Int32) : Option ((Option Nat ⊕ Nat) × GS) :=
  gbx (vInchBorders_MapReader_need__ZI_V E N S t0 t1 (3 : Int32)) (fun _ S_2 =>
  bX7_fresh_49 E N h0 S_2)
noncomputable def bX7_fresh_44 (E : gE) (N : Nat) (h0 : Nat) (S : GS) (t0 : Option Nat) : Option ((Option Nat ⊕ Nat) × GS) :=
  bX7_fresh_45 E N h0 S t0 (0 : Int32)
noncomputable def bX7_fresh_36 (E : gE) (N : Nat) (h0 : Nat) (S : GS) (t0 : Option Nat) (t1 : Int32) : Option ((Option Nat ⊕ Nat) × GS) :=
  if t1 = (-1 : Int32) then
    bX7_fresh_45 E N h0 S t0 (1 : Int32)
  else
    bX7_fresh_44 E N h0 S t0
noncomputable def bX7_fresh_21 (E : gE) (N : Nat) (h0 : Nat) (S : GS) (t0 : Option Nat) (t1 : Int32) : Option ((Option Nat ⊕ Nat) × GS) :=
  if t1 = (-1 : Int32) then
    ggr S (some h0) 52 (fun v_2 =>
    ggr S v_2 27 (fun v_4 =>
    gbd (vInchBorders_MapReader_find__Ljava_util_ArrayList__I E N S (some h0) v_4) (fun r_6 S_7 =>
    bX7_fresh_36 E N h0 S_7 t0 r_6)))
  else
    bX7_fresh_44 E N h0 S t0
noncomputable def bX7_fresh_9 (E : gE) (N : Nat) (h0 : Nat) (S : GS) : Option ((Option Nat ⊕ Nat) × GS) :=
  ggr S (some h0) 52 (fun v_1 =>
  ggr S v_1 25 (fun v_3 =>
  gbd (vInchBorders_MapReader_find__Ljava_util_ArrayList__I E N S (some h0) v_3) (fun r_5 S_6 =>
  bX7_fresh_21 E N h0 S_6 (some h0) r_5)))
noncomputable def bX7_fresh_5 (E : gE) (N : Nat) (h0 : Nat) (S : GS) (t0 : Option Nat) (t1 : Int32) : Option ((Option Nat ⊕ Nat) × GS) :=
  gbx (vInchBorders_MapReader_need__ZI_V E N S t0 t1 (1 : Int32)) (fun _ S_2 =>
  bX7_fresh_9 E N h0 S_2)
noncomputable def bX7_fresh_0 (E : gE) (N : Nat) (h0 : Nat) (S : GS) : Option ((Option Nat ⊕ Nat) × GS) :=
  gbd (vInchBorders_MapReader_isName___Z E N S (some h0)) (fun r_1 S_2 =>
  bX7_fresh_5 E N h0 S_2 (some h0) r_1)
noncomputable def fX7_fresh (E : gE) (N : Nat) (S : GS) (h0 : Nat) : Option ((Option Nat ⊕ Nat) × GS) := bX7_fresh_0 E N h0 S
/-! InchBorders$Land.<init>(Ljava/lang/String;II)V -/
abbrev rX10_init : Room := { frames := 2, cells := 0, slots := 0, locals := 41 }
noncomputable def bX10_init_0 (E : gE) (N : Nat) (h0 : Nat) (S : GS) (x1 : Option Nat) (x2 : Int32) (x3 : Int32) : Option (Int32 × GS) :=
  gbd (fX9_init E N S h0 x1) (fun _ S_2 =>
  gpv E S_2 (some h0) 62 (.int x2) (fun S_5 =>
  gpv E S_5 (some h0) 63 (.int x3) (fun S_7 =>
  some (0, S_7))))
noncomputable def fX10_init (E : gE) (N : Nat) (S : GS) (h0 : Nat) (x1 : Option Nat) (x2 : Int32) (x3 : Int32) : Option (Int32 × GS) := bX10_init_0 E N h0 S x1 x2 x3
/-! java/util/Arrays.copyOf([Ljava/lang/Object;ILjava/lang/Class;)[Ljava/lang/Object; -/
abbrev rJ3_copyOf_3 (mc ms : Nat) : Room := { frames := 1, cells := mc, slots := ms, locals := 40 }
noncomputable def bJ3_copyOf_3_38 (E : gE) (N : Nat) (S : GS) (x3 : Option Nat) : Option (Option Nat × GS) :=
  some (x3, S)
noncomputable def bJ3_copyOf_3_35 (E : gE) (N : Nat) (S : GS) (x3 : Option Nat) (t0 : Option Nat) (t1 : Int32) (t2 : Option Nat) (t3 : Int32) (t4 : Int32) : Option (Option Nat × GS) :=
  gcp E S t0 t1 t2 t3 t4 (fun S_1 =>
  bJ3_copyOf_3_38 E N S_1 x3)
noncomputable def bJ3_copyOf_3_10 (E : gE) (N : Nat) (S : GS) (x0 : Option Nat) (x1 : Int32) (t0 : Option Nat) : Option (Option Nat × GS) :=
  gal S x0 (fun v_1 =>
  bJ3_copyOf_3_35 E N S t0 x0 (0 : Int32) t0 (0 : Int32) (if x1 < v_1 then x1 else v_1))
noncomputable def bJ3_copyOf_3_0 (E : gE) (N : Nat) (S : GS) (x0 : Option Nat) (x1 : Int32) (x2 : Option Nat) : Option (Option Nat × GS) :=
  if x2 = (E.2.2 6) then
    gna S 2 x1 (fun a_3 S_2 =>
    bJ3_copyOf_3_10 E N S_2 x0 x1 (some a_3))
  else
    none
noncomputable def fJ3_copyOf_3 (E : gE) (N : Nat) (S : GS) (x0 : Option Nat) (x1 : Int32) (x2 : Option Nat) : Option (Option Nat × GS) := bJ3_copyOf_3_0 E N S x0 x1 x2
/-! java/util/Arrays.copyOf([Ljava/lang/Object;I)[Ljava/lang/Object; -/
abbrev rJ3_copyOf_2 (mc ms : Nat) : Room := { frames := 2, cells := mc, slots := ms, locals := 63 }
noncomputable def bJ3_copyOf_2_9 (E : gE) (N : Nat) (S : GS) (t0 : Option Nat) : Option (Option Nat × GS) :=
  some (t0, S)
noncomputable def bJ3_copyOf_2_6 (E : gE) (N : Nat) (S : GS) (t0 : Option Nat) (t1 : Int32) (t2 : Option Nat) : Option (Option Nat × GS) :=
  gbd (fJ3_copyOf_3 E N S t0 t1 t2) (fun r_1 S_2 =>
  bJ3_copyOf_2_9 E N S_2 r_1)
noncomputable def bJ3_copyOf_2_0 (E : gE) (N : Nat) (S : GS) (x0 : Option Nat) (x1 : Int32) : Option (Option Nat × GS) :=
  ggc E S x0 (fun v_2 =>
  bJ3_copyOf_2_6 E N S x0 x1 v_2)
noncomputable def fJ3_copyOf_2 (E : gE) (N : Nat) (S : GS) (x0 : Option Nat) (x1 : Int32) : Option (Option Nat × GS) := bJ3_copyOf_2_0 E N S x0 x1
/-! java/util/ArrayList.grow(I)[Ljava/lang/Object; -/
abbrev rJ2_grow_2 (mc ms : Nat) : Room := { frames := 3, cells := mc, slots := ms, locals := 84 }
noncomputable def bJ2_grow_2_40 (E : gE) (N : Nat) (h0 : Nat) (S : GS) (t0 : Option Nat) (t1 : Option Nat) : Option (Option Nat × GS) :=
  gpv E S t0 111 (va_rf t1) (fun S_1 =>
  some (t1, S_1))
noncomputable def bJ2_grow_2_30 (E : gE) (N : Nat) (h0 : Nat) (S : GS) (t0 : Int32) : Option (Option Nat × GS) :=
  ggr S (some h0) 111 (fun v_1 =>
  gbd (fJ3_copyOf_2 E N S v_1 t0) (fun r_3 S_4 =>
  bJ2_grow_2_40 E N h0 S_4 (some h0) r_3))
noncomputable def bJ2_grow_2_20 (E : gE) (N : Nat) (h0 : Nat) (S : GS) (x1 : Int32) (x2 : Int32) : Option (Option Nat × GS) :=
  gbd (fJ10_newLength E N S x2 (x1 - x2) (x2 >>> ((1 : Int32) &&& 31))) (fun r_1 S_2 =>
  bJ2_grow_2_30 E N h0 S_2 r_1)
noncomputable def bJ2_grow_2_55 (E : gE) (N : Nat) (h0 : Nat) (S : GS) (t0 : Option Nat) (t1 : Option Nat) : Option (Option Nat × GS) :=
  gpv E S t0 111 (va_rf t1) (fun S_1 =>
  some (t1, S_1))
noncomputable def bJ2_grow_2_52 (E : gE) (N : Nat) (h0 : Nat) (S : GS) (t0 : Option Nat) (t1 : Int32) : Option (Option Nat × GS) :=
  gna S 2 t1 (fun a_2 S_1 =>
  bJ2_grow_2_55 E N h0 S_1 t0 (some a_2))
noncomputable def bJ2_grow_2_0 (E : gE) (N : Nat) (h0 : Nat) (S : GS) (x1 : Int32) : Option (Option Nat × GS) :=
  ggr S (some h0) 111 (fun v_1 =>
  gal S v_1 (fun v_3 =>
  if 0 < v_3 then
    bJ2_grow_2_20 E N h0 S x1 v_3
  else
    ggr S (some h0) 111 (fun v_6 =>
    if v_6 = (E.2.2 0) then
      bJ2_grow_2_52 E N h0 S (some h0) (if (10 : Int32) < x1 then x1 else (10 : Int32))
    else
      bJ2_grow_2_20 E N h0 S x1 v_3)))
noncomputable def fJ2_grow_2 (E : gE) (N : Nat) (S : GS) (h0 : Nat) (x1 : Int32) : Option (Option Nat × GS) := bJ2_grow_2_0 E N h0 S x1
noncomputable def vjava_util_ArrayList_grow__I__Ljava_lang_Object_ (E : gE) (N : Nat) (S : GS) (r : Option Nat) (y0 : Int32) : Option (Option Nat × GS) := gvd S r (fun b ci =>
  if ci = 24 then fJ2_grow_2 E N S b y0 else
  none)
/-! java/util/ArrayList.grow()[Ljava/lang/Object; -/
abbrev rJ2_grow (mc ms : Nat) : Room := { frames := 4, cells := mc, slots := ms, locals := 107 }
noncomputable def bJ2_grow_10 (E : gE) (N : Nat) (h0 : Nat) (S : GS) (t0 : Option Nat) : Option (Option Nat × GS) :=
  some (t0, S)
noncomputable def bJ2_grow_0 (E : gE) (N : Nat) (h0 : Nat) (S : GS) : Option (Option Nat × GS) :=
  ggi S (some h0) 112 (fun v_1 =>
  gbd (vjava_util_ArrayList_grow__I__Ljava_lang_Object_ E N S (some h0) (v_1 + (1 : Int32))) (fun r_3 S_4 =>
  bJ2_grow_10 E N h0 S_4 r_3))
noncomputable def fJ2_grow (E : gE) (N : Nat) (S : GS) (h0 : Nat) : Option (Option Nat × GS) := bJ2_grow_0 E N h0 S
noncomputable def vjava_util_ArrayList_grow____Ljava_lang_Object_ (E : gE) (N : Nat) (S : GS) (r : Option Nat) : Option (Option Nat × GS) := gvd S r (fun b ci =>
  if ci = 24 then fJ2_grow E N S b else
  none)
/-! java/util/ArrayList.add(Ljava/lang/Object;[Ljava/lang/Object;I)V -/
abbrev rJ2_add_2 (mc ms : Nat) : Room := { frames := 5, cells := mc, slots := ms, locals := 127 }
noncomputable def bJ2_add_2_11 (E : gE) (N : Nat) (h0 : Nat) (S : GS) (x1 : Option Nat) (x2 : Option Nat) (x3 : Int32) : Option (Int32 × GS) :=
  gaq E S x2 x3 x1 (fun S_1 =>
  gpv E S_1 (some h0) 112 (.int (x3 + (1 : Int32))) (fun S_3 =>
  some (0, S_3)))
noncomputable def bJ2_add_2_10 (E : gE) (N : Nat) (h0 : Nat) (S : GS) (x1 : Option Nat) (x3 : Int32) (t0 : Option Nat) : Option (Int32 × GS) :=
  bJ2_add_2_11 E N h0 S x1 t0 x3
noncomputable def bJ2_add_2_0 (E : gE) (N : Nat) (h0 : Nat) (S : GS) (x1 : Option Nat) (x2 : Option Nat) (x3 : Int32) : Option (Int32 × GS) :=
  gal S x2 (fun v_1 =>
  if x3 = v_1 then
    gbd (vjava_util_ArrayList_grow____Ljava_lang_Object_ E N S (some h0)) (fun r_4 S_5 =>
    bJ2_add_2_10 E N h0 S_5 x1 x3 r_4)
  else
    bJ2_add_2_11 E N h0 S x1 x2 x3)
noncomputable def fJ2_add_2 (E : gE) (N : Nat) (S : GS) (h0 : Nat) (x1 : Option Nat) (x2 : Option Nat) (x3 : Int32) : Option (Int32 × GS) := bJ2_add_2_0 E N h0 S x1 x2 x3
noncomputable def vjava_util_ArrayList_add__Ljava_lang_Object__Ljava_lang_Object_I_V (E : gE) (N : Nat) (S : GS) (r : Option Nat) (y0 : Option Nat) (y1 : Option Nat) (y2 : Int32) : Option (Int32 × GS) := gvd S r (fun b ci =>
  if ci = 24 then fJ2_add_2 E N S b y0 y1 y2 else
  none)
/-! java/util/ArrayList.add(Ljava/lang/Object;)Z -/
abbrev rJ2_add (mc ms : Nat) : Room := { frames := 6, cells := mc, slots := ms, locals := 150 }
noncomputable def bJ2_add_23 (E : gE) (N : Nat) (h0 : Nat) (S : GS) : Option (Int32 × GS) :=
  mzt (1 : Int32) (some ((1 : Int32), S))
noncomputable def bJ2_add_0 (E : gE) (N : Nat) (h0 : Nat) (S : GS) (x1 : Option Nat) : Option (Int32 × GS) :=
  ggi S (some h0) 110 (fun v_1 =>
  gpv E S (some h0) 110 (.int (v_1 + (1 : Int32))) (fun S_3 =>
  ggr S_3 (some h0) 111 (fun v_5 =>
  ggi S_3 (some h0) 112 (fun v_7 =>
  gbd (vjava_util_ArrayList_add__Ljava_lang_Object__Ljava_lang_Object_I_V E N S_3 (some h0) x1 v_5 v_7) (fun _ S_10 =>
  bJ2_add_23 E N h0 S_10)))))
noncomputable def fJ2_add (E : gE) (N : Nat) (S : GS) (h0 : Nat) (x1 : Option Nat) : Option (Int32 × GS) := bJ2_add_0 E N h0 S x1
noncomputable def vInchBorders_MapReader_first__II_V (E : gE) (N : Nat) (S : GS) (r : Option Nat) (y0 : Int32) (y1 : Int32) : Option ((Int32 ⊕ Nat) × GS) := gvd S r (fun b ci =>
  if ci = 4 then fX7_first E N S b y0 y1 else
  none)
noncomputable def vInchBorders_MapReader_fresh___Ljava_lang_String_ (E : gE) (N : Nat) (S : GS) (r : Option Nat) : Option ((Option Nat ⊕ Nat) × GS) := gvd S r (fun b ci =>
  if ci = 4 then fX7_fresh E N S b else
  none)
noncomputable def vInchBorders_MapReader_number__II_I (E : gE) (N : Nat) (S : GS) (r : Option Nat) (y0 : Int32) (y1 : Int32) : Option ((Int32 ⊕ Nat) × GS) := gvd S r (fun b ci =>
  if ci = 4 then fX6_number E N S b y0 y1 else
  none)
noncomputable def vjava_util_ArrayList_add__Ljava_lang_Object__Z (E : gE) (N : Nat) (S : GS) (r : Option Nat) (y0 : Option Nat) : Option (Int32 × GS) := gvd S r (fun b ci =>
  if ci = 24 then fJ2_add E N S b y0 else
  none)
/-! InchBorders$MapReader.land()V -/
abbrev rX7_land (mc ms : Nat) : Room := { frames := 9, cells := mc, slots := ms, locals := 198 }
noncomputable def bX7_land_55 (E : gE) (N : Nat) (h0 : Nat) (S : GS) (t0 : Int32) : Option ((Int32 ⊕ Nat) × GS) :=
  some (Sum.inl 0, S)
noncomputable def bX7_land_52 (E : gE) (N : Nat) (h0 : Nat) (S : GS) (t0 : Option Nat) (t1 : Option Nat) : Option ((Int32 ⊕ Nat) × GS) :=
  gbd (vjava_util_ArrayList_add__Ljava_lang_Object__Z E N S t0 t1) (fun r_1 S_2 =>
  bX7_land_55 E N h0 S_2 r_1)
noncomputable def bX7_land_49 (E : gE) (N : Nat) (h0 : Nat) (S : GS) (t0 : Option Nat) (t1 : Option Nat) (t2 : Option Nat) (t3 : Option Nat) (t4 : Int32) (t5 : Int32) : Option ((Int32 ⊕ Nat) × GS) :=
  grf t2 (fun b_5 =>
  gbd (fX10_init E N S b_5 t3 t4 t5) (fun _ S_2 =>
  bX7_land_52 E N h0 S_2 t0 t1))
noncomputable def bX7_land_39 (E : gE) (N : Nat) (h0 : Nat) (S : GS) (x1 : Option Nat) (x2 : Int32) (t0 : Option Nat) (t1 : Option Nat) : Option ((Int32 ⊕ Nat) × GS) :=
  gbx (vInchBorders_MapReader_number__II_I E N S (some h0) (0 : Int32) (20 : Int32)) (fun r_1 S_2 =>
  bX7_land_49 E N h0 S_2 t0 t1 t1 x1 x2 r_1)
noncomputable def bX7_land_28 (E : gE) (N : Nat) (h0 : Nat) (S : GS) (x1 : Option Nat) (t0 : Int32) : Option ((Int32 ⊕ Nat) × GS) :=
  ggr S (some h0) 52 (fun v_1 =>
  ggr S v_1 25 (fun v_3 =>
  gnw S 6 (fun a_6 S_5 =>
  bX7_land_39 E N h0 S_5 x1 t0 v_3 (some a_6))))
noncomputable def bX7_land_20 (E : gE) (N : Nat) (h0 : Nat) (S : GS) (t0 : Option Nat) : Option ((Int32 ⊕ Nat) × GS) :=
  gbx (vInchBorders_MapReader_number__II_I E N S (some h0) (0 : Int32) (20 : Int32)) (fun r_1 S_2 =>
  bX7_land_28 E N h0 S_2 t0 r_1)
noncomputable def bX7_land_16 (E : gE) (N : Nat) (h0 : Nat) (S : GS) : Option ((Int32 ⊕ Nat) × GS) :=
  gbx (vInchBorders_MapReader_fresh___Ljava_lang_String_ E N S (some h0)) (fun r_1 S_2 =>
  bX7_land_20 E N h0 S_2 r_1)
noncomputable def bX7_land_11 (E : gE) (N : Nat) (h0 : Nat) (S : GS) (t0 : Option Nat) (t1 : Int32) : Option ((Int32 ⊕ Nat) × GS) :=
  gbx (vInchBorders_MapReader_first__II_V E N S t0 t1 (7 : Int32)) (fun _ S_2 =>
  bX7_land_16 E N h0 S_2)
noncomputable def bX7_land_0 (E : gE) (N : Nat) (h0 : Nat) (S : GS) : Option ((Int32 ⊕ Nat) × GS) :=
  ggr S (some h0) 52 (fun v_1 =>
  ggr S v_1 25 (fun v_3 =>
  gbd (vjava_util_ArrayList_size___I E N S v_3) (fun r_5 S_6 =>
  bX7_land_11 E N h0 S_6 (some h0) r_5)))
noncomputable def fX7_land (E : gE) (N : Nat) (S : GS) (h0 : Nat) : Option ((Int32 ⊕ Nat) × GS) := bX7_land_0 E N h0 S
noncomputable def vInchBorders_MapReader_hold__Ljava_util_ArrayList__I (E : gE) (N : Nat) (S : GS) (r : Option Nat) (y0 : Option Nat) : Option ((Int32 ⊕ Nat) × GS) := gvd S r (fun b ci =>
  if ci = 4 then fX6_hold E N S b y0 else
  none)
/-! InchBorders$MapReader.store()V -/
abbrev rX7_store (mc ms : Nat) : Room := { frames := 9, cells := mc, slots := ms, locals := 199 }
noncomputable def bX7_store_63 (E : gE) (N : Nat) (h0 : Nat) (S : GS) (t0 : Option Nat) (t1 : Int32) : Option ((Int32 ⊕ Nat) × GS) :=
  gpv E S t0 64 (.int t1) (fun S_1 =>
  some (Sum.inl 0, S_1))
noncomputable def bX7_store_55 (E : gE) (N : Nat) (h0 : Nat) (S : GS) (x1 : Option Nat) : Option ((Int32 ⊕ Nat) × GS) :=
  gbx (vInchBorders_MapReader_number__II_I E N S (some h0) (0 : Int32) (99 : Int32)) (fun r_1 S_2 =>
  bX7_store_63 E N h0 S_2 x1 r_1)
noncomputable def bX7_store_46 (E : gE) (N : Nat) (h0 : Nat) (S : GS) (x1 : Option Nat) : Option ((Int32 ⊕ Nat) × GS) :=
  mzt (1 : Int32) (
  gpv E S x1 66 (.int (1 : Int32)) (fun S_1 =>
  gbd (vInchBorders_MapReader_go___V E N S_1 (some h0)) (fun _ S_5 =>
  bX7_store_55 E N h0 S_5 x1)))
noncomputable def bX7_store_42 (E : gE) (N : Nat) (h0 : Nat) (S : GS) (x1 : Option Nat) (t0 : Option Nat) (t1 : Int32) : Option ((Int32 ⊕ Nat) × GS) :=
  gbx (vInchBorders_MapReader_need__ZI_V E N S t0 t1 (3 : Int32)) (fun _ S_2 =>
  bX7_store_46 E N h0 S_2 x1)
noncomputable def bX7_store_25 (E : gE) (N : Nat) (h0 : Nat) (S : GS) (t0 : Option Nat) : Option ((Int32 ⊕ Nat) × GS) :=
  gcc S t0 [6] (
  ggi S t0 66 (fun v_2 =>
  if v_2 = 0 then
    bX7_store_42 E N h0 S t0 (some h0) (1 : Int32)
  else
    bX7_store_42 E N h0 S t0 (some h0) (0 : Int32)))
noncomputable def bX7_store_22 (E : gE) (N : Nat) (h0 : Nat) (S : GS) (t0 : Option Nat) (t1 : Int32) : Option ((Int32 ⊕ Nat) × GS) :=
  gbd (vjava_util_ArrayList_get__I_Ljava_lang_Object_ E N S t0 t1) (fun r_1 S_2 =>
  bX7_store_25 E N h0 S_2 r_1)
noncomputable def bX7_store_4 (E : gE) (N : Nat) (h0 : Nat) (S : GS) : Option ((Int32 ⊕ Nat) × GS) :=
  ggr S (some h0) 52 (fun v_1 =>
  ggr S v_1 25 (fun v_3 =>
  ggr S (some h0) 52 (fun v_5 =>
  ggr S v_5 25 (fun v_7 =>
  gbx (vInchBorders_MapReader_hold__Ljava_util_ArrayList__I E N S (some h0) v_7) (fun r_9 S_10 =>
  bX7_store_22 E N h0 S_10 v_3 r_9)))))
noncomputable def bX7_store_0 (E : gE) (N : Nat) (h0 : Nat) (S : GS) : Option ((Int32 ⊕ Nat) × GS) :=
  gbd (vInchBorders_MapReader_go___V E N S (some h0)) (fun _ S_2 =>
  bX7_store_4 E N h0 S_2)
noncomputable def fX7_store (E : gE) (N : Nat) (S : GS) (h0 : Nat) : Option ((Int32 ⊕ Nat) × GS) := bX7_store_0 E N h0 S
noncomputable def vInchBorders_MapReader_one__Ljava_util_ArrayList__I (E : gE) (N : Nat) (S : GS) (r : Option Nat) (y0 : Option Nat) : Option ((Int32 ⊕ Nat) × GS) := gvd S r (fun b ci =>
  if ci = 4 then fX6_one E N S b y0 else
  none)
/-! InchBorders$MapReader.road()V -/
abbrev rX7_road (mc ms : Nat) : Room := { frames := 10, cells := mc, slots := ms, locals := 221 }
noncomputable def bX7_road_109 (E : gE) (N : Nat) (h0 : Nat) (S : GS) (t0 : Int32) : Option ((Int32 ⊕ Nat) × GS) :=
  some (Sum.inl 0, S)
noncomputable def bX7_road_106 (E : gE) (N : Nat) (h0 : Nat) (S : GS) (t0 : Option Nat) (t1 : Option Nat) : Option ((Int32 ⊕ Nat) × GS) :=
  gbd (vjava_util_ArrayList_add__Ljava_lang_Object__Z E N S t0 t1) (fun r_1 S_2 =>
  bX7_road_109 E N h0 S_2 r_1)
noncomputable def bX7_road_103 (E : gE) (N : Nat) (h0 : Nat) (S : GS) (t0 : Option Nat) (t1 : Option Nat) (t2 : Option Nat) (t3 : Int32) (t4 : Int32) (t5 : Int32) (t6 : Int32) : Option ((Int32 ⊕ Nat) × GS) :=
  grf t2 (fun b_5 =>
  gbd (fX11_init E N S b_5 t3 t4 t5 t6) (fun _ S_2 =>
  bX7_road_106 E N h0 S_2 t0 t1))
noncomputable def bX7_road_91 (E : gE) (N : Nat) (h0 : Nat) (S : GS) (x1 : Int32) (x2 : Int32) (x3 : Int32) (t0 : Option Nat) (t1 : Option Nat) : Option ((Int32 ⊕ Nat) × GS) :=
  gbx (vInchBorders_MapReader_number__II_I E N S (some h0) x3 (240 : Int32)) (fun r_1 S_2 =>
  bX7_road_103 E N h0 S_2 t0 t1 t1 x1 x2 x3 r_1)
noncomputable def bX7_road_80 (E : gE) (N : Nat) (h0 : Nat) (S : GS) (x1 : Int32) (x2 : Int32) (t0 : Int32) : Option ((Int32 ⊕ Nat) × GS) :=
  ggr S (some h0) 52 (fun v_1 =>
  ggr S v_1 26 (fun v_3 =>
  gnw S 7 (fun a_6 S_5 =>
  bX7_road_91 E N h0 S_5 x1 x2 t0 v_3 (some a_6))))
noncomputable def bX7_road_72 (E : gE) (N : Nat) (h0 : Nat) (S : GS) (x1 : Int32) (x2 : Int32) : Option ((Int32 ⊕ Nat) × GS) :=
  gbx (vInchBorders_MapReader_number__II_I E N S (some h0) (0 : Int32) (240 : Int32)) (fun r_1 S_2 =>
  bX7_road_80 E N h0 S_2 x1 x2 r_1)
noncomputable def bX7_road_68 (E : gE) (N : Nat) (h0 : Nat) (S : GS) (x1 : Int32) (x2 : Int32) : Option ((Int32 ⊕ Nat) × GS) :=
  gbd (vInchBorders_MapReader_go___V E N S (some h0)) (fun _ S_2 =>
  bX7_road_72 E N h0 S_2 x1 x2)
noncomputable def bX7_road_64 (E : gE) (N : Nat) (h0 : Nat) (S : GS) (x1 : Int32) (x2 : Int32) (t0 : Option Nat) (t1 : Int32) : Option ((Int32 ⊕ Nat) × GS) :=
  gbx (vInchBorders_MapReader_need__ZI_V E N S t0 t1 (3 : Int32)) (fun _ S_2 =>
  bX7_road_68 E N h0 S_2 x1 x2)
noncomputable def bX7_road_63 (E : gE) (N : Nat) (h0 : Nat) (S : GS) (x1 : Int32) (x2 : Int32) (t0 : Option Nat) : Option ((Int32 ⊕ Nat) × GS) :=
  bX7_road_64 E N h0 S x1 x2 t0 (0 : Int32)
noncomputable def bX7_road_55 (E : gE) (N : Nat) (h0 : Nat) (S : GS) (x1 : Int32) (x2 : Int32) (t0 : Option Nat) (t1 : Int32) : Option ((Int32 ⊕ Nat) × GS) :=
  if t1 = (-1 : Int32) then
    bX7_road_64 E N h0 S x1 x2 t0 (1 : Int32)
  else
    bX7_road_63 E N h0 S x1 x2 t0
noncomputable def bX7_road_39 (E : gE) (N : Nat) (h0 : Nat) (S : GS) (x1 : Int32) (t0 : Int32) : Option ((Int32 ⊕ Nat) × GS) :=
  if x1 = t0 then
    bX7_road_63 E N h0 S x1 t0 (some h0)
  else
    ggr S (some h0) 52 (fun v_2 =>
    gbd (vInchBorders_Atlas_road__II_I E N S v_2 x1 t0) (fun r_4 S_5 =>
    bX7_road_55 E N h0 S_5 x1 t0 (some h0) r_4))
noncomputable def bX7_road_27 (E : gE) (N : Nat) (h0 : Nat) (S : GS) (t0 : Int32) : Option ((Int32 ⊕ Nat) × GS) :=
  ggr S (some h0) 52 (fun v_1 =>
  ggr S v_1 25 (fun v_3 =>
  gbx (vInchBorders_MapReader_hold__Ljava_util_ArrayList__I E N S (some h0) v_3) (fun r_5 S_6 =>
  bX7_road_39 E N h0 S_6 t0 r_5)))
noncomputable def bX7_road_16 (E : gE) (N : Nat) (h0 : Nat) (S : GS) : Option ((Int32 ⊕ Nat) × GS) :=
  ggr S (some h0) 52 (fun v_1 =>
  ggr S v_1 25 (fun v_3 =>
  gbx (vInchBorders_MapReader_one__Ljava_util_ArrayList__I E N S (some h0) v_3) (fun r_5 S_6 =>
  bX7_road_27 E N h0 S_6 r_5)))
noncomputable def bX7_road_11 (E : gE) (N : Nat) (h0 : Nat) (S : GS) (t0 : Option Nat) (t1 : Int32) : Option ((Int32 ⊕ Nat) × GS) :=
  gbx (vInchBorders_MapReader_first__II_V E N S t0 t1 (12 : Int32)) (fun _ S_2 =>
  bX7_road_16 E N h0 S_2)
noncomputable def bX7_road_0 (E : gE) (N : Nat) (h0 : Nat) (S : GS) : Option ((Int32 ⊕ Nat) × GS) :=
  ggr S (some h0) 52 (fun v_1 =>
  ggr S v_1 26 (fun v_3 =>
  gbd (vjava_util_ArrayList_size___I E N S v_3) (fun r_5 S_6 =>
  bX7_road_11 E N h0 S_6 (some h0) r_5)))
noncomputable def fX7_road (E : gE) (N : Nat) (S : GS) (h0 : Nat) : Option ((Int32 ⊕ Nat) × GS) := bX7_road_0 E N h0 S
/-! InchBorders$MapReader.treaty()V -/
abbrev rX7_treaty (mc ms : Nat) : Room := { frames := 10, cells := mc, slots := ms, locals := 221 }
noncomputable def bX7_treaty_96 (E : gE) (N : Nat) (h0 : Nat) (S : GS) : Option ((Int32 ⊕ Nat) × GS) :=
  some (Sum.inl 0, S)
noncomputable def bX7_treaty_78 (E : gE) (N : Nat) (h0 : Nat) (S : GS) (x2 : Int32) (t0 : Option Nat) : Option ((Int32 ⊕ Nat) × GS) :=
  gcc S t0 [6] (
  ggi S t0 65 (fun v_2 =>
  gpv E S t0 65 (.int (v_2 ||| ((1 : Int32) <<< (x2 &&& 31)))) (fun S_4 =>
  gbd (vInchBorders_MapReader_go___V E N S_4 (some h0)) (fun _ S_7 =>
  bX7_treaty_96 E N h0 S_7))))
noncomputable def bX7_treaty_67 (E : gE) (N : Nat) (h0 : Nat) (S : GS) (x1 : Int32) (x2 : Int32) : Option ((Int32 ⊕ Nat) × GS) :=
  ggr S (some h0) 52 (fun v_1 =>
  ggr S v_1 25 (fun v_3 =>
  gbd (vjava_util_ArrayList_get__I_Ljava_lang_Object_ E N S v_3 x1) (fun r_5 S_6 =>
  bX7_treaty_78 E N h0 S_6 x2 r_5)))
noncomputable def bX7_treaty_63 (E : gE) (N : Nat) (h0 : Nat) (S : GS) (x1 : Int32) (x2 : Int32) (t0 : Option Nat) (t1 : Int32) : Option ((Int32 ⊕ Nat) × GS) :=
  gbx (vInchBorders_MapReader_need__ZI_V E N S t0 t1 (3 : Int32)) (fun _ S_2 =>
  bX7_treaty_67 E N h0 S_2 x1 x2)
noncomputable def bX7_treaty_62 (E : gE) (N : Nat) (h0 : Nat) (S : GS) (x1 : Int32) (x2 : Int32) (t0 : Option Nat) : Option ((Int32 ⊕ Nat) × GS) :=
  bX7_treaty_63 E N h0 S x1 x2 t0 (0 : Int32)
noncomputable def bX7_treaty_55 (E : gE) (N : Nat) (h0 : Nat) (S : GS) (x1 : Int32) (x2 : Int32) (t0 : Option Nat) (t1 : Int32) : Option ((Int32 ⊕ Nat) × GS) :=
  if t1 = 0 then
    bX7_treaty_63 E N h0 S x1 x2 t0 (1 : Int32)
  else
    bX7_treaty_62 E N h0 S x1 x2 t0
noncomputable def bX7_treaty_45 (E : gE) (N : Nat) (h0 : Nat) (S : GS) (x1 : Int32) (x2 : Int32) (t0 : Option Nat) (t1 : Option Nat) : Option ((Int32 ⊕ Nat) × GS) :=
  gcc S t1 [6] (
  ggi S t1 65 (fun v_2 =>
  gbd (fX1_isOf E N S v_2 x2) (fun r_4 S_5 =>
  bX7_treaty_55 E N h0 S_5 x1 x2 t0 r_4)))
noncomputable def bX7_treaty_27 (E : gE) (N : Nat) (h0 : Nat) (S : GS) (x1 : Int32) (t0 : Int32) : Option ((Int32 ⊕ Nat) × GS) :=
  if x1 = t0 then
    bX7_treaty_62 E N h0 S x1 t0 (some h0)
  else
    ggr S (some h0) 52 (fun v_2 =>
    ggr S v_2 25 (fun v_4 =>
    gbd (vjava_util_ArrayList_get__I_Ljava_lang_Object_ E N S v_4 x1) (fun r_6 S_7 =>
    bX7_treaty_45 E N h0 S_7 x1 t0 (some h0) r_6)))
noncomputable def bX7_treaty_15 (E : gE) (N : Nat) (h0 : Nat) (S : GS) (t0 : Int32) : Option ((Int32 ⊕ Nat) × GS) :=
  ggr S (some h0) 52 (fun v_1 =>
  ggr S v_1 25 (fun v_3 =>
  gbx (vInchBorders_MapReader_hold__Ljava_util_ArrayList__I E N S (some h0) v_3) (fun r_5 S_6 =>
  bX7_treaty_27 E N h0 S_6 t0 r_5)))
noncomputable def bX7_treaty_4 (E : gE) (N : Nat) (h0 : Nat) (S : GS) : Option ((Int32 ⊕ Nat) × GS) :=
  ggr S (some h0) 52 (fun v_1 =>
  ggr S v_1 25 (fun v_3 =>
  gbx (vInchBorders_MapReader_one__Ljava_util_ArrayList__I E N S (some h0) v_3) (fun r_5 S_6 =>
  bX7_treaty_15 E N h0 S_6 r_5)))
noncomputable def bX7_treaty_0 (E : gE) (N : Nat) (h0 : Nat) (S : GS) : Option ((Int32 ⊕ Nat) × GS) :=
  gbd (vInchBorders_MapReader_go___V E N S (some h0)) (fun _ S_2 =>
  bX7_treaty_4 E N h0 S_2)
noncomputable def fX7_treaty (E : gE) (N : Nat) (S : GS) (h0 : Nat) : Option ((Int32 ⊕ Nat) × GS) := bX7_treaty_0 E N h0 S
/-! InchBorders$Person.<init>(Ljava/lang/String;II)V -/
abbrev rX12_init : Room := { frames := 2, cells := 0, slots := 0, locals := 41 }
noncomputable def bX12_init_0 (E : gE) (N : Nat) (h0 : Nat) (S : GS) (x1 : Option Nat) (x2 : Int32) (x3 : Int32) : Option (Int32 × GS) :=
  gbd (fX9_init E N S h0 x1) (fun _ S_2 =>
  gpv E S_2 (some h0) 71 (.int x2) (fun S_5 =>
  gpv E S_5 (some h0) 72 (.int x3) (fun S_7 =>
  some (0, S_7))))
noncomputable def fX12_init (E : gE) (N : Nat) (S : GS) (h0 : Nat) (x1 : Option Nat) (x2 : Int32) (x3 : Int32) : Option (Int32 × GS) := bX12_init_0 E N h0 S x1 x2 x3
noncomputable def vInchBorders_MapReader_is__Ljava_lang_String__Z (E : gE) (N : Nat) (S : GS) (r : Option Nat) (y0 : Option Nat) : Option (Int32 × GS) := gvd S r (fun b ci =>
  if ci = 4 then fX6_is E N S b y0 else
  none)
/-! InchBorders$MapReader.person()V -/
abbrev rX7_person (mc ms : Nat) : Room := { frames := 10, cells := mc, slots := ms, locals := 221 }
noncomputable def bX7_person_71 (E : gE) (N : Nat) (h0 : Nat) (S : GS) (t0 : Int32) : Option ((Int32 ⊕ Nat) × GS) :=
  some (Sum.inl 0, S)
noncomputable def bX7_person_68 (E : gE) (N : Nat) (h0 : Nat) (S : GS) (t0 : Option Nat) (t1 : Option Nat) : Option ((Int32 ⊕ Nat) × GS) :=
  gbd (vjava_util_ArrayList_add__Ljava_lang_Object__Z E N S t0 t1) (fun r_1 S_2 =>
  bX7_person_71 E N h0 S_2 r_1)
noncomputable def bX7_person_65 (E : gE) (N : Nat) (h0 : Nat) (S : GS) (t0 : Option Nat) (t1 : Option Nat) (t2 : Option Nat) (t3 : Option Nat) (t4 : Int32) (t5 : Int32) : Option ((Int32 ⊕ Nat) × GS) :=
  grf t2 (fun b_5 =>
  gbd (fX12_init E N S b_5 t3 t4 t5) (fun _ S_2 =>
  bX7_person_68 E N h0 S_2 t0 t1))
noncomputable def bX7_person_54 (E : gE) (N : Nat) (h0 : Nat) (S : GS) (x1 : Option Nat) (x2 : Int32) (t0 : Option Nat) (t1 : Option Nat) : Option ((Int32 ⊕ Nat) × GS) :=
  gbx (vInchBorders_MapReader_number__II_I E N S (some h0) (1 : Int32) (240 : Int32)) (fun r_1 S_2 =>
  bX7_person_65 E N h0 S_2 t0 t1 t1 x1 x2 r_1)
noncomputable def bX7_person_43 (E : gE) (N : Nat) (h0 : Nat) (S : GS) (x1 : Option Nat) (t0 : Int32) : Option ((Int32 ⊕ Nat) × GS) :=
  ggr S (some h0) 52 (fun v_1 =>
  ggr S v_1 27 (fun v_3 =>
  gnw S 8 (fun a_6 S_5 =>
  bX7_person_54 E N h0 S_5 x1 t0 v_3 (some a_6))))
noncomputable def bX7_person_31 (E : gE) (N : Nat) (h0 : Nat) (S : GS) (t0 : Option Nat) : Option ((Int32 ⊕ Nat) × GS) :=
  ggr S (some h0) 52 (fun v_1 =>
  ggr S v_1 25 (fun v_3 =>
  gbx (vInchBorders_MapReader_one__Ljava_util_ArrayList__I E N S (some h0) v_3) (fun r_5 S_6 =>
  bX7_person_43 E N h0 S_6 t0 r_5)))
noncomputable def bX7_person_27 (E : gE) (N : Nat) (h0 : Nat) (S : GS) : Option ((Int32 ⊕ Nat) × GS) :=
  gbx (vInchBorders_MapReader_fresh___Ljava_lang_String_ E N S (some h0)) (fun r_1 S_2 =>
  bX7_person_31 E N h0 S_2 r_1)
noncomputable def bX7_person_22 (E : gE) (N : Nat) (h0 : Nat) (S : GS) (t0 : Option Nat) (t1 : Int32) : Option ((Int32 ⊕ Nat) × GS) :=
  gbx (vInchBorders_MapReader_first__II_V E N S t0 t1 (6 : Int32)) (fun _ S_2 =>
  bX7_person_27 E N h0 S_2)
noncomputable def bX7_person_11 (E : gE) (N : Nat) (h0 : Nat) (S : GS) : Option ((Int32 ⊕ Nat) × GS) :=
  ggr S (some h0) 52 (fun v_1 =>
  ggr S v_1 27 (fun v_3 =>
  gbd (vjava_util_ArrayList_size___I E N S v_3) (fun r_5 S_6 =>
  bX7_person_22 E N h0 S_6 (some h0) r_5)))
noncomputable def bX7_person_7 (E : gE) (N : Nat) (h0 : Nat) (S : GS) (t0 : Option Nat) (t1 : Int32) : Option ((Int32 ⊕ Nat) × GS) :=
  gbx (vInchBorders_MapReader_need__ZI_V E N S t0 t1 (1 : Int32)) (fun _ S_2 =>
  bX7_person_11 E N h0 S_2)
noncomputable def bX7_person_0 (E : gE) (N : Nat) (h0 : Nat) (S : GS) : Option ((Int32 ⊕ Nat) × GS) :=
  gbd (vInchBorders_MapReader_is__Ljava_lang_String__Z E N S (some h0) (some (E.2.1 30))) (fun r_1 S_2 =>
  bX7_person_7 E N h0 S_2 (some h0) r_1)
noncomputable def fX7_person (E : gE) (N : Nat) (S : GS) (h0 : Nat) : Option ((Int32 ⊕ Nat) × GS) := bX7_person_0 E N h0 S
noncomputable def vInchBorders_MapReader_land___V (E : gE) (N : Nat) (S : GS) (r : Option Nat) : Option ((Int32 ⊕ Nat) × GS) := gvd S r (fun b ci =>
  if ci = 4 then fX7_land E N S b else
  none)
noncomputable def vInchBorders_MapReader_store___V (E : gE) (N : Nat) (S : GS) (r : Option Nat) : Option ((Int32 ⊕ Nat) × GS) := gvd S r (fun b ci =>
  if ci = 4 then fX7_store E N S b else
  none)
noncomputable def vInchBorders_MapReader_road___V (E : gE) (N : Nat) (S : GS) (r : Option Nat) : Option ((Int32 ⊕ Nat) × GS) := gvd S r (fun b ci =>
  if ci = 4 then fX7_road E N S b else
  none)
noncomputable def vInchBorders_MapReader_treaty___V (E : gE) (N : Nat) (S : GS) (r : Option Nat) : Option ((Int32 ⊕ Nat) × GS) := gvd S r (fun b ci =>
  if ci = 4 then fX7_treaty E N S b else
  none)
noncomputable def vInchBorders_MapReader_person___V (E : gE) (N : Nat) (S : GS) (r : Option Nat) : Option ((Int32 ⊕ Nat) × GS) := gvd S r (fun b ci =>
  if ci = 4 then fX7_person E N S b else
  none)
/-! InchBorders$MapReader.line()V -/
abbrev rX7_line (mc ms : Nat) : Room := { frames := 11, cells := mc, slots := ms, locals := 244 }
noncomputable def bX7_line_68 (E : gE) (N : Nat) (h0 : Nat) (S : GS) : Option ((Int32 ⊕ Nat) × GS) :=
  some (Sum.inl 0, S)
noncomputable def bX7_line_13 (E : gE) (N : Nat) (h0 : Nat) (S : GS) : Option ((Int32 ⊕ Nat) × GS) :=
  bX7_line_68 E N h0 S
noncomputable def bX7_line_29 (E : gE) (N : Nat) (h0 : Nat) (S : GS) : Option ((Int32 ⊕ Nat) × GS) :=
  bX7_line_68 E N h0 S
noncomputable def bX7_line_45 (E : gE) (N : Nat) (h0 : Nat) (S : GS) : Option ((Int32 ⊕ Nat) × GS) :=
  bX7_line_68 E N h0 S
noncomputable def bX7_line_61 (E : gE) (N : Nat) (h0 : Nat) (S : GS) : Option ((Int32 ⊕ Nat) × GS) :=
  bX7_line_68 E N h0 S
noncomputable def bX7_line_54 (E : gE) (N : Nat) (h0 : Nat) (S : GS) (t0 : Int32) : Option ((Int32 ⊕ Nat) × GS) :=
  if t0 = 0 then
    gbx (vInchBorders_MapReader_person___V E N S (some h0)) (fun _ S_3 =>
    bX7_line_68 E N h0 S_3)
  else
    gbx (vInchBorders_MapReader_treaty___V E N S (some h0)) (fun _ S_8 =>
    bX7_line_61 E N h0 S_8)
noncomputable def bX7_line_38 (E : gE) (N : Nat) (h0 : Nat) (S : GS) (t0 : Int32) : Option ((Int32 ⊕ Nat) × GS) :=
  if t0 = 0 then
    gbd (vInchBorders_MapReader_is__Ljava_lang_String__Z E N S (some h0) (some (E.2.1 29))) (fun r_2 S_3 =>
    bX7_line_54 E N h0 S_3 r_2)
  else
    gbx (vInchBorders_MapReader_road___V E N S (some h0)) (fun _ S_7 =>
    bX7_line_45 E N h0 S_7)
noncomputable def bX7_line_22 (E : gE) (N : Nat) (h0 : Nat) (S : GS) (t0 : Int32) : Option ((Int32 ⊕ Nat) × GS) :=
  if t0 = 0 then
    gbd (vInchBorders_MapReader_is__Ljava_lang_String__Z E N S (some h0) (some (E.2.1 28))) (fun r_2 S_3 =>
    bX7_line_38 E N h0 S_3 r_2)
  else
    gbx (vInchBorders_MapReader_store___V E N S (some h0)) (fun _ S_7 =>
    bX7_line_29 E N h0 S_7)
noncomputable def bX7_line_6 (E : gE) (N : Nat) (h0 : Nat) (S : GS) (t0 : Int32) : Option ((Int32 ⊕ Nat) × GS) :=
  if t0 = 0 then
    gbd (vInchBorders_MapReader_is__Ljava_lang_String__Z E N S (some h0) (some (E.2.1 27))) (fun r_2 S_3 =>
    bX7_line_22 E N h0 S_3 r_2)
  else
    gbx (vInchBorders_MapReader_land___V E N S (some h0)) (fun _ S_7 =>
    bX7_line_13 E N h0 S_7)
noncomputable def bX7_line_0 (E : gE) (N : Nat) (h0 : Nat) (S : GS) : Option ((Int32 ⊕ Nat) × GS) :=
  gbd (vInchBorders_MapReader_is__Ljava_lang_String__Z E N S (some h0) (some (E.2.1 26))) (fun r_1 S_2 =>
  bX7_line_6 E N h0 S_2 r_1)
noncomputable def fX7_line (E : gE) (N : Nat) (S : GS) (h0 : Nat) : Option ((Int32 ⊕ Nat) × GS) := bX7_line_0 E N h0 S
/-! InchBorders$Reader.end()V -/
abbrev rX6_end (mc ms : Nat) : Room := { frames := 7, cells := mc, slots := ms, locals := 175 }
noncomputable def bX6_end_22 (E : gE) (N : Nat) (h0 : Nat) (S : GS) : Option ((Int32 ⊕ Nat) × GS) :=
  some (Sum.inl 0, S)
noncomputable def bX6_end_18 (E : gE) (N : Nat) (h0 : Nat) (S : GS) : Option ((Int32 ⊕ Nat) × GS) :=
  gbd (vInchBorders_Reader_go___V E N S (some h0)) (fun _ S_2 =>
  bX6_end_22 E N h0 S_2)
noncomputable def bX6_end_14 (E : gE) (N : Nat) (h0 : Nat) (S : GS) (t0 : Option Nat) (t1 : Int32) : Option ((Int32 ⊕ Nat) × GS) :=
  gbx (vInchBorders_Reader_need__ZI_V E N S t0 t1 (1 : Int32)) (fun _ S_2 =>
  bX6_end_18 E N h0 S_2)
noncomputable def bX6_end_0 (E : gE) (N : Nat) (h0 : Nat) (S : GS) : Option ((Int32 ⊕ Nat) × GS) :=
  ggi S (some h0) 47 (fun v_1 =>
  if v_1 = (4 : Int32) then
    bX6_end_14 E N h0 S (some h0) (1 : Int32)
  else
    bX6_end_14 E N h0 S (some h0) (0 : Int32))
noncomputable def fX6_end (E : gE) (N : Nat) (S : GS) (h0 : Nat) : Option ((Int32 ⊕ Nat) × GS) := bX6_end_0 E N h0 S
noncomputable def vInchBorders_MapReader_line___V (E : gE) (N : Nat) (S : GS) (r : Option Nat) : Option ((Int32 ⊕ Nat) × GS) := gvd S r (fun b ci =>
  if ci = 4 then fX7_line E N S b else
  none)
noncomputable def vInchBorders_MapReader_end___V (E : gE) (N : Nat) (S : GS) (r : Option Nat) : Option ((Int32 ⊕ Nat) × GS) := gvd S r (fun b ci =>
  if ci = 4 then fX6_end E N S b else
  none)
/-! InchBorders$MapReader.read()LInchBorders$Atlas; -/
abbrev rX7_read (mc ms : Nat) : Room := { frames := 12, cells := mc, slots := ms, locals := 264 }
noncomputable def bX7_read_19 (E : gE) (N : Nat) (h0 : Nat) (K4 : GS → Option ((Option Nat ⊕ Nat) × GS)) (S : GS) : Option ((Option Nat ⊕ Nat) × GS) :=
  ggr S (some h0) 52 (fun v_1 =>
  ggi S v_1 24 (fun v_3 =>
  gpv E S v_1 24 (.int (v_3 + (1 : Int32))) (fun S_5 =>
  K4 S_5)))
noncomputable def bX7_read_15 (E : gE) (N : Nat) (h0 : Nat) (K4 : GS → Option ((Option Nat ⊕ Nat) × GS)) (S : GS) : Option ((Option Nat ⊕ Nat) × GS) :=
  gbx (vInchBorders_MapReader_end___V E N S (some h0)) (fun _ S_2 =>
  bX7_read_19 E N h0 K4 S_2)
noncomputable def bX7_read_4 (E : gE) (N : Nat) (h0 : Nat) (K4 : GS → Option ((Option Nat ⊕ Nat) × GS)) (S : GS) : Option ((Option Nat ⊕ Nat) × GS) :=
  ggi S (some h0) 47 (fun v_1 =>
  if v_1 = 0 then
    ggr S (some h0) 52 (fun v_4 =>
    some (Sum.inl v_4, S))
  else
    gbx (vInchBorders_MapReader_line___V E N S (some h0)) (fun _ S_7 =>
    bX7_read_15 E N h0 K4 S_7))
noncomputable def bX7_read_4L (E : gE) (N : Nat) (h0 : Nat) : Nat → GS → Option ((Option Nat ⊕ Nat) × GS)
  | 0 => fun _ => none
  | n + 1 => bX7_read_4 E N h0 (bX7_read_4L E N h0 n)
noncomputable def bX7_read_0 (E : gE) (N : Nat) (h0 : Nat) (S : GS) : Option ((Option Nat ⊕ Nat) × GS) :=
  gbd (vInchBorders_MapReader_go___V E N S (some h0)) (fun _ S_2 =>
  bX7_read_4L E N h0 N S_2)
noncomputable def fX7_read (E : gE) (N : Nat) (S : GS) (h0 : Nat) : Option ((Option Nat ⊕ Nat) × GS) := bX7_read_0 E N h0 S
noncomputable def vInchBorders_take___I (E : gE) (N : Nat) (S : GS) (r : Option Nat) : Option (Int32 × GS) := gvd S r (fun b ci =>
  if ci = 0 then fX1_take E N S b else
  none)
noncomputable def vInchBorders_MapReader_read___LInchBorders_Atlas_ (E : gE) (N : Nat) (S : GS) (r : Option Nat) : Option ((Option Nat ⊕ Nat) × GS) := gvd S r (fun b ci =>
  if ci = 4 then fX7_read E N S b else
  none)
/-! InchBorders.map()I -/
abbrev rX1_map (mc ms : Nat) : Room := { frames := 13, cells := mc, slots := ms, locals := 284 }
noncomputable def bX1_map_59 (E : gE) (N : Nat) (h0 : Nat) (S : GS) (t0 : Option Nat) : Option ((Int32 ⊕ Nat) × GS) :=
  ggi S t0 59 (fun v_1 =>
  gpv E S (some h0) 2 (.int v_1) (fun S_3 =>
  ggi S_3 t0 60 (fun v_5 =>
  some (Sum.inl ((-1 : Int32) - v_5), S_3))))
noncomputable def bX1_map_40 (E : gE) (N : Nat) (h0 : Nat) (S : GS) (t0 : Option Nat) : Option ((Int32 ⊕ Nat) × GS) :=
  gpv E S (some h0) 6 (va_rf none) (fun S_1 =>
  gpv E S_1 (some h0) 8 (.int (0 : Int32)) (fun S_3 =>
  ggr S_3 (some h0) 3 (fun v_5 =>
  ggi S_3 v_5 24 (fun v_7 =>
  some (Sum.inl v_7, S_3)))))
noncomputable def bX1_map_26 (E : gE) (N : Nat) (h0 : Nat) (S : GS) (t0 : Option Nat) (t1 : Option Nat) : Option ((Int32 ⊕ Nat) × GS) :=
  gpv E S t0 3 (va_rf t1) (fun S_1 =>
  ggr S_1 (some h0) 4 (fun v_3 =>
  ggr S_1 (some h0) 3 (fun v_5 =>
  gbd (vInchBorders_Times_begin__LInchBorders_Atlas__LInchBorders_Times_ E N S_1 v_3 v_5) (fun r_7 S_8 =>
  bX1_map_40 E N h0 S_8 r_7))))
noncomputable def bX1_map_23 (E : gE) (N : Nat) (h0 : Nat) (S : GS) (t0 : Option Nat) (t1 : Option Nat) : Option ((Int32 ⊕ Nat) × GS) :=
  gbc (vInchBorders_MapReader_read___LInchBorders_Atlas_ E N S t1) (fun q_5 S_2 =>
    bX1_map_59 E N h0 S_2 (some q_5)) (fun r_1 S_2 =>
  bX1_map_26 E N h0 S_2 t0 r_1)
noncomputable def bX1_map_14 (E : gE) (N : Nat) (h0 : Nat) (S : GS) (x1 : Int32) (t0 : Option Nat) (t1 : Option Nat) : Option ((Int32 ⊕ Nat) × GS) :=
  ggr S (some h0) 0 (fun v_1 =>
  grf t1 (fun b_7 =>
  gbd (fX7_init E N S b_7 v_1 x1) (fun _ S_4 =>
  bX1_map_23 E N h0 S_4 t0 (some b_7))))
noncomputable def bX1_map_4 (E : gE) (N : Nat) (h0 : Nat) (S : GS) (t0 : Int32) : Option ((Int32 ⊕ Nat) × GS) :=
  gpv E S (some h0) 2 (.int (0 : Int32)) (fun S_1 =>
  gnw S_1 4 (fun a_4 S_3 =>
  bX1_map_14 E N h0 S_3 t0 (some h0) (some a_4)))
noncomputable def bX1_map_0 (E : gE) (N : Nat) (h0 : Nat) (S : GS) : Option ((Int32 ⊕ Nat) × GS) :=
  gbd (vInchBorders_take___I E N S (some h0)) (fun r_1 S_2 =>
  bX1_map_4 E N h0 S_2 r_1)
noncomputable def fX1_map (E : gE) (N : Nat) (S : GS) (h0 : Nat) : Option ((Int32 ⊕ Nat) × GS) := bX1_map_0 E N h0 S
/-! InchBorders.fault()I -/
abbrev rX1_fault : Room := { frames := 0, cells := 0, slots := 0, locals := 0 }
noncomputable def bX1_fault_0 (E : gE) (N : Nat) (h0 : Nat) (S : GS) : Option (Int32 × GS) :=
  ggi S (some h0) 2 (fun v_1 =>
  some (v_1, S))
noncomputable def fX1_fault (E : gE) (N : Nat) (S : GS) (h0 : Nat) : Option (Int32 × GS) := bX1_fault_0 E N h0 S
/-! InchBorders$Atlas.isLand(I)Z -/
abbrev rX2_isLand : Room := { frames := 1, cells := 0, slots := 0, locals := 22 }
noncomputable def bX2_isLand_0 (E : gE) (N : Nat) (h0 : Nat) (S : GS) (x1 : Int32) : Option (Int32 × GS) :=
  ggr S (some h0) 25 (fun v_1 =>
  gbd (vjava_util_ArrayList_size___I E N S v_1) (fun r_3 S_4 =>
  gbd (fX1_isIn E N S_4 x1 (0 : Int32) (r_3 - (1 : Int32))) (fun r_7 S_8 =>
  mzt r_7 (some (r_7, S_8)))))
noncomputable def fX2_isLand (E : gE) (N : Nat) (S : GS) (h0 : Nat) (x1 : Int32) : Option (Int32 × GS) := bX2_isLand_0 E N h0 S x1
noncomputable def vInchBorders_Atlas_isLand__I_Z (E : gE) (N : Nat) (S : GS) (r : Option Nat) (y0 : Int32) : Option (Int32 × GS) := gvd S r (fun b ci =>
  if ci = 1 then fX2_isLand E N S b y0 else
  none)
/-! InchBorders.isLand(I)Z -/
abbrev rX1_isLand : Room := { frames := 2, cells := 0, slots := 0, locals := 43 }
noncomputable def bX1_isLand_0 (E : gE) (N : Nat) (h0 : Nat) (S : GS) (x1 : Int32) : Option (Int32 × GS) :=
  ggr S (some h0) 3 (fun v_1 =>
  gbd (vInchBorders_Atlas_isLand__I_Z E N S v_1 x1) (fun r_3 S_4 =>
  mzt r_3 (some (r_3, S_4))))
noncomputable def fX1_isLand (E : gE) (N : Nat) (S : GS) (h0 : Nat) (x1 : Int32) : Option (Int32 × GS) := bX1_isLand_0 E N h0 S x1
/-! InchBorders.persons()I -/
abbrev rX1_persons : Room := { frames := 1, cells := 0, slots := 0, locals := 20 }
noncomputable def bX1_persons_0 (E : gE) (N : Nat) (h0 : Nat) (S : GS) : Option (Int32 × GS) :=
  ggr S (some h0) 3 (fun v_1 =>
  ggr S v_1 27 (fun v_3 =>
  gbd (vjava_util_ArrayList_size___I E N S v_3) (fun r_5 S_6 =>
  some (r_5, S_6))))
noncomputable def fX1_persons (E : gE) (N : Nat) (S : GS) (h0 : Nat) : Option (Int32 × GS) := bX1_persons_0 E N h0 S
noncomputable def vInchBorders_isLand__I_Z (E : gE) (N : Nat) (S : GS) (r : Option Nat) (y0 : Int32) : Option (Int32 × GS) := gvd S r (fun b ci =>
  if ci = 0 then fX1_isLand E N S b y0 else
  none)
noncomputable def vInchBorders_persons___I (E : gE) (N : Nat) (S : GS) (r : Option Nat) : Option (Int32 × GS) := gvd S r (fun b ci =>
  if ci = 0 then fX1_persons E N S b else
  none)
/-! InchBorders.land(II)I -/
abbrev rX1_land : Room := { frames := 4, cells := 0, slots := 0, locals := 85 }
noncomputable def bX1_land_126 (E : gE) (N : Nat) (h0 : Nat) (K96 : GS → Int32 → Int32 → Int32 → Option (Int32 × GS)) (S : GS) (x1 : Int32) (x3 : Int32) (x4 : Int32) : Option (Int32 × GS) :=
  K96 S x1 x3 (x4 + (1 : Int32))
noncomputable def bX1_land_96 (E : gE) (N : Nat) (h0 : Nat) (K96 : GS → Int32 → Int32 → Int32 → Option (Int32 × GS)) (S : GS) (x1 : Int32) (x3 : Int32) (x4 : Int32) : Option (Int32 × GS) :=
  gbd (vInchBorders_persons___I E N S (some h0)) (fun r_1 S_2 =>
  if r_1 ≤ x4 then
    some (x3, S_2)
  else
    ggr S_2 (some h0) 4 (fun v_6 =>
    ggr S_2 v_6 34 (fun v_8 =>
    gai 1 S_2 v_8 x4 (fun v_10 =>
    if v_10 = x1 then
      bX1_land_126 E N h0 K96 S_2 x1 (x3 ||| ((1 : Int32) <<< (x4 &&& 31))) x4
    else
      bX1_land_126 E N h0 K96 S_2 x1 x3 x4))))
noncomputable def bX1_land_96L (E : gE) (N : Nat) (h0 : Nat) : Nat → GS → Int32 → Int32 → Int32 → Option (Int32 × GS)
  | 0 => fun _ _ _ _ => none
  | n + 1 => bX1_land_96 E N h0 (bX1_land_96L E N h0 n)
noncomputable def bX1_land_0 (E : gE) (N : Nat) (h0 : Nat) (S : GS) (x1 : Int32) (x2 : Int32) : Option (Int32 × GS) :=
  gbd (vInchBorders_isLand__I_Z E N S (some h0) x1) (fun r_1 S_2 =>
  if r_1 = 0 then
    some ((-1 : Int32), S_2)
  else
    if x2 = (0 : Int32) then
      ggr S_2 (some h0) 4 (fun v_7 =>
      gbd (vInchBorders_Times_take__I_I E N S_2 v_7 x1) (fun r_9 S_10 =>
      some (r_9, S_10)))
    else
      if x2 = (1 : Int32) then
        ggr S_2 (some h0) 3 (fun v_14 =>
        ggr S_2 v_14 25 (fun v_16 =>
        gbd (vjava_util_ArrayList_get__I_Ljava_lang_Object_ E N S_2 v_16 x1) (fun r_18 S_19 =>
        gcc S_19 r_18 [6] (
        ggi S_19 r_18 63 (fun v_23 =>
        some (v_23, S_19))))))
      else
        if x2 = (2 : Int32) then
          ggr S_2 (some h0) 4 (fun v_26 =>
          ggr S_2 v_26 32 (fun v_28 =>
          gai 1 S_2 v_28 x1 (fun v_30 =>
          some (v_30, S_2))))
        else
          if x2 = (3 : Int32) then
            ggr S_2 (some h0) 4 (fun v_33 =>
            ggr S_2 v_33 33 (fun v_35 =>
            gai 1 S_2 v_35 x1 (fun v_37 =>
            some (v_37, S_2))))
          else
            if x2 = (4 : Int32) then
              bX1_land_96L E N h0 N S_2 x1 (0 : Int32) (0 : Int32)
            else
              some ((-1 : Int32), S_2))
noncomputable def fX1_land (E : gE) (N : Nat) (S : GS) (h0 : Nat) (x1 : Int32) (x2 : Int32) : Option (Int32 × GS) := bX1_land_0 E N h0 S x1 x2
/-! InchBorders.road(II)I -/
abbrev rX1_road : Room := { frames := 3, cells := 0, slots := 0, locals := 64 }
noncomputable def bX1_road_0 (E : gE) (N : Nat) (h0 : Nat) (S : GS) (x1 : Int32) (x2 : Int32) : Option (Int32 × GS) :=
  ggr S (some h0) 3 (fun v_1 =>
  gbd (vInchBorders_Atlas_isRoad__I_Z E N S v_1 x1) (fun r_3 S_4 =>
  if r_3 = 0 then
    some ((-1 : Int32), S_4)
  else
    ggr S_4 (some h0) 3 (fun v_8 =>
    ggr S_4 v_8 26 (fun v_10 =>
    gbd (vjava_util_ArrayList_get__I_Ljava_lang_Object_ E N S_4 v_10 x1) (fun r_12 S_13 =>
    gcc S_13 r_12 [7] (
    if x2 = (0 : Int32) then
      ggi S_13 r_12 67 (fun v_18 =>
      some (v_18, S_13))
    else
      if x2 = (1 : Int32) then
        ggi S_13 r_12 68 (fun v_21 =>
        some (v_21, S_13))
      else
        if x2 = (2 : Int32) then
          ggi S_13 r_12 69 (fun v_24 =>
          some (v_24, S_13))
        else
          if x2 = (3 : Int32) then
            ggi S_13 r_12 70 (fun v_27 =>
            some (v_27, S_13))
          else
            if x2 = (4 : Int32) then
              ggr S_13 (some h0) 4 (fun v_30 =>
              ggi S_13 v_30 31 (fun v_32 =>
              some (((v_32 >>> (x1 &&& 31)) &&& (1 : Int32)), S_13)))
            else
              some ((-1 : Int32), S_13)))))))
noncomputable def fX1_road (E : gE) (N : Nat) (S : GS) (h0 : Nat) (x1 : Int32) (x2 : Int32) : Option (Int32 × GS) := bX1_road_0 E N h0 S x1 x2
/-! InchBorders.sum([I)I -/
abbrev rX1_sum : Room := { frames := 0, cells := 0, slots := 0, locals := 0 }
noncomputable def bX1_sum_10 (E : gE) (N : Nat) (K10 : GS → Int32 → (Option Nat) → Int32 → Int32 → Option (Int32 × GS)) (S : GS) (x1 : Int32) (x2 : Option Nat) (x3 : Int32) (x4 : Int32) : Option (Int32 × GS) :=
  if x3 ≤ x4 then
    some (x1, S)
  else
    gai 1 S x2 x4 (fun v_2 =>
    K10 S (x1 + v_2) x2 x3 (x4 + (1 : Int32)))
noncomputable def bX1_sum_10L (E : gE) (N : Nat) : Nat → GS → Int32 → (Option Nat) → Int32 → Int32 → Option (Int32 × GS)
  | 0 => fun _ _ _ _ _ => none
  | n + 1 => bX1_sum_10 E N (bX1_sum_10L E N n)
noncomputable def bX1_sum_0 (E : gE) (N : Nat) (S : GS) (x0 : Option Nat) : Option (Int32 × GS) :=
  gal S x0 (fun v_1 =>
  bX1_sum_10L E N N S (0 : Int32) x0 v_1 (0 : Int32))
noncomputable def fX1_sum (E : gE) (N : Nat) (S : GS) (x0 : Option Nat) : Option (Int32 × GS) := bX1_sum_0 E N S x0
noncomputable def vInchBorders_Times_canCross__I_I (E : gE) (N : Nat) (S : GS) (r : Option Nat) (y0 : Int32) : Option (Int32 × GS) := gvd S r (fun b ci =>
  if ci = 2 then fX3_canCross E N S b y0 else
  none)
/-! InchBorders.who(Z)I -/
abbrev rX1_who : Room := { frames := 7, cells := 0, slots := 0, locals := 158 }
noncomputable def bX1_who_56 (E : gE) (N : Nat) (h0 : Nat) (K4 : GS → Int32 → Int32 → Int32 → Option (Int32 × GS)) (S : GS) (x1 : Int32) (x2 : Int32) (x3 : Int32) : Option (Int32 × GS) :=
  K4 S x1 x2 (x3 + (1 : Int32))
noncomputable def bX1_who_50 (E : gE) (N : Nat) (h0 : Nat) (K4 : GS → Int32 → Int32 → Int32 → Option (Int32 × GS)) (S : GS) (x1 : Int32) (x2 : Int32) (x3 : Int32) : Option (Int32 × GS) :=
  bX1_who_56 E N h0 K4 S x1 (x2 ||| ((1 : Int32) <<< (x3 &&& 31))) x3
noncomputable def bX1_who_4 (E : gE) (N : Nat) (h0 : Nat) (K4 : GS → Int32 → Int32 → Int32 → Option (Int32 × GS)) (S : GS) (x1 : Int32) (x2 : Int32) (x3 : Int32) : Option (Int32 × GS) :=
  gbd (vInchBorders_persons___I E N S (some h0)) (fun r_1 S_2 =>
  if r_1 ≤ x3 then
    some (x2, S_2)
  else
    if x1 = 0 then
      ggr S_2 (some h0) 4 (fun v_7 =>
      gbd (vInchBorders_Times_canCross__I_I E N S_2 v_7 x3) (fun r_9 S_10 =>
      if r_9 = 0 then
        bX1_who_50 E N h0 K4 S_10 x1 x2 x3
      else
        bX1_who_56 E N h0 K4 S_10 x1 x2 x3))
    else
      ggr S_2 (some h0) 4 (fun v_14 =>
      ggr S_2 v_14 34 (fun v_16 =>
      gai 1 S_2 v_16 x3 (fun v_18 =>
      ggr S_2 (some h0) 3 (fun v_20 =>
      gbd (vInchBorders_Atlas_home__I_I E N S_2 v_20 x3) (fun r_22 S_23 =>
      if v_18 = r_22 then
        bX1_who_50 E N h0 K4 S_23 x1 x2 x3
      else
        bX1_who_56 E N h0 K4 S_23 x1 x2 x3))))))
noncomputable def bX1_who_4L (E : gE) (N : Nat) (h0 : Nat) : Nat → GS → Int32 → Int32 → Int32 → Option (Int32 × GS)
  | 0 => fun _ _ _ _ => none
  | n + 1 => bX1_who_4 E N h0 (bX1_who_4L E N h0 n)
noncomputable def bX1_who_0 (E : gE) (N : Nat) (h0 : Nat) (S : GS) (x1 : Int32) : Option (Int32 × GS) :=
  bX1_who_4L E N h0 N S x1 (0 : Int32) (0 : Int32)
noncomputable def fX1_who (E : gE) (N : Nat) (S : GS) (h0 : Nat) (x1 : Int32) : Option (Int32 × GS) := bX1_who_0 E N h0 S x1
/-! java/lang/Integer.bitCount(I)I -/
abbrev rJ17_bitCount : Room := { frames := 0, cells := 0, slots := 0, locals := 0 }
noncomputable def bJ17_bitCount_0 (E : gE) (N : Nat) (S : GS) (x0 : Int32) : Option (Int32 × GS) :=
  some (((((((((x0 - (((x0.toUInt32 >>> ((1 : Int32).toUInt32 &&& Int32.toUInt32 31)).toInt32) &&& (1431655765 : Int32))) &&& (858993459 : Int32)) + ((((x0 - (((x0.toUInt32 >>> ((1 : Int32).toUInt32 &&& Int32.toUInt32 31)).toInt32) &&& (1431655765 : Int32))).toUInt32 >>> ((2 : Int32).toUInt32 &&& Int32.toUInt32 31)).toInt32) &&& (858993459 : Int32))) + (((((x0 - (((x0.toUInt32 >>> ((1 : Int32).toUInt32 &&& Int32.toUInt32 31)).toInt32) &&& (1431655765 : Int32))) &&& (858993459 : Int32)) + ((((x0 - (((x0.toUInt32 >>> ((1 : Int32).toUInt32 &&& Int32.toUInt32 31)).toInt32) &&& (1431655765 : Int32))).toUInt32 >>> ((2 : Int32).toUInt32 &&& Int32.toUInt32 31)).toInt32) &&& (858993459 : Int32))).toUInt32 >>> ((4 : Int32).toUInt32 &&& Int32.toUInt32 31)).toInt32)) &&& (252645135 : Int32)) + (((((((x0 - (((x0.toUInt32 >>> ((1 : Int32).toUInt32 &&& Int32.toUInt32 31)).toInt32) &&& (1431655765 : Int32))) &&& (858993459 : Int32)) + ((((x0 - (((x0.toUInt32 >>> ((1 : Int32).toUInt32 &&& Int32.toUInt32 31)).toInt32) &&& (1431655765 : Int32))).toUInt32 >>> ((2 : Int32).toUInt32 &&& Int32.toUInt32 31)).toInt32) &&& (858993459 : Int32))) + (((((x0 - (((x0.toUInt32 >>> ((1 : Int32).toUInt32 &&& Int32.toUInt32 31)).toInt32) &&& (1431655765 : Int32))) &&& (858993459 : Int32)) + ((((x0 - (((x0.toUInt32 >>> ((1 : Int32).toUInt32 &&& Int32.toUInt32 31)).toInt32) &&& (1431655765 : Int32))).toUInt32 >>> ((2 : Int32).toUInt32 &&& Int32.toUInt32 31)).toInt32) &&& (858993459 : Int32))).toUInt32 >>> ((4 : Int32).toUInt32 &&& Int32.toUInt32 31)).toInt32)) &&& (252645135 : Int32)).toUInt32 >>> ((8 : Int32).toUInt32 &&& Int32.toUInt32 31)).toInt32)) + ((((((((x0 - (((x0.toUInt32 >>> ((1 : Int32).toUInt32 &&& Int32.toUInt32 31)).toInt32) &&& (1431655765 : Int32))) &&& (858993459 : Int32)) + ((((x0 - (((x0.toUInt32 >>> ((1 : Int32).toUInt32 &&& Int32.toUInt32 31)).toInt32) &&& (1431655765 : Int32))).toUInt32 >>> ((2 : Int32).toUInt32 &&& Int32.toUInt32 31)).toInt32) &&& (858993459 : Int32))) + (((((x0 - (((x0.toUInt32 >>> ((1 : Int32).toUInt32 &&& Int32.toUInt32 31)).toInt32) &&& (1431655765 : Int32))) &&& (858993459 : Int32)) + ((((x0 - (((x0.toUInt32 >>> ((1 : Int32).toUInt32 &&& Int32.toUInt32 31)).toInt32) &&& (1431655765 : Int32))).toUInt32 >>> ((2 : Int32).toUInt32 &&& Int32.toUInt32 31)).toInt32) &&& (858993459 : Int32))).toUInt32 >>> ((4 : Int32).toUInt32 &&& Int32.toUInt32 31)).toInt32)) &&& (252645135 : Int32)) + (((((((x0 - (((x0.toUInt32 >>> ((1 : Int32).toUInt32 &&& Int32.toUInt32 31)).toInt32) &&& (1431655765 : Int32))) &&& (858993459 : Int32)) + ((((x0 - (((x0.toUInt32 >>> ((1 : Int32).toUInt32 &&& Int32.toUInt32 31)).toInt32) &&& (1431655765 : Int32))).toUInt32 >>> ((2 : Int32).toUInt32 &&& Int32.toUInt32 31)).toInt32) &&& (858993459 : Int32))) + (((((x0 - (((x0.toUInt32 >>> ((1 : Int32).toUInt32 &&& Int32.toUInt32 31)).toInt32) &&& (1431655765 : Int32))) &&& (858993459 : Int32)) + ((((x0 - (((x0.toUInt32 >>> ((1 : Int32).toUInt32 &&& Int32.toUInt32 31)).toInt32) &&& (1431655765 : Int32))).toUInt32 >>> ((2 : Int32).toUInt32 &&& Int32.toUInt32 31)).toInt32) &&& (858993459 : Int32))).toUInt32 >>> ((4 : Int32).toUInt32 &&& Int32.toUInt32 31)).toInt32)) &&& (252645135 : Int32)).toUInt32 >>> ((8 : Int32).toUInt32 &&& Int32.toUInt32 31)).toInt32)).toUInt32 >>> ((16 : Int32).toUInt32 &&& Int32.toUInt32 31)).toInt32)) &&& (63 : Int32)), S)
noncomputable def fJ17_bitCount (E : gE) (N : Nat) (S : GS) (x0 : Int32) : Option (Int32 × GS) := bJ17_bitCount_0 E N S x0
/-! InchBorders.many(I)I -/
abbrev rX1_many : Room := { frames := 1, cells := 0, slots := 0, locals := 20 }
noncomputable def bX1_many_0 (E : gE) (N : Nat) (S : GS) (x0 : Int32) : Option (Int32 × GS) :=
  gbd (fJ17_bitCount E N S x0) (fun r_1 S_2 =>
  some (r_1, S_2))
noncomputable def fX1_many (E : gE) (N : Nat) (S : GS) (x0 : Int32) : Option (Int32 × GS) := bX1_many_0 E N S x0
noncomputable def vInchBorders_Times_lengths___I (E : gE) (N : Nat) (S : GS) (r : Option Nat) : Option (Int32 × GS) := gvd S r (fun b ci =>
  if ci = 2 then fX3_lengths E N S b else
  none)
noncomputable def vInchBorders_who__Z_I (E : gE) (N : Nat) (S : GS) (r : Option Nat) (y0 : Int32) : Option (Int32 × GS) := gvd S r (fun b ci =>
  if ci = 0 then fX1_who E N S b y0 else
  none)
/-! InchBorders.now(I)I -/
abbrev rX1_now : Room := { frames := 8, cells := 0, slots := 0, locals := 181 }
noncomputable def bX1_now_120 (E : gE) (N : Nat) (h0 : Nat) (K120 : GS → Int32 → (Option Nat) → Int32 → Int32 → Option (Int32 × GS)) (S : GS) (x2 : Int32) (x3 : Option Nat) (x4 : Int32) (x5 : Int32) : Option (Int32 × GS) :=
  if x4 ≤ x5 then
    some (x2, S)
  else
    gai 1 S x3 x5 (fun v_2 =>
    gbd (fX1_many E N S v_2) (fun r_4 S_5 =>
    K120 S_5 (x2 + r_4) x3 x4 (x5 + (1 : Int32))))
noncomputable def bX1_now_120L (E : gE) (N : Nat) (h0 : Nat) : Nat → GS → Int32 → (Option Nat) → Int32 → Int32 → Option (Int32 × GS)
  | 0 => fun _ _ _ _ _ => none
  | n + 1 => bX1_now_120 E N h0 (bX1_now_120L E N h0 n)
noncomputable def bX1_now_0 (E : gE) (N : Nat) (h0 : Nat) (S : GS) (x1 : Int32) : Option (Int32 × GS) :=
  if x1 = (0 : Int32) then
    ggr S (some h0) 4 (fun v_2 =>
    ggi S v_2 29 (fun v_4 =>
    some (v_4, S)))
  else
    if x1 = (1 : Int32) then
      ggr S (some h0) 4 (fun v_7 =>
      gbd (vInchBorders_Times_lengths___I E N S v_7) (fun r_9 S_10 =>
      some (r_9, S_10)))
    else
      if x1 = (2 : Int32) then
        ggr S (some h0) 4 (fun v_14 =>
        ggr S v_14 32 (fun v_16 =>
        gbd (fX1_sum E N S v_16) (fun r_18 S_19 =>
        some (r_18, S_19))))
      else
        if x1 = (3 : Int32) then
          ggr S (some h0) 4 (fun v_23 =>
          ggi S v_23 30 (fun v_25 =>
          some (v_25, S)))
        else
          if x1 = (4 : Int32) then
            ggr S (some h0) 4 (fun v_28 =>
            ggi S v_28 31 (fun v_30 =>
            some (v_30, S)))
          else
            if x1 = (5 : Int32) then
              gbd (vInchBorders_who__Z_I E N S (some h0) (1 : Int32)) (fun r_33 S_34 =>
              some (r_33, S_34))
            else
              if x1 = (6 : Int32) then
                gbd (vInchBorders_who__Z_I E N S (some h0) (0 : Int32)) (fun r_38 S_39 =>
                some (r_38, S_39))
              else
                if x1 = (7 : Int32) then
                  ggr S (some h0) 4 (fun v_43 =>
                  ggr S v_43 33 (fun v_45 =>
                  gal S v_45 (fun v_47 =>
                  bX1_now_120L E N h0 N S (0 : Int32) v_45 v_47 (0 : Int32))))
                else
                  some ((-1 : Int32), S)
noncomputable def fX1_now (E : gE) (N : Nat) (S : GS) (h0 : Nat) (x1 : Int32) : Option (Int32 × GS) := bX1_now_0 E N h0 S x1
/-! InchBorders$Atlas.isPerson(I)Z -/
abbrev rX2_isPerson : Room := { frames := 1, cells := 0, slots := 0, locals := 22 }
noncomputable def bX2_isPerson_0 (E : gE) (N : Nat) (h0 : Nat) (S : GS) (x1 : Int32) : Option (Int32 × GS) :=
  ggr S (some h0) 27 (fun v_1 =>
  gbd (vjava_util_ArrayList_size___I E N S v_1) (fun r_3 S_4 =>
  gbd (fX1_isIn E N S_4 x1 (0 : Int32) (r_3 - (1 : Int32))) (fun r_7 S_8 =>
  mzt r_7 (some (r_7, S_8)))))
noncomputable def fX2_isPerson (E : gE) (N : Nat) (S : GS) (h0 : Nat) (x1 : Int32) : Option (Int32 × GS) := bX2_isPerson_0 E N h0 S x1
noncomputable def vInchBorders_Atlas_isPerson__I_Z (E : gE) (N : Nat) (S : GS) (r : Option Nat) (y0 : Int32) : Option (Int32 × GS) := gvd S r (fun b ci =>
  if ci = 1 then fX2_isPerson E N S b y0 else
  none)
/-! InchBorders.isPerson(I)Z -/
abbrev rX1_isPerson : Room := { frames := 2, cells := 0, slots := 0, locals := 43 }
noncomputable def bX1_isPerson_0 (E : gE) (N : Nat) (h0 : Nat) (S : GS) (x1 : Int32) : Option (Int32 × GS) :=
  ggr S (some h0) 3 (fun v_1 =>
  gbd (vInchBorders_Atlas_isPerson__I_Z E N S v_1 x1) (fun r_3 S_4 =>
  mzt r_3 (some (r_3, S_4))))
noncomputable def fX1_isPerson (E : gE) (N : Nat) (S : GS) (h0 : Nat) (x1 : Int32) : Option (Int32 × GS) := bX1_isPerson_0 E N h0 S x1
/-! InchBorders$Crosses.<init>(II)V -/
abbrev rX14_init : Room := { frames := 2, cells := 0, slots := 0, locals := 40 }
noncomputable def bX14_init_0 (E : gE) (N : Nat) (h0 : Nat) (S : GS) (x1 : Int32) (x2 : Int32) : Option (Int32 × GS) :=
  gbd (fX13_init E N S h0) (fun _ S_2 =>
  gpv E S_2 (some h0) 73 (.int x1) (fun S_5 =>
  gpv E S_5 (some h0) 74 (.int x2) (fun S_7 =>
  some (0, S_7))))
noncomputable def fX14_init (E : gE) (N : Nat) (S : GS) (h0 : Nat) (x1 : Int32) (x2 : Int32) : Option (Int32 × GS) := bX14_init_0 E N h0 S x1 x2
/-! InchBorders$Crosses.does(LInchBorders$Times;)I -/
abbrev rX14_does : Room := { frames := 6, cells := 0, slots := 0, locals := 135 }
noncomputable def bX14_does_29 (E : gE) (N : Nat) (h0 : Nat) (S : GS) (x2 : Int32) : Option (Int32 × GS) :=
  some (x2, S)
noncomputable def bX14_does_0 (E : gE) (N : Nat) (h0 : Nat) (S : GS) (x1 : Option Nat) : Option (Int32 × GS) :=
  ggi S (some h0) 73 (fun v_1 =>
  ggi S (some h0) 74 (fun v_3 =>
  gbd (vInchBorders_Times_whyCross__II_I E N S x1 v_1 v_3) (fun r_5 S_6 =>
  if r_5 = 0 then
    ggi S_6 (some h0) 73 (fun v_10 =>
    ggi S_6 (some h0) 74 (fun v_12 =>
    gbd (vInchBorders_Times_cross__II_V E N S_6 x1 v_10 v_12) (fun _ S_15 =>
    bX14_does_29 E N h0 S_15 r_5)))
  else
    bX14_does_29 E N h0 S_6 r_5)))
noncomputable def fX14_does (E : gE) (N : Nat) (S : GS) (h0 : Nat) (x1 : Option Nat) : Option (Int32 × GS) := bX14_does_0 E N h0 S x1
/-! InchBorders$Treats.does(LInchBorders$Times;)I -/
abbrev rX18_does : Room := { frames := 1, cells := 0, slots := 0, locals := 21 }
noncomputable def bX18_does_98 (E : gE) (N : Nat) (h0 : Nat) (S : GS) (t0 : Int32) (t1 : Int32) : Option (Int32 × GS) :=
  gbd (fX13_told E N S t0 t1) (fun r_1 S_2 =>
  some (r_1, S_2))
noncomputable def bX18_does_83 (E : gE) (N : Nat) (h0 : Nat) (S : GS) (x3 : Int32) : Option (Int32 × GS) :=
  ggi S (some h0) 80 (fun v_1 =>
  if v_1 = 0 then
    bX18_does_98 E N h0 S x3 (20 : Int32)
  else
    bX18_does_98 E N h0 S x3 (10 : Int32))
noncomputable def bX18_does_60 (E : gE) (N : Nat) (h0 : Nat) (S : GS) (x1 : Option Nat) (t0 : Int32) : Option (Int32 × GS) :=
  if t0 = 0 then
    ggr S x1 33 (fun v_2 =>
    ggi S (some h0) 77 (fun v_4 =>
    gai 1 S v_2 v_4 (fun v_6 =>
    ggi S (some h0) 78 (fun v_8 =>
    gaw 1 E S v_2 v_4 (v_6 ^^^ ((1 : Int32) <<< (v_8 &&& 31))) (fun S_10 =>
    bX18_does_83 E N h0 S_10 t0)))))
  else
    bX18_does_83 E N h0 S t0
noncomputable def bX18_does_0 (E : gE) (N : Nat) (h0 : Nat) (S : GS) (x1 : Option Nat) : Option (Int32 × GS) :=
  ggr S x1 33 (fun v_1 =>
  ggi S (some h0) 77 (fun v_3 =>
  gai 1 S v_1 v_3 (fun v_5 =>
  ggi S (some h0) 78 (fun v_7 =>
  gbd (fX1_isOf E N S v_5 v_7) (fun r_9 S_10 =>
  ggi S_10 (some h0) 80 (fun v_13 =>
  if v_13 = 0 then
    if r_9 = 0 then
      bX18_does_60 E N h0 S_10 x1 (1 : Int32)
    else
      bX18_does_60 E N h0 S_10 x1 (0 : Int32)
  else
    ggi S_10 (some h0) 77 (fun v_16 =>
    ggi S_10 (some h0) 78 (fun v_18 =>
    if v_16 = v_18 then
      bX18_does_60 E N h0 S_10 x1 (1 : Int32)
    else
      if r_9 = 0 then
        bX18_does_60 E N h0 S_10 x1 (0 : Int32)
      else
        bX18_does_60 E N h0 S_10 x1 (2 : Int32)))))))))
noncomputable def fX18_does (E : gE) (N : Nat) (S : GS) (h0 : Nat) (x1 : Option Nat) : Option (Int32 × GS) := bX18_does_0 E N h0 S x1
noncomputable def vInchBorders_Times_passAll__I_I (E : gE) (N : Nat) (S : GS) (r : Option Nat) (y0 : Int32) : Option (Int32 × GS) := gvd S r (fun b ci =>
  if ci = 2 then fX3_passAll E N S b y0 else
  none)
/-! InchBorders$Passes.does(LInchBorders$Times;)I -/
abbrev rX24_does : Room := { frames := 7, cells := 0, slots := 0, locals := 149 }
noncomputable def bX24_does_0 (E : gE) (N : Nat) (h0 : Nat) (S : GS) (x1 : Option Nat) : Option (Int32 × GS) :=
  ggi S x1 29 (fun v_1 =>
  ggi S (some h0) 96 (fun v_3 =>
  if (v_1 + v_3) ≤ (400 : Int32) then
    ggi S (some h0) 96 (fun v_6 =>
    gbd (vInchBorders_Times_passAll__I_I E N S x1 v_6) (fun r_8 S_9 =>
    some ((0 : Int32), S_9)))
  else
    some ((61 : Int32), S)))
noncomputable def fX24_does (E : gE) (N : Nat) (S : GS) (h0 : Nat) (x1 : Option Nat) : Option (Int32 × GS) := bX24_does_0 E N h0 S x1
noncomputable def vInchBorders_Times_as__LInchBorders_Times__LInchBorders_Times_ (E : gE) (N : Nat) (S : GS) (r : Option Nat) (y0 : Option Nat) : Option (Option Nat × GS) := gvd S r (fun b ci =>
  if ci = 2 then fX3_as E N S b y0 else
  none)
/-! InchBorders.snap()V -/
abbrev rX1_snap : Room := { frames := 3, cells := 0, slots := 0, locals := 82 }
noncomputable def bX1_snap_62 (E : gE) (N : Nat) (h0 : Nat) (S : GS) : Option (Int32 × GS) :=
  ggr S (some h0) 7 (fun v_1 =>
  ggi S (some h0) 8 (fun v_3 =>
  gar S v_1 v_3 (fun v_5 =>
  ggr S (some h0) 4 (fun v_7 =>
  gbd (vInchBorders_Times_as__LInchBorders_Times__LInchBorders_Times_ E N S v_5 v_7) (fun r_9 S_10 =>
  ggi S_10 (some h0) 8 (fun v_13 =>
  gpv E S_10 (some h0) 8 (.int (v_13 + (1 : Int32))) (fun S_15 =>
  some (0, S_15))))))))
noncomputable def bX1_snap_18 (E : gE) (N : Nat) (h0 : Nat) (K18 : GS → (Option Nat) → Int32 → Option (Int32 × GS)) (S : GS) (x1 : Option Nat) (x2 : Int32) : Option (Int32 × GS) :=
  if (8 : Int32) ≤ x2 then
    ggr S (some h0) 7 (fun v_2 =>
    gaq E S v_2 (7 : Int32) x1 (fun S_4 =>
    ggi S_4 (some h0) 8 (fun v_6 =>
    gpv E S_4 (some h0) 8 (.int (v_6 - (1 : Int32))) (fun S_8 =>
    bX1_snap_62 E N h0 S_8))))
  else
    ggr S (some h0) 7 (fun v_10 =>
    ggr S (some h0) 7 (fun v_12 =>
    gar S v_12 x2 (fun v_14 =>
    gaq E S v_10 (x2 - (1 : Int32)) v_14 (fun S_16 =>
    K18 S_16 x1 (x2 + (1 : Int32))))))
noncomputable def bX1_snap_18L (E : gE) (N : Nat) (h0 : Nat) : Nat → GS → (Option Nat) → Int32 → Option (Int32 × GS)
  | 0 => fun _ _ _ => none
  | n + 1 => bX1_snap_18 E N h0 (bX1_snap_18L E N h0 n)
noncomputable def bX1_snap_0 (E : gE) (N : Nat) (h0 : Nat) (S : GS) : Option (Int32 × GS) :=
  ggi S (some h0) 8 (fun v_1 =>
  if v_1 = (8 : Int32) then
    ggr S (some h0) 7 (fun v_4 =>
    gar S v_4 (0 : Int32) (fun v_6 =>
    bX1_snap_18L E N h0 N S v_6 (1 : Int32)))
  else
    bX1_snap_62 E N h0 S)
noncomputable def fX1_snap (E : gE) (N : Nat) (S : GS) (h0 : Nat) : Option (Int32 × GS) := bX1_snap_0 E N h0 S
noncomputable def vInchBorders_Act_does__LInchBorders_Times__I (E : gE) (N : Nat) (S : GS) (r : Option Nat) (y0 : Option Nat) : Option (Int32 × GS) := gvd S r (fun b ci =>
  if ci = 9 then fX14_does E N S b y0 else
  if ci = 10 then fX15_does E N S b y0 else
  if ci = 11 then fX17_does E N S b y0 else
  if ci = 12 then fX18_does E N S b y0 else
  if ci = 17 then fX24_does E N S b y0 else
  none)
noncomputable def vInchBorders_snap___V (E : gE) (N : Nat) (S : GS) (r : Option Nat) : Option (Int32 × GS) := gvd S r (fun b ci =>
  if ci = 0 then fX1_snap E N S b else
  none)
/-! InchBorders.does(LInchBorders$Act;)I -/
abbrev rX1_does : Room := { frames := 8, cells := 0, slots := 0, locals := 170 }
noncomputable def bX1_does_0 (E : gE) (N : Nat) (h0 : Nat) (S : GS) (x1 : Option Nat) : Option (Int32 × GS) :=
  ggr S (some h0) 5 (fun v_1 =>
  ggr S (some h0) 4 (fun v_3 =>
  gbd (vInchBorders_Times_as__LInchBorders_Times__LInchBorders_Times_ E N S v_1 v_3) (fun r_5 S_6 =>
  gbd (vInchBorders_Act_does__LInchBorders_Times__I E N S_6 x1 r_5) (fun r_9 S_10 =>
  if r_9 = 0 then
    gbd (vInchBorders_snap___V E N S_10 (some h0)) (fun _ S_15 =>
    ggr S_15 (some h0) 4 (fun v_18 =>
    ggr S_15 (some h0) 5 (fun v_20 =>
    gbd (vInchBorders_Times_as__LInchBorders_Times__LInchBorders_Times_ E N S_15 v_18 v_20) (fun r_22 S_23 =>
    some ((0 : Int32), S_23)))))
  else
    some ((r_9 - r_9 / (10 : Int32) * (10 : Int32)), S_10)))))
noncomputable def fX1_does (E : gE) (N : Nat) (S : GS) (h0 : Nat) (x1 : Option Nat) : Option (Int32 × GS) := bX1_does_0 E N h0 S x1
noncomputable def vInchBorders_isPerson__I_Z (E : gE) (N : Nat) (S : GS) (r : Option Nat) (y0 : Int32) : Option (Int32 × GS) := gvd S r (fun b ci =>
  if ci = 0 then fX1_isPerson E N S b y0 else
  none)
noncomputable def vInchBorders_does__LInchBorders_Act__I (E : gE) (N : Nat) (S : GS) (r : Option Nat) (y0 : Option Nat) : Option (Int32 × GS) := gvd S r (fun b ci =>
  if ci = 0 then fX1_does E N S b y0 else
  none)
/-! InchBorders.cross(II)I -/
abbrev rX1_cross (mc ms : Nat) : Room := { frames := 9, cells := mc, slots := ms, locals := 192 }
noncomputable def bX1_cross_33 (E : gE) (N : Nat) (h0 : Nat) (S : GS) (t0 : Int32) : Option (Int32 × GS) :=
  some (t0, S)
noncomputable def bX1_cross_29 (E : gE) (N : Nat) (h0 : Nat) (S : GS) (t0 : Int32) : Option (Int32 × GS) :=
  bX1_cross_33 E N h0 S t0
noncomputable def bX1_cross_26 (E : gE) (N : Nat) (h0 : Nat) (S : GS) (t0 : Option Nat) (t1 : Option Nat) : Option (Int32 × GS) :=
  gbd (vInchBorders_does__LInchBorders_Act__I E N S t0 t1) (fun r_1 S_2 =>
  bX1_cross_29 E N h0 S_2 r_1)
noncomputable def bX1_cross_20 (E : gE) (N : Nat) (h0 : Nat) (S : GS) (x1 : Int32) (x2 : Int32) (t0 : Option Nat) (t1 : Option Nat) : Option (Int32 × GS) :=
  grf t1 (fun b_5 =>
  gbd (fX14_init E N S b_5 x1 x2) (fun _ S_2 =>
  bX1_cross_26 E N h0 S_2 t0 (some b_5)))
noncomputable def bX1_cross_32 (E : gE) (N : Nat) (h0 : Nat) (S : GS) : Option (Int32 × GS) :=
  bX1_cross_33 E N h0 S (-1 : Int32)
noncomputable def bX1_cross_13 (E : gE) (N : Nat) (h0 : Nat) (S : GS) (x1 : Int32) (x2 : Int32) (t0 : Int32) : Option (Int32 × GS) :=
  if t0 = 0 then
    bX1_cross_32 E N h0 S
  else
    gnw S 9 (fun a_3 S_2 =>
    bX1_cross_20 E N h0 S_2 x1 x2 (some h0) (some a_3))
noncomputable def bX1_cross_5 (E : gE) (N : Nat) (h0 : Nat) (S : GS) (x1 : Int32) (x2 : Int32) (t0 : Int32) : Option (Int32 × GS) :=
  if t0 = 0 then
    bX1_cross_32 E N h0 S
  else
    gbd (vInchBorders_isLand__I_Z E N S (some h0) x2) (fun r_2 S_3 =>
    bX1_cross_13 E N h0 S_3 x1 x2 r_2)
noncomputable def bX1_cross_0 (E : gE) (N : Nat) (h0 : Nat) (S : GS) (x1 : Int32) (x2 : Int32) : Option (Int32 × GS) :=
  gbd (vInchBorders_isPerson__I_Z E N S (some h0) x1) (fun r_1 S_2 =>
  bX1_cross_5 E N h0 S_2 x1 x2 r_1)
noncomputable def fX1_cross (E : gE) (N : Nat) (S : GS) (h0 : Nat) (x1 : Int32) (x2 : Int32) : Option (Int32 × GS) := bX1_cross_0 E N h0 S x1 x2
/-! InchBorders$Treats.<init>(IIZ)V -/
abbrev rX18_init : Room := { frames := 3, cells := 0, slots := 0, locals := 62 }
noncomputable def bX18_init_0 (E : gE) (N : Nat) (h0 : Nat) (S : GS) (x1 : Int32) (x2 : Int32) (x3 : Int32) : Option (Int32 × GS) :=
  gbd (fX16_init E N S h0 x1 x2) (fun _ S_2 =>
  mzt x3 (
  gpv E S_2 (some h0) 80 (.int x3) (fun S_5 =>
  some (0, S_5))))
noncomputable def fX18_init (E : gE) (N : Nat) (S : GS) (h0 : Nat) (x1 : Int32) (x2 : Int32) (x3 : Int32) : Option (Int32 × GS) := bX18_init_0 E N h0 S x1 x2 x3
/-! InchBorders.treats(IIZ)I -/
abbrev rX1_treats (mc ms : Nat) : Room := { frames := 9, cells := mc, slots := ms, locals := 192 }
noncomputable def bX1_treats_34 (E : gE) (N : Nat) (h0 : Nat) (S : GS) (t0 : Int32) : Option (Int32 × GS) :=
  some (t0, S)
noncomputable def bX1_treats_30 (E : gE) (N : Nat) (h0 : Nat) (S : GS) (t0 : Int32) : Option (Int32 × GS) :=
  bX1_treats_34 E N h0 S t0
noncomputable def bX1_treats_27 (E : gE) (N : Nat) (h0 : Nat) (S : GS) (t0 : Option Nat) (t1 : Option Nat) : Option (Int32 × GS) :=
  gbd (vInchBorders_does__LInchBorders_Act__I E N S t0 t1) (fun r_1 S_2 =>
  bX1_treats_30 E N h0 S_2 r_1)
noncomputable def bX1_treats_20 (E : gE) (N : Nat) (h0 : Nat) (S : GS) (x1 : Int32) (x2 : Int32) (x3 : Int32) (t0 : Option Nat) (t1 : Option Nat) : Option (Int32 × GS) :=
  grf t1 (fun b_5 =>
  gbd (fX18_init E N S b_5 x1 x2 x3) (fun _ S_2 =>
  bX1_treats_27 E N h0 S_2 t0 (some b_5)))
noncomputable def bX1_treats_33 (E : gE) (N : Nat) (h0 : Nat) (S : GS) : Option (Int32 × GS) :=
  bX1_treats_34 E N h0 S (-1 : Int32)
noncomputable def bX1_treats_13 (E : gE) (N : Nat) (h0 : Nat) (S : GS) (x1 : Int32) (x2 : Int32) (x3 : Int32) (t0 : Int32) : Option (Int32 × GS) :=
  if t0 = 0 then
    bX1_treats_33 E N h0 S
  else
    gnw S 12 (fun a_3 S_2 =>
    bX1_treats_20 E N h0 S_2 x1 x2 x3 (some h0) (some a_3))
noncomputable def bX1_treats_5 (E : gE) (N : Nat) (h0 : Nat) (S : GS) (x1 : Int32) (x2 : Int32) (x3 : Int32) (t0 : Int32) : Option (Int32 × GS) :=
  if t0 = 0 then
    bX1_treats_33 E N h0 S
  else
    gbd (vInchBorders_isLand__I_Z E N S (some h0) x2) (fun r_2 S_3 =>
    bX1_treats_13 E N h0 S_3 x1 x2 x3 r_2)
noncomputable def bX1_treats_0 (E : gE) (N : Nat) (h0 : Nat) (S : GS) (x1 : Int32) (x2 : Int32) (x3 : Int32) : Option (Int32 × GS) :=
  gbd (vInchBorders_isLand__I_Z E N S (some h0) x1) (fun r_1 S_2 =>
  bX1_treats_5 E N h0 S_2 x1 x2 x3 r_1)
noncomputable def fX1_treats (E : gE) (N : Nat) (S : GS) (h0 : Nat) (x1 : Int32) (x2 : Int32) (x3 : Int32) : Option (Int32 × GS) := bX1_treats_0 E N h0 S x1 x2 x3
noncomputable def vInchBorders_treats__IIZ_I (E : gE) (N : Nat) (S : GS) (r : Option Nat) (y0 : Int32) (y1 : Int32) (y2 : Int32) : Option (Int32 × GS) := gvd S r (fun b ci =>
  if ci = 0 then fX1_treats E N S b y0 y1 y2 else
  none)
/-! InchBorders.pact(II)I -/
abbrev rX1_pact (mc ms : Nat) : Room := { frames := 10, cells := mc, slots := ms, locals := 215 }
noncomputable def bX1_pact_7 (E : gE) (N : Nat) (h0 : Nat) (S : GS) (t0 : Int32) : Option (Int32 × GS) :=
  some (t0, S)
noncomputable def bX1_pact_0 (E : gE) (N : Nat) (h0 : Nat) (S : GS) (x1 : Int32) (x2 : Int32) : Option (Int32 × GS) :=
  gbd (vInchBorders_treats__IIZ_I E N S (some h0) x1 x2 (1 : Int32)) (fun r_1 S_2 =>
  bX1_pact_7 E N h0 S_2 r_1)
noncomputable def fX1_pact (E : gE) (N : Nat) (S : GS) (h0 : Nat) (x1 : Int32) (x2 : Int32) : Option (Int32 × GS) := bX1_pact_0 E N h0 S x1 x2
/-! InchBorders.breaks(II)I -/
abbrev rX1_breaks (mc ms : Nat) : Room := { frames := 10, cells := mc, slots := ms, locals := 215 }
noncomputable def bX1_breaks_7 (E : gE) (N : Nat) (h0 : Nat) (S : GS) (t0 : Int32) : Option (Int32 × GS) :=
  some (t0, S)
noncomputable def bX1_breaks_0 (E : gE) (N : Nat) (h0 : Nat) (S : GS) (x1 : Int32) (x2 : Int32) : Option (Int32 × GS) :=
  gbd (vInchBorders_treats__IIZ_I E N S (some h0) x1 x2 (0 : Int32)) (fun r_1 S_2 =>
  bX1_breaks_7 E N h0 S_2 r_1)
noncomputable def fX1_breaks (E : gE) (N : Nat) (S : GS) (h0 : Nat) (x1 : Int32) (x2 : Int32) : Option (Int32 × GS) := bX1_breaks_0 E N h0 S x1 x2
/-! InchBorders.closes(IZ)I -/
abbrev rX1_closes (mc ms : Nat) : Room := { frames := 9, cells := mc, slots := ms, locals := 192 }
noncomputable def bX1_closes_27 (E : gE) (N : Nat) (h0 : Nat) (S : GS) (t0 : Int32) : Option (Int32 × GS) :=
  some (t0, S)
noncomputable def bX1_closes_23 (E : gE) (N : Nat) (h0 : Nat) (S : GS) (t0 : Int32) : Option (Int32 × GS) :=
  bX1_closes_27 E N h0 S t0
noncomputable def bX1_closes_20 (E : gE) (N : Nat) (h0 : Nat) (S : GS) (t0 : Option Nat) (t1 : Option Nat) : Option (Int32 × GS) :=
  gbd (vInchBorders_does__LInchBorders_Act__I E N S t0 t1) (fun r_1 S_2 =>
  bX1_closes_23 E N h0 S_2 r_1)
noncomputable def bX1_closes_14 (E : gE) (N : Nat) (h0 : Nat) (S : GS) (x1 : Int32) (x2 : Int32) (t0 : Option Nat) (t1 : Option Nat) : Option (Int32 × GS) :=
  grf t1 (fun b_5 =>
  gbd (fX15_init E N S b_5 x1 x2) (fun _ S_2 =>
  bX1_closes_20 E N h0 S_2 t0 (some b_5)))
noncomputable def bX1_closes_7 (E : gE) (N : Nat) (h0 : Nat) (S : GS) (x1 : Int32) (x2 : Int32) (t0 : Int32) : Option (Int32 × GS) :=
  if t0 = 0 then
    bX1_closes_27 E N h0 S (-1 : Int32)
  else
    gnw S 10 (fun a_3 S_2 =>
    bX1_closes_14 E N h0 S_2 x1 x2 (some h0) (some a_3))
noncomputable def bX1_closes_0 (E : gE) (N : Nat) (h0 : Nat) (S : GS) (x1 : Int32) (x2 : Int32) : Option (Int32 × GS) :=
  gbd (fX1_isIn E N S x1 (0 : Int32) (11 : Int32)) (fun r_1 S_2 =>
  bX1_closes_7 E N h0 S_2 x1 x2 r_1)
noncomputable def fX1_closes (E : gE) (N : Nat) (S : GS) (h0 : Nat) (x1 : Int32) (x2 : Int32) : Option (Int32 × GS) := bX1_closes_0 E N h0 S x1 x2
noncomputable def vInchBorders_closes__IZ_I (E : gE) (N : Nat) (S : GS) (r : Option Nat) (y0 : Int32) (y1 : Int32) : Option (Int32 × GS) := gvd S r (fun b ci =>
  if ci = 0 then fX1_closes E N S b y0 y1 else
  none)
/-! InchBorders.close(I)I -/
abbrev rX1_close (mc ms : Nat) : Room := { frames := 10, cells := mc, slots := ms, locals := 214 }
noncomputable def bX1_close_6 (E : gE) (N : Nat) (h0 : Nat) (S : GS) (t0 : Int32) : Option (Int32 × GS) :=
  some (t0, S)
noncomputable def bX1_close_0 (E : gE) (N : Nat) (h0 : Nat) (S : GS) (x1 : Int32) : Option (Int32 × GS) :=
  gbd (vInchBorders_closes__IZ_I E N S (some h0) x1 (1 : Int32)) (fun r_1 S_2 =>
  bX1_close_6 E N h0 S_2 r_1)
noncomputable def fX1_close (E : gE) (N : Nat) (S : GS) (h0 : Nat) (x1 : Int32) : Option (Int32 × GS) := bX1_close_0 E N h0 S x1
/-! InchBorders.open(I)I -/
abbrev rX1_open (mc ms : Nat) : Room := { frames := 10, cells := mc, slots := ms, locals := 214 }
noncomputable def bX1_open_6 (E : gE) (N : Nat) (h0 : Nat) (S : GS) (t0 : Int32) : Option (Int32 × GS) :=
  some (t0, S)
noncomputable def bX1_open_0 (E : gE) (N : Nat) (h0 : Nat) (S : GS) (x1 : Int32) : Option (Int32 × GS) :=
  gbd (vInchBorders_closes__IZ_I E N S (some h0) x1 (0 : Int32)) (fun r_1 S_2 =>
  bX1_open_6 E N h0 S_2 r_1)
noncomputable def fX1_open (E : gE) (N : Nat) (S : GS) (h0 : Nat) (x1 : Int32) : Option (Int32 × GS) := bX1_open_0 E N h0 S x1
/-! InchBorders.lend(III)I -/
abbrev rX1_lend (mc ms : Nat) : Room := { frames := 9, cells := mc, slots := ms, locals := 192 }
noncomputable def bX1_lend_44 (E : gE) (N : Nat) (h0 : Nat) (S : GS) (t0 : Int32) : Option (Int32 × GS) :=
  some (t0, S)
noncomputable def bX1_lend_40 (E : gE) (N : Nat) (h0 : Nat) (S : GS) (t0 : Int32) : Option (Int32 × GS) :=
  bX1_lend_44 E N h0 S t0
noncomputable def bX1_lend_37 (E : gE) (N : Nat) (h0 : Nat) (S : GS) (t0 : Option Nat) (t1 : Option Nat) : Option (Int32 × GS) :=
  gbd (vInchBorders_does__LInchBorders_Act__I E N S t0 t1) (fun r_1 S_2 =>
  bX1_lend_40 E N h0 S_2 r_1)
noncomputable def bX1_lend_30 (E : gE) (N : Nat) (h0 : Nat) (S : GS) (x1 : Int32) (x2 : Int32) (x3 : Int32) (t0 : Option Nat) (t1 : Option Nat) : Option (Int32 × GS) :=
  grf t1 (fun b_5 =>
  gbd (fX17_init E N S b_5 x1 x2 x3) (fun _ S_2 =>
  bX1_lend_37 E N h0 S_2 t0 (some b_5)))
noncomputable def bX1_lend_43 (E : gE) (N : Nat) (h0 : Nat) (S : GS) : Option (Int32 × GS) :=
  bX1_lend_44 E N h0 S (-1 : Int32)
noncomputable def bX1_lend_23 (E : gE) (N : Nat) (h0 : Nat) (S : GS) (x1 : Int32) (x2 : Int32) (x3 : Int32) (t0 : Int32) : Option (Int32 × GS) :=
  if t0 = 0 then
    bX1_lend_43 E N h0 S
  else
    gnw S 11 (fun a_3 S_2 =>
    bX1_lend_30 E N h0 S_2 x1 x2 x3 (some h0) (some a_3))
noncomputable def bX1_lend_13 (E : gE) (N : Nat) (h0 : Nat) (S : GS) (x1 : Int32) (x2 : Int32) (x3 : Int32) (t0 : Int32) : Option (Int32 × GS) :=
  if t0 = 0 then
    bX1_lend_43 E N h0 S
  else
    gbd (fX1_isIn E N S x3 (1 : Int32) (99 : Int32)) (fun r_2 S_3 =>
    bX1_lend_23 E N h0 S_3 x1 x2 x3 r_2)
noncomputable def bX1_lend_5 (E : gE) (N : Nat) (h0 : Nat) (S : GS) (x1 : Int32) (x2 : Int32) (x3 : Int32) (t0 : Int32) : Option (Int32 × GS) :=
  if t0 = 0 then
    bX1_lend_43 E N h0 S
  else
    gbd (vInchBorders_isLand__I_Z E N S (some h0) x2) (fun r_2 S_3 =>
    bX1_lend_13 E N h0 S_3 x1 x2 x3 r_2)
noncomputable def bX1_lend_0 (E : gE) (N : Nat) (h0 : Nat) (S : GS) (x1 : Int32) (x2 : Int32) (x3 : Int32) : Option (Int32 × GS) :=
  gbd (vInchBorders_isLand__I_Z E N S (some h0) x1) (fun r_1 S_2 =>
  bX1_lend_5 E N h0 S_2 x1 x2 x3 r_1)
noncomputable def fX1_lend (E : gE) (N : Nat) (S : GS) (h0 : Nat) (x1 : Int32) (x2 : Int32) (x3 : Int32) : Option (Int32 × GS) := bX1_lend_0 E N h0 S x1 x2 x3
/-! InchBorders.days(I)I -/
abbrev rX1_days : Room := { frames := 7, cells := 0, slots := 0, locals := 149 }
noncomputable def bX1_days_0 (E : gE) (N : Nat) (h0 : Nat) (S : GS) (x1 : Int32) : Option (Int32 × GS) :=
  gbd (fX1_isIn E N S x1 (1 : Int32) (60 : Int32)) (fun r_1 S_2 =>
  if r_1 = 0 then
    some ((-1 : Int32), S_2)
  else
    ggr S_2 (some h0) 4 (fun v_6 =>
    gbd (vInchBorders_Times_isOver___Z E N S_2 v_6) (fun r_8 S_9 =>
    if r_8 = 0 then
      gbd (vInchBorders_snap___V E N S_9 (some h0)) (fun _ S_14 =>
      ggr S_14 (some h0) 4 (fun v_17 =>
      gbd (vInchBorders_Times_passAll__I_I E N S_14 v_17 x1) (fun r_19 S_20 =>
      some (r_19, S_20))))
    else
      some ((0 : Int32), S_9))))
noncomputable def fX1_days (E : gE) (N : Nat) (S : GS) (h0 : Nat) (x1 : Int32) : Option (Int32 × GS) := bX1_days_0 E N h0 S x1
/-! InchBorders.undo()I -/
abbrev rX1_undo : Room := { frames := 3, cells := 0, slots := 0, locals := 82 }
noncomputable def bX1_undo_0 (E : gE) (N : Nat) (h0 : Nat) (S : GS) : Option (Int32 × GS) :=
  ggi S (some h0) 8 (fun v_1 =>
  if v_1 = 0 then
    some ((-1 : Int32), S)
  else
    ggi S (some h0) 8 (fun v_4 =>
    gpv E S (some h0) 8 (.int (v_4 - (1 : Int32))) (fun S_6 =>
    ggr S_6 (some h0) 4 (fun v_8 =>
    ggr S_6 (some h0) 7 (fun v_10 =>
    ggi S_6 (some h0) 8 (fun v_12 =>
    gar S_6 v_10 v_12 (fun v_14 =>
    gbd (vInchBorders_Times_as__LInchBorders_Times__LInchBorders_Times_ E N S_6 v_8 v_14) (fun r_16 S_17 =>
    ggi S_17 (some h0) 8 (fun v_20 =>
    some (v_20, S_17))))))))))
noncomputable def fX1_undo (E : gE) (N : Nat) (S : GS) (h0 : Nat) : Option (Int32 × GS) := bX1_undo_0 E N h0 S
/-! InchBorders.isAsked(III)Z -/
abbrev rX1_isAsked : Room := { frames := 3, cells := 0, slots := 0, locals := 64 }
noncomputable def bX1_isAsked_32 (E : gE) (N : Nat) (h0 : Nat) (S : GS) (t0 : Int32) : Option (Int32 × GS) :=
  mzt t0 (some (t0, S))
noncomputable def bX1_isAsked_31 (E : gE) (N : Nat) (h0 : Nat) (S : GS) : Option (Int32 × GS) :=
  bX1_isAsked_32 E N h0 S (0 : Int32)
noncomputable def bX1_isAsked_0 (E : gE) (N : Nat) (h0 : Nat) (S : GS) (x1 : Int32) (x2 : Int32) (x3 : Int32) : Option (Int32 × GS) :=
  gbd (vInchBorders_isPerson__I_Z E N S (some h0) x1) (fun r_1 S_2 =>
  if r_1 = 0 then
    bX1_isAsked_31 E N h0 S_2
  else
    gbd (vInchBorders_isLand__I_Z E N S_2 (some h0) x2) (fun r_6 S_7 =>
    if r_6 = 0 then
      bX1_isAsked_31 E N h0 S_7
    else
      gbd (fX1_isIn E N S_7 x3 (0 : Int32) (240 : Int32)) (fun r_11 S_12 =>
      if r_11 = 0 then
        bX1_isAsked_31 E N h0 S_12
      else
        bX1_isAsked_32 E N h0 S_12 (1 : Int32))))
noncomputable def fX1_isAsked (E : gE) (N : Nat) (S : GS) (h0 : Nat) (x1 : Int32) (x2 : Int32) (x3 : Int32) : Option (Int32 × GS) := bX1_isAsked_0 E N h0 S x1 x2 x3
noncomputable def vInchBorders_isAsked__III_Z (E : gE) (N : Nat) (S : GS) (r : Option Nat) (y0 : Int32) (y1 : Int32) (y2 : Int32) : Option (Int32 × GS) := gvd S r (fun b ci =>
  if ci = 0 then fX1_isAsked E N S b y0 y1 y2 else
  none)
noncomputable def vInchBorders_Goal_fewest__I_I (E : gE) (N : Nat) (S : GS) (r : Option Nat) (y0 : Int32) : Option (Int32 × GS) := gvd S r (fun b ci =>
  if ci = 13 then fX20_fewest E N S b y0 else
  none)
/-! InchBorders.way(III)I -/
abbrev rX1_way (mc ms : Nat) : Room := { frames := 387, cells := mc, slots := ms, locals := 9087 }
noncomputable def bX1_way_61 (E : gE) (N : Nat) (h0 : Nat) (S : GS) (x5 : Int32) : Option (Int32 × GS) :=
  gpv E S (some h0) 11 (.int x5) (fun S_1 =>
  some (x5, S_1))
noncomputable def bX1_way_35 (E : gE) (N : Nat) (h0 : Nat) (S : GS) (x4 : Option Nat) (t0 : Int32) : Option (Int32 × GS) :=
  if t0 = (-1 : Int32) then
    some ((-1 : Int32), S)
  else
    ggr S x4 84 (fun v_2 =>
    ggr S (some h0) 9 (fun v_4 =>
    gcp E S v_2 (0 : Int32) v_4 (0 : Int32) t0 (fun S_6 =>
    bX1_way_61 E N h0 S_6 t0)))
noncomputable def bX1_way_27 (E : gE) (N : Nat) (h0 : Nat) (S : GS) (x1 : Int32) (t0 : Option Nat) : Option (Int32 × GS) :=
  gbd (vInchBorders_Goal_fewest__I_I E N S t0 x1) (fun r_1 S_2 =>
  bX1_way_35 E N h0 S_2 t0 r_1)
noncomputable def bX1_way_15 (E : gE) (N : Nat) (h0 : Nat) (S : GS) (x1 : Int32) (x2 : Int32) (x3 : Int32) (t0 : Option Nat) : Option (Int32 × GS) :=
  ggr S (some h0) 4 (fun v_1 =>
  grf t0 (fun b_7 =>
  gbd (fX20_init E N S b_7 v_1 x1 (0 : Int32) x2 x3) (fun _ S_4 =>
  bX1_way_27 E N h0 S_4 x1 (some b_7))))
noncomputable def bX1_way_7 (E : gE) (N : Nat) (h0 : Nat) (S : GS) (x1 : Int32) (x2 : Int32) (x3 : Int32) (t0 : Int32) : Option (Int32 × GS) :=
  if t0 = 0 then
    some ((-1 : Int32), S)
  else
    gnw S 13 (fun a_3 S_2 =>
    bX1_way_15 E N h0 S_2 x1 x2 x3 (some a_3))
noncomputable def bX1_way_0 (E : gE) (N : Nat) (h0 : Nat) (S : GS) (x1 : Int32) (x2 : Int32) (x3 : Int32) : Option (Int32 × GS) :=
  gbd (vInchBorders_isAsked__III_Z E N S (some h0) x1 x2 x3) (fun r_1 S_2 =>
  bX1_way_7 E N h0 S_2 x1 x2 x3 r_1)
noncomputable def fX1_way (E : gE) (N : Nat) (S : GS) (h0 : Nat) (x1 : Int32) (x2 : Int32) (x3 : Int32) : Option (Int32 × GS) := bX1_way_0 E N h0 S x1 x2 x3
/-! InchBorders.wayAt(I)I -/
abbrev rX1_wayAt : Room := { frames := 1, cells := 0, slots := 0, locals := 22 }
noncomputable def bX1_wayAt_24 (E : gE) (N : Nat) (h0 : Nat) (S : GS) (t0 : Int32) : Option (Int32 × GS) :=
  some (t0, S)
noncomputable def bX1_wayAt_0 (E : gE) (N : Nat) (h0 : Nat) (S : GS) (x1 : Int32) : Option (Int32 × GS) :=
  ggi S (some h0) 11 (fun v_1 =>
  gbd (fX1_isIn E N S x1 (0 : Int32) (v_1 - (1 : Int32))) (fun r_3 S_4 =>
  if r_3 = 0 then
    bX1_wayAt_24 E N h0 S_4 (-1 : Int32)
  else
    ggr S_4 (some h0) 9 (fun v_8 =>
    gai 1 S_4 v_8 x1 (fun v_10 =>
    bX1_wayAt_24 E N h0 S_4 v_10))))
noncomputable def fX1_wayAt (E : gE) (N : Nat) (S : GS) (h0 : Nat) (x1 : Int32) : Option (Int32 × GS) := bX1_wayAt_0 E N h0 S x1
noncomputable def vInchBorders_Back_starts__II_Z (E : gE) (N : Nat) (S : GS) (r : Option Nat) (y0 : Int32) (y1 : Int32) : Option (Int32 × GS) := gvd S r (fun b ci =>
  if ci = 14 then fX19_starts E N S b y0 y1 else
  none)
/-! InchBorders.round(I)I -/
abbrev rX1_round (mc ms : Nat) : Room := { frames := 386, cells := mc, slots := ms, locals := 9065 }
noncomputable def bX1_round_36 (E : gE) (N : Nat) (h0 : Nat) (K25 : GS → Int32 → (Option Nat) → Int32 → Option (Int32 × GS)) (S : GS) (x1 : Int32) (x2 : Option Nat) (x3 : Int32) (t0 : Int32) : Option (Int32 × GS) :=
  K25 S x1 x2 (x3 + (1 : Int32))
noncomputable def bX1_round_25 (E : gE) (N : Nat) (h0 : Nat) (K25 : GS → Int32 → (Option Nat) → Int32 → Option (Int32 × GS)) (S : GS) (x1 : Int32) (x2 : Option Nat) (x3 : Int32) : Option (Int32 × GS) :=
  if (5 : Int32) < x3 then
    ggi S x2 88 (fun v_2 =>
    some (v_2, S))
  else
    gbd (vInchBorders_Back_starts__II_Z E N S x2 x1 x3) (fun r_4 S_5 =>
    bX1_round_36 E N h0 K25 S_5 x1 x2 x3 r_4)
noncomputable def bX1_round_25L (E : gE) (N : Nat) (h0 : Nat) : Nat → GS → Int32 → (Option Nat) → Int32 → Option (Int32 × GS)
  | 0 => fun _ _ _ _ => none
  | n + 1 => bX1_round_25 E N h0 (bX1_round_25L E N h0 n)
noncomputable def bX1_round_22 (E : gE) (N : Nat) (h0 : Nat) (S : GS) (x1 : Int32) (t0 : Option Nat) : Option (Int32 × GS) :=
  bX1_round_25L E N h0 N S x1 t0 (1 : Int32)
noncomputable def bX1_round_13 (E : gE) (N : Nat) (h0 : Nat) (S : GS) (x1 : Int32) (t0 : Option Nat) : Option (Int32 × GS) :=
  ggr S (some h0) 4 (fun v_1 =>
  grf t0 (fun b_7 =>
  gbd (fX21_init E N S b_7 v_1 x1) (fun _ S_4 =>
  bX1_round_22 E N h0 S_4 x1 (some b_7))))
noncomputable def bX1_round_5 (E : gE) (N : Nat) (h0 : Nat) (S : GS) (x1 : Int32) (t0 : Int32) : Option (Int32 × GS) :=
  if t0 = 0 then
    some ((-1 : Int32), S)
  else
    gnw S 14 (fun a_3 S_2 =>
    bX1_round_13 E N h0 S_2 x1 (some a_3))
noncomputable def bX1_round_0 (E : gE) (N : Nat) (h0 : Nat) (S : GS) (x1 : Int32) : Option (Int32 × GS) :=
  gbd (vInchBorders_isPerson__I_Z E N S (some h0) x1) (fun r_1 S_2 =>
  bX1_round_5 E N h0 S_2 x1 r_1)
noncomputable def fX1_round (E : gE) (N : Nat) (S : GS) (h0 : Nat) (x1 : Int32) : Option (Int32 × GS) := bX1_round_0 E N h0 S x1
/-! InchBorders.lands()I -/
abbrev rX1_lands : Room := { frames := 1, cells := 0, slots := 0, locals := 20 }
noncomputable def bX1_lands_0 (E : gE) (N : Nat) (h0 : Nat) (S : GS) : Option (Int32 × GS) :=
  ggr S (some h0) 3 (fun v_1 =>
  ggr S v_1 25 (fun v_3 =>
  gbd (vjava_util_ArrayList_size___I E N S v_3) (fun r_5 S_6 =>
  some (r_5, S_6))))
noncomputable def fX1_lands (E : gE) (N : Nat) (S : GS) (h0 : Nat) : Option (Int32 × GS) := bX1_lands_0 E N h0 S
noncomputable def vInchBorders_lands___I (E : gE) (N : Nat) (S : GS) (r : Option Nat) : Option (Int32 × GS) := gvd S r (fun b ci =>
  if ci = 0 then fX1_lands E N S b else
  none)
/-! InchBorders.canTreat(I)I -/
abbrev rX1_canTreat : Room := { frames := 2, cells := 0, slots := 0, locals := 40 }
noncomputable def bX1_canTreat_0 (E : gE) (N : Nat) (h0 : Nat) (S : GS) (x1 : Int32) : Option (Int32 × GS) :=
  gbd (vInchBorders_lands___I E N S (some h0)) (fun r_1 S_2 =>
  ggr S_2 (some h0) 4 (fun v_5 =>
  ggr S_2 v_5 33 (fun v_7 =>
  gai 1 S_2 v_7 x1 (fun v_9 =>
  some (((((1 : Int32) <<< (r_1 &&& 31)) - (1 : Int32)) &&& ((v_9 ||| ((1 : Int32) <<< (x1 &&& 31))) ^^^ (-1 : Int32))), S_2)))))
noncomputable def fX1_canTreat (E : gE) (N : Nat) (S : GS) (h0 : Nat) (x1 : Int32) : Option (Int32 × GS) := bX1_canTreat_0 E N h0 S x1
noncomputable def vInchBorders_canTreat__I_I (E : gE) (N : Nat) (S : GS) (r : Option Nat) (y0 : Int32) : Option (Int32 × GS) := gvd S r (fun b ci =>
  if ci = 0 then fX1_canTreat E N S b y0 else
  none)
/-! InchBorders.spare(III)I -/
abbrev rX1_spare (mc ms : Nat) : Room := { frames := 387, cells := mc, slots := ms, locals := 9087 }
noncomputable def bX1_spare_96 (E : gE) (N : Nat) (h0 : Nat) (K32 : GS → Int32 → Int32 → Int32 → Int32 → Int32 → Int32 → Option (Int32 × GS)) (S : GS) (x1 : Int32) (x2 : Int32) (x3 : Int32) (x4 : Int32) (x5 : Int32) (x6 : Int32) : Option (Int32 × GS) :=
  K32 S x1 x2 x3 x4 x5 (x6 + (1 : Int32))
noncomputable def bX1_spare_88 (E : gE) (N : Nat) (h0 : Nat) (K32 : GS → Int32 → Int32 → Int32 → Int32 → Int32 → Int32 → Option (Int32 × GS)) (S : GS) (x1 : Int32) (x2 : Int32) (x3 : Int32) (x4 : Int32) (x5 : Int32) (x6 : Int32) (t0 : Int32) : Option (Int32 × GS) :=
  if t0 = (-1 : Int32) then
    bX1_spare_96 E N h0 K32 S x1 x2 x3 x4 x5 x6
  else
    bX1_spare_96 E N h0 K32 S x1 x2 x3 x4 x6 x6
noncomputable def bX1_spare_84 (E : gE) (N : Nat) (h0 : Nat) (K32 : GS → Int32 → Int32 → Int32 → Int32 → Int32 → Int32 → Option (Int32 × GS)) (S : GS) (x1 : Int32) (x2 : Int32) (x3 : Int32) (x4 : Int32) (x5 : Int32) (x6 : Int32) (t0 : Option Nat) : Option (Int32 × GS) :=
  gbd (vInchBorders_Goal_fewest__I_I E N S t0 x1) (fun r_1 S_2 =>
  bX1_spare_88 E N h0 K32 S_2 x1 x2 x3 x4 x5 x6 r_1)
noncomputable def bX1_spare_71 (E : gE) (N : Nat) (h0 : Nat) (K32 : GS → Int32 → Int32 → Int32 → Int32 → Int32 → Int32 → Option (Int32 × GS)) (S : GS) (x1 : Int32) (x2 : Int32) (x3 : Int32) (x4 : Int32) (x5 : Int32) (x6 : Int32) (t0 : Option Nat) : Option (Int32 × GS) :=
  ggr S (some h0) 4 (fun v_1 =>
  grf t0 (fun b_7 =>
  gbd (fX20_init E N S b_7 v_1 x1 x6 x2 x3) (fun _ S_4 =>
  bX1_spare_84 E N h0 K32 S_4 x1 x2 x3 x4 x5 x6 (some b_7))))
noncomputable def bX1_spare_68 (E : gE) (N : Nat) (h0 : Nat) (K32 : GS → Int32 → Int32 → Int32 → Int32 → Int32 → Int32 → Option (Int32 × GS)) (S : GS) (x1 : Int32) (x2 : Int32) (x3 : Int32) (x4 : Int32) (x5 : Int32) (x6 : Int32) : Option (Int32 × GS) :=
  gnw S 13 (fun a_2 S_1 =>
  bX1_spare_71 E N h0 K32 S_1 x1 x2 x3 x4 x5 x6 (some a_2))
noncomputable def bX1_spare_65 (E : gE) (N : Nat) (h0 : Nat) (K32 : GS → Int32 → Int32 → Int32 → Int32 → Int32 → Int32 → Option (Int32 × GS)) (S : GS) (x1 : Int32) (x2 : Int32) (x3 : Int32) (x4 : Int32) (x5 : Int32) (x6 : Int32) (t0 : Int32) (t1 : Int32) : Option (Int32 × GS) :=
  if t1 ≤ t0 then
    bX1_spare_96 E N h0 K32 S x1 x2 x3 x4 x5 x6
  else
    bX1_spare_68 E N h0 K32 S x1 x2 x3 x4 x5 x6
noncomputable def bX1_spare_60 (E : gE) (N : Nat) (h0 : Nat) (K32 : GS → Int32 → Int32 → Int32 → Int32 → Int32 → Int32 → Option (Int32 × GS)) (S : GS) (x1 : Int32) (x2 : Int32) (x3 : Int32) (x4 : Int32) (x5 : Int32) (x6 : Int32) (t0 : Int32) : Option (Int32 × GS) :=
  gbd (fX1_many E N S x5) (fun r_1 S_2 =>
  bX1_spare_65 E N h0 K32 S_2 x1 x2 x3 x4 x5 x6 t0 r_1)
noncomputable def bX1_spare_121 (E : gE) (N : Nat) (h0 : Nat) (S : GS) (t0 : Int32) : Option (Int32 × GS) :=
  some (t0, S)
noncomputable def bX1_spare_32 (E : gE) (N : Nat) (h0 : Nat) (K32 : GS → Int32 → Int32 → Int32 → Int32 → Int32 → Int32 → Option (Int32 × GS)) (S : GS) (x1 : Int32) (x2 : Int32) (x3 : Int32) (x4 : Int32) (x5 : Int32) (x6 : Int32) : Option (Int32 × GS) :=
  if x4 < x6 then
    if x5 = (-1 : Int32) then
      some ((-1 : Int32), S)
    else
      gpv E S (some h0) 13 (.int x5) (fun S_3 =>
      gbd (fX1_many E N S_3 x5) (fun r_5 S_6 =>
      bX1_spare_121 E N h0 S_6 r_5))
  else
    if (x6 &&& (x4 ^^^ (-1 : Int32))) = 0 then
      if x5 = (-1 : Int32) then
        bX1_spare_68 E N h0 K32 S x1 x2 x3 x4 x5 x6
      else
        gbd (fX1_many E N S x6) (fun r_11 S_12 =>
        bX1_spare_60 E N h0 K32 S_12 x1 x2 x3 x4 x5 x6 r_11)
    else
      bX1_spare_96 E N h0 K32 S x1 x2 x3 x4 x5 x6
noncomputable def bX1_spare_32L (E : gE) (N : Nat) (h0 : Nat) : Nat → GS → Int32 → Int32 → Int32 → Int32 → Int32 → Int32 → Option (Int32 × GS)
  | 0 => fun _ _ _ _ _ _ _ => none
  | n + 1 => bX1_spare_32 E N h0 (bX1_spare_32L E N h0 n)
noncomputable def bX1_spare_24 (E : gE) (N : Nat) (h0 : Nat) (S : GS) (x1 : Int32) (x2 : Int32) (x3 : Int32) (t0 : Int32) : Option (Int32 × GS) :=
  bX1_spare_32L E N h0 N S x1 x2 x3 t0 (-1 : Int32) (0 : Int32)
noncomputable def bX1_spare_21 (E : gE) (N : Nat) (h0 : Nat) (S : GS) (x1 : Int32) (x2 : Int32) (x3 : Int32) (t0 : Option Nat) (t1 : Int32) : Option (Int32 × GS) :=
  gbd (vInchBorders_canTreat__I_I E N S t0 t1) (fun r_1 S_2 =>
  bX1_spare_24 E N h0 S_2 x1 x2 x3 r_1)
noncomputable def bX1_spare_7 (E : gE) (N : Nat) (h0 : Nat) (S : GS) (x1 : Int32) (x2 : Int32) (x3 : Int32) (t0 : Int32) : Option (Int32 × GS) :=
  if t0 = 0 then
    some ((-1 : Int32), S)
  else
    ggr S (some h0) 3 (fun v_2 =>
    gbd (vInchBorders_Atlas_home__I_I E N S v_2 x1) (fun r_4 S_5 =>
    bX1_spare_21 E N h0 S_5 x1 x2 x3 (some h0) r_4))
noncomputable def bX1_spare_0 (E : gE) (N : Nat) (h0 : Nat) (S : GS) (x1 : Int32) (x2 : Int32) (x3 : Int32) : Option (Int32 × GS) :=
  gbd (vInchBorders_isAsked__III_Z E N S (some h0) x1 x2 x3) (fun r_1 S_2 =>
  bX1_spare_7 E N h0 S_2 x1 x2 x3 r_1)
noncomputable def fX1_spare (E : gE) (N : Nat) (S : GS) (h0 : Nat) (x1 : Int32) (x2 : Int32) (x3 : Int32) : Option (Int32 × GS) := bX1_spare_0 E N h0 S x1 x2 x3
/-! InchBorders.spared()I -/
abbrev rX1_spared : Room := { frames := 0, cells := 0, slots := 0, locals := 0 }
noncomputable def bX1_spared_0 (E : gE) (N : Nat) (h0 : Nat) (S : GS) : Option (Int32 × GS) :=
  ggi S (some h0) 13 (fun v_1 =>
  some (v_1, S))
noncomputable def fX1_spared (E : gE) (N : Nat) (S : GS) (h0 : Nat) : Option (Int32 × GS) := bX1_spared_0 E N h0 S
/-! InchBorders.onTape(I)I -/
abbrev rX1_onTape : Room := { frames := 0, cells := 0, slots := 0, locals := 0 }
noncomputable def bX1_onTape_0 (E : gE) (N : Nat) (h0 : Nat) (S : GS) (x1 : Int32) : Option (Int32 × GS) :=
  ggr S (some h0) 0 (fun v_1 =>
  gai 0 S v_1 x1 (fun v_3 =>
  some ((v_3 &&& (255 : Int32)), S)))
noncomputable def fX1_onTape (E : gE) (N : Nat) (S : GS) (h0 : Nat) (x1 : Int32) : Option (Int32 × GS) := bX1_onTape_0 E N h0 S x1
/-! InchBorders$Made.<init>(LInchBorders$Times;II)V -/
abbrev rX22_init (mc ms : Nat) : Room := { frames := 5, cells := mc, slots := ms, locals := 108 }
noncomputable def bX22_init_19 (E : gE) (N : Nat) (h0 : Nat) (S : GS) (x3 : Int32) (t0 : Option Nat) (t1 : Option Nat) : Option (Int32 × GS) :=
  gpv E S t0 91 (va_rf t1) (fun S_1 =>
  gpv E S_1 (some h0) 89 (.int x3) (fun S_3 =>
  some (0, S_3)))
noncomputable def bX22_init_11 (E : gE) (N : Nat) (h0 : Nat) (S : GS) (x3 : Int32) (t0 : Option Nat) (t1 : Option Nat) : Option (Int32 × GS) :=
  gpv E S t0 90 (va_rf t1) (fun S_1 =>
  gna S_1 1 (7 : Int32) (fun a_4 S_3 =>
  bX22_init_19 E N h0 S_3 x3 (some h0) (some a_4)))
noncomputable def bX22_init_7 (E : gE) (N : Nat) (h0 : Nat) (S : GS) (x3 : Int32) : Option (Int32 × GS) :=
  gna S 1 (5 : Int32) (fun a_2 S_1 =>
  bX22_init_11 E N h0 S_1 x3 (some h0) (some a_2))
noncomputable def bX22_init_0 (E : gE) (N : Nat) (h0 : Nat) (S : GS) (x1 : Option Nat) (x2 : Int32) (x3 : Int32) : Option (Int32 × GS) :=
  gbd (fX19_init E N S h0 x1 x2 (0 : Int32)) (fun _ S_2 =>
  bX22_init_7 E N h0 S_2 x3)
noncomputable def fX22_init (E : gE) (N : Nat) (S : GS) (h0 : Nat) (x1 : Option Nat) (x2 : Int32) (x3 : Int32) : Option (Int32 × GS) := bX22_init_0 E N h0 S x1 x2 x3
/-! InchBorders$Made.likely()I -/
abbrev rX22_likely : Room := { frames := 0, cells := 0, slots := 0, locals := 0 }
noncomputable def bX22_likely_27 (E : gE) (N : Nat) (h0 : Nat) (K4 : GS → Int32 → Int32 → Option (Int32 × GS)) (S : GS) (x1 : Int32) (x2 : Int32) : Option (Int32 × GS) :=
  K4 S x1 (x2 + (1 : Int32))
noncomputable def bX22_likely_4 (E : gE) (N : Nat) (h0 : Nat) (K4 : GS → Int32 → Int32 → Option (Int32 × GS)) (S : GS) (x1 : Int32) (x2 : Int32) : Option (Int32 × GS) :=
  if (7 : Int32) ≤ x2 then
    some (x1, S)
  else
    ggr S (some h0) 91 (fun v_2 =>
    gai 1 S v_2 x2 (fun v_4 =>
    ggr S (some h0) 91 (fun v_6 =>
    gai 1 S v_6 x1 (fun v_8 =>
    if v_4 ≤ v_8 then
      bX22_likely_27 E N h0 K4 S x1 x2
    else
      bX22_likely_27 E N h0 K4 S x2 x2))))
noncomputable def bX22_likely_4L (E : gE) (N : Nat) (h0 : Nat) : Nat → GS → Int32 → Int32 → Option (Int32 × GS)
  | 0 => fun _ _ _ => none
  | n + 1 => bX22_likely_4 E N h0 (bX22_likely_4L E N h0 n)
noncomputable def bX22_likely_0 (E : gE) (N : Nat) (h0 : Nat) (S : GS) : Option (Int32 × GS) :=
  bX22_likely_4L E N h0 N S (0 : Int32) (1 : Int32)
noncomputable def fX22_likely (E : gE) (N : Nat) (S : GS) (h0 : Nat) : Option (Int32 × GS) := bX22_likely_0 E N h0 S
noncomputable def vInchBorders_onTape__I_I (E : gE) (N : Nat) (S : GS) (r : Option Nat) (y0 : Int32) : Option (Int32 × GS) := gvd S r (fun b ci =>
  if ci = 0 then fX1_onTape E N S b y0 else
  none)
noncomputable def vInchBorders_Made_starts__II_Z (E : gE) (N : Nat) (S : GS) (r : Option Nat) (y0 : Int32) (y1 : Int32) : Option (Int32 × GS) := gvd S r (fun b ci =>
  if ci = 15 then fX19_starts E N S b y0 y1 else
  none)
noncomputable def vInchBorders_Made_likely___I (E : gE) (N : Nat) (S : GS) (r : Option Nat) : Option (Int32 × GS) := gvd S r (fun b ci =>
  if ci = 15 then fX22_likely E N S b else
  none)
/-! InchBorders.made()I -/
abbrev rX1_made (mc ms : Nat) : Room := { frames := 386, cells := mc, slots := ms, locals := 9065 }
noncomputable def bX1_made_20 (E : gE) (N : Nat) (h0 : Nat) (S : GS) : Option (Int32 × GS) :=
  some ((-1 : Int32), S)
noncomputable def bX1_made_61 (E : gE) (N : Nat) (h0 : Nat) (K46 : GS → (Option Nat) → Int32 → Option (Int32 × GS)) (S : GS) (x1 : Option Nat) (x2 : Int32) (t0 : Int32) : Option (Int32 × GS) :=
  K46 S x1 (x2 + (1 : Int32))
noncomputable def bX1_made_57 (E : gE) (N : Nat) (h0 : Nat) (K46 : GS → (Option Nat) → Int32 → Option (Int32 × GS)) (S : GS) (x1 : Option Nat) (x2 : Int32) (t0 : Option Nat) (t1 : Int32) : Option (Int32 × GS) :=
  gbd (vInchBorders_Made_starts__II_Z E N S t0 t1 x2) (fun r_1 S_2 =>
  bX1_made_61 E N h0 K46 S_2 x1 x2 r_1)
noncomputable def bX1_made_107 (E : gE) (N : Nat) (h0 : Nat) (S : GS) (x1 : Option Nat) (t0 : Option Nat) (t1 : Int32) : Option (Int32 × GS) :=
  gpv E S t0 14 (.int t1) (fun S_1 =>
  ggi S_1 x1 92 (fun v_3 =>
  some (v_3, S_1)))
noncomputable def bX1_made_94 (E : gE) (N : Nat) (h0 : Nat) (S : GS) (x1 : Option Nat) : Option (Int32 × GS) :=
  ggi S x1 93 (fun v_1 =>
  gpv E S (some h0) 12 (.int v_1) (fun S_3 =>
  gbd (vInchBorders_Made_likely___I E N S_3 x1) (fun r_5 S_6 =>
  bX1_made_107 E N h0 S_6 x1 (some h0) r_5)))
noncomputable def bX1_made_46 (E : gE) (N : Nat) (h0 : Nat) (K46 : GS → (Option Nat) → Int32 → Option (Int32 × GS)) (S : GS) (x1 : Option Nat) (x2 : Int32) : Option (Int32 × GS) :=
  if (4 : Int32) < x2 then
    ggi S x1 92 (fun v_2 =>
    if v_2 = 0 then
      some ((0 : Int32), S)
    else
      ggr S x1 90 (fun v_5 =>
      ggr S (some h0) 10 (fun v_7 =>
      ggi S x1 93 (fun v_9 =>
      gcp E S v_5 (0 : Int32) v_7 (0 : Int32) v_9 (fun S_11 =>
      bX1_made_94 E N h0 S_11 x1)))))
  else
    gbd (vInchBorders_onTape__I_I E N S (some h0) (0 : Int32)) (fun r_13 S_14 =>
    bX1_made_57 E N h0 K46 S_14 x1 x2 x1 r_13)
noncomputable def bX1_made_46L (E : gE) (N : Nat) (h0 : Nat) : Nat → GS → (Option Nat) → Int32 → Option (Int32 × GS)
  | 0 => fun _ _ _ => none
  | n + 1 => bX1_made_46 E N h0 (bX1_made_46L E N h0 n)
noncomputable def bX1_made_43 (E : gE) (N : Nat) (h0 : Nat) (S : GS) (t0 : Option Nat) : Option (Int32 × GS) :=
  bX1_made_46L E N h0 N S t0 (1 : Int32)
noncomputable def bX1_made_40 (E : gE) (N : Nat) (h0 : Nat) (S : GS) (t0 : Option Nat) (t1 : Option Nat) (t2 : Option Nat) (t3 : Int32) (t4 : Int32) : Option (Int32 × GS) :=
  grf t1 (fun b_5 =>
  gbd (fX22_init E N S b_5 t2 t3 t4) (fun _ S_2 =>
  bX1_made_43 E N h0 S_2 t0))
noncomputable def bX1_made_35 (E : gE) (N : Nat) (h0 : Nat) (S : GS) (t0 : Option Nat) (t1 : Option Nat) (t2 : Option Nat) (t3 : Int32) : Option (Int32 × GS) :=
  gbd (vInchBorders_onTape__I_I E N S (some h0) (1 : Int32)) (fun r_1 S_2 =>
  bX1_made_40 E N h0 S_2 t0 t1 t2 t3 r_1)
noncomputable def bX1_made_25 (E : gE) (N : Nat) (h0 : Nat) (S : GS) (t0 : Option Nat) : Option (Int32 × GS) :=
  ggr S (some h0) 4 (fun v_1 =>
  gbd (vInchBorders_onTape__I_I E N S (some h0) (0 : Int32)) (fun r_3 S_4 =>
  bX1_made_35 E N h0 S_4 t0 t0 v_1 r_3))
noncomputable def bX1_made_17 (E : gE) (N : Nat) (h0 : Nat) (S : GS) (t0 : Int32) : Option (Int32 × GS) :=
  if t0 = 0 then
    bX1_made_20 E N h0 S
  else
    gnw S 15 (fun a_3 S_2 =>
    bX1_made_25 E N h0 S_2 (some a_3))
noncomputable def bX1_made_14 (E : gE) (N : Nat) (h0 : Nat) (S : GS) (t0 : Option Nat) (t1 : Int32) : Option (Int32 × GS) :=
  gbd (vInchBorders_isPerson__I_Z E N S t0 t1) (fun r_1 S_2 =>
  bX1_made_17 E N h0 S_2 r_1)
noncomputable def bX1_made_4 (E : gE) (N : Nat) (h0 : Nat) (S : GS) (t0 : Int32) : Option (Int32 × GS) :=
  if t0 = (2 : Int32) then
    gbd (vInchBorders_onTape__I_I E N S (some h0) (0 : Int32)) (fun r_2 S_3 =>
    bX1_made_14 E N h0 S_3 (some h0) r_2)
  else
    bX1_made_20 E N h0 S
noncomputable def bX1_made_0 (E : gE) (N : Nat) (h0 : Nat) (S : GS) : Option (Int32 × GS) :=
  gbd (vInchBorders_take___I E N S (some h0)) (fun r_1 S_2 =>
  bX1_made_4 E N h0 S_2 r_1)
noncomputable def fX1_made (E : gE) (N : Nat) (S : GS) (h0 : Nat) : Option (Int32 × GS) := bX1_made_0 E N h0 S
/-! InchBorders.madeAt(I)I -/
abbrev rX1_madeAt : Room := { frames := 1, cells := 0, slots := 0, locals := 22 }
noncomputable def bX1_madeAt_24 (E : gE) (N : Nat) (h0 : Nat) (S : GS) (t0 : Int32) : Option (Int32 × GS) :=
  some (t0, S)
noncomputable def bX1_madeAt_0 (E : gE) (N : Nat) (h0 : Nat) (S : GS) (x1 : Int32) : Option (Int32 × GS) :=
  ggi S (some h0) 12 (fun v_1 =>
  gbd (fX1_isIn E N S x1 (0 : Int32) (v_1 - (1 : Int32))) (fun r_3 S_4 =>
  if r_3 = 0 then
    bX1_madeAt_24 E N h0 S_4 (-1 : Int32)
  else
    ggr S_4 (some h0) 10 (fun v_8 =>
    gai 1 S_4 v_8 x1 (fun v_10 =>
    bX1_madeAt_24 E N h0 S_4 v_10))))
noncomputable def fX1_madeAt (E : gE) (N : Nat) (S : GS) (h0 : Nat) (x1 : Int32) : Option (Int32 × GS) := bX1_madeAt_0 E N h0 S x1
/-! InchBorders.likely()I -/
abbrev rX1_likely : Room := { frames := 0, cells := 0, slots := 0, locals := 0 }
noncomputable def bX1_likely_0 (E : gE) (N : Nat) (h0 : Nat) (S : GS) : Option (Int32 × GS) :=
  ggi S (some h0) 14 (fun v_1 =>
  some (v_1, S))
noncomputable def fX1_likely (E : gE) (N : Nat) (S : GS) (h0 : Nat) : Option (Int32 × GS) := bX1_likely_0 E N h0 S
/-! InchBorders.keepLonger(I)V -/
abbrev rX1_keepLonger : Room := { frames := 6, cells := 0, slots := 0, locals := 135 }
noncomputable def bX1_keepLonger_53 (E : gE) (N : Nat) (h0 : Nat) (K14 : GS → Int32 → Int32 → Option (Int32 × GS)) (S : GS) (x1 : Int32) (x2 : Int32) : Option (Int32 × GS) :=
  K14 S x1 (x2 + (1 : Int32))
noncomputable def bX1_keepLonger_14 (E : gE) (N : Nat) (h0 : Nat) (K14 : GS → Int32 → Int32 → Option (Int32 × GS)) (S : GS) (x1 : Int32) (x2 : Int32) : Option (Int32 × GS) :=
  ggi S (some h0) 17 (fun v_1 =>
  if v_1 ≤ x2 then
    ggr S (some h0) 5 (fun v_4 =>
    gbd (vInchBorders_Times_lengths___I E N S v_4) (fun r_6 S_7 =>
    ggi S_7 (some h0) 19 (fun v_10 =>
    if v_10 < r_6 then
      ggr S_7 (some h0) 5 (fun v_13 =>
      gbd (vInchBorders_Times_lengths___I E N S_7 v_13) (fun r_15 S_16 =>
      gpv E S_16 (some h0) 19 (.int r_15) (fun S_19 =>
      ggr S_19 (some h0) 15 (fun v_21 =>
      ggr S_19 (some h0) 16 (fun v_23 =>
      ggi S_19 (some h0) 17 (fun v_25 =>
      gcp E S_19 v_21 (0 : Int32) v_23 (0 : Int32) v_25 (fun S_27 =>
      some (0, S_27))))))))
    else
      some (0, S_7))))
  else
    ggr S (some h0) 5 (fun v_29 =>
    ggr S (some h0) 15 (fun v_31 =>
    gai 1 S v_31 x2 (fun v_33 =>
    gbd (vInchBorders_Times_whyCross__II_I E N S v_29 v_33 x1) (fun r_35 S_36 =>
    if r_35 = 0 then
      ggr S_36 (some h0) 5 (fun v_40 =>
      ggr S_36 (some h0) 15 (fun v_42 =>
      gai 1 S_36 v_42 x2 (fun v_44 =>
      gbd (vInchBorders_Times_cross__II_V E N S_36 v_40 v_44 x1) (fun _ S_47 =>
      bX1_keepLonger_53 E N h0 K14 S_47 x1 x2))))
    else
      bX1_keepLonger_53 E N h0 K14 S_36 x1 x2)))))
noncomputable def bX1_keepLonger_14L (E : gE) (N : Nat) (h0 : Nat) : Nat → GS → Int32 → Int32 → Option (Int32 × GS)
  | 0 => fun _ _ _ => none
  | n + 1 => bX1_keepLonger_14 E N h0 (bX1_keepLonger_14L E N h0 n)
noncomputable def bX1_keepLonger_0 (E : gE) (N : Nat) (h0 : Nat) (S : GS) (x1 : Int32) : Option (Int32 × GS) :=
  ggr S (some h0) 5 (fun v_1 =>
  ggr S (some h0) 4 (fun v_3 =>
  gbd (vInchBorders_Times_as__LInchBorders_Times__LInchBorders_Times_ E N S v_1 v_3) (fun r_5 S_6 =>
  bX1_keepLonger_14L E N h0 N S_6 x1 (0 : Int32))))
noncomputable def fX1_keepLonger (E : gE) (N : Nat) (S : GS) (h0 : Nat) (x1 : Int32) : Option (Int32 × GS) := bX1_keepLonger_0 E N h0 S x1
def NVPInchBorders_rowsFrom__III_V (ρ : GS → Option Nat → Int32 → Int32 → Int32 → Option (Int32 × GS)) : Prop := ∀ (S : GS) (r : Option Nat) (y0 : Int32) (y1 : Int32) (y2 : Int32) (r0 : Int32) (Sf : GS), ρ S r y0 y1 y2 = some (r0, Sf) → gEq S Sf
def UVPInchBorders_rowsFrom__III_V (E : gE) (ρ : GS → Option Nat → Int32 → Int32 → Int32 → Option (Int32 × GS)) (fr lo : Nat) : Prop := ∀ {Γ : GG} {own : String} {p : Program} {l : Launch} {e : Env} {R : Room} {s : State} {m : MethodId} {args : Array Value} {below : List Frame} {meth : Method} {c : Code} {H : Heap} {locs : List Loc} {cells slots nL pc index : Nat} {cc : ByteArray} {ls : Array Slot} {rest As st0 : List Value} {ret : Option FieldType} {S0 S Sf : GS} {r : Option Nat} {y0 : Int32} {y1 : Int32} {y2 : Int32} {r0 : Int32}, gFx Γ E own p m c cc nL s args meth ret → GH Γ E S0 s.heap S H locs → Cond.methodLink own index ⟨"InchBorders", "rowsFrom", "(III)V"⟩ ∈ lw_all → ρ S r y0 y1 y2 = some (r0, Sf) → As = [.int y0, .int y1, .int y2] → ls.size = nL → st0 = As.reverse ++ va_rf r :: rest → (rest.map fun v => v.category).sum ≤ 8 → decode cc pc = .ok (.invokevirtual index, 3) → (cells + 0 ≤ R.cells ∧ slots + 0 ≤ R.slots) → (fr + 1 ≤ R.frames ∧ 8 + 11 + lo ≤ R.locals) → va_Run p l e R s m args below meth c H locs cells slots 0 0 (F0 m pc ls st0) rest ((gQv Γ E S Sf) (va_rf r :: As).toArray) (gA E S)
noncomputable def vInchBorders_keepLonger__I_V (E : gE) (N : Nat) (S : GS) (r : Option Nat) (y0 : Int32) : Option (Int32 × GS) := gvd S r (fun b ci =>
  if ci = 0 then fX1_keepLonger E N S b y0 else
  none)
/-! InchBorders.rowsFrom(III)V -/
abbrev rX1_rowsFrom (fr lo : Nat) : Room := { frames := fr + 1 + 7, cells := 0, slots := 0, locals := lo + 19 + 157 }
noncomputable def bX1_rowsFrom_63 (E : gE) (N : Nat) (ρ0 : GS → Option Nat → Int32 → Int32 → Int32 → Option (Int32 × GS)) (h0 : Nat) (K18 : GS → Int32 → Int32 → Int32 → Int32 → Option (Int32 × GS)) (S : GS) (x1 : Int32) (x2 : Int32) (x3 : Int32) (x4 : Int32) : Option (Int32 × GS) :=
  K18 S x1 x2 x3 (x4 + (1 : Int32))
noncomputable def bX1_rowsFrom_18 (E : gE) (N : Nat) (ρ0 : GS → Option Nat → Int32 → Int32 → Int32 → Option (Int32 × GS)) (h0 : Nat) (K18 : GS → Int32 → Int32 → Int32 → Int32 → Option (Int32 × GS)) (S : GS) (x1 : Int32) (x2 : Int32) (x3 : Int32) (x4 : Int32) : Option (Int32 × GS) :=
  gbd (vInchBorders_persons___I E N S (some h0)) (fun r_1 S_2 =>
  if r_1 ≤ x4 then
    some (0, S_2)
  else
    gbd (fX1_isOf E N S_2 x2 x4) (fun r_6 S_7 =>
    if r_6 = 0 then
      bX1_rowsFrom_63 E N ρ0 h0 K18 S_7 x1 x2 x3 x4
    else
      ggr S_7 (some h0) 15 (fun v_11 =>
      gaw 1 E S_7 v_11 x1 x4 (fun S_13 =>
      gbd (ρ0 S_13 (some h0) (x1 + (1 : Int32)) (x2 &&& (((1 : Int32) <<< (x4 &&& 31)) ^^^ (-1 : Int32))) x3) (fun _ S_16 =>
      bX1_rowsFrom_63 E N ρ0 h0 K18 S_16 x1 x2 x3 x4)))))
noncomputable def bX1_rowsFrom_18L (E : gE) (N : Nat) (ρ0 : GS → Option Nat → Int32 → Int32 → Int32 → Option (Int32 × GS)) (h0 : Nat) : Nat → GS → Int32 → Int32 → Int32 → Int32 → Option (Int32 × GS)
  | 0 => fun _ _ _ _ _ => none
  | n + 1 => bX1_rowsFrom_18 E N ρ0 h0 (bX1_rowsFrom_18L E N ρ0 h0 n)
noncomputable def bX1_rowsFrom_0 (E : gE) (N : Nat) (ρ0 : GS → Option Nat → Int32 → Int32 → Int32 → Option (Int32 × GS)) (h0 : Nat) (S : GS) (x1 : Int32) (x2 : Int32) (x3 : Int32) : Option (Int32 × GS) :=
  if x2 = 0 then
    gpv E S (some h0) 17 (.int x1) (fun S_2 =>
    gbd (vInchBorders_keepLonger__I_V E N S_2 (some h0) x3) (fun _ S_5 =>
    some (0, S_5)))
  else
    bX1_rowsFrom_18L E N ρ0 h0 N S x1 x2 x3 (0 : Int32)
noncomputable def fX1_rowsFrom (E : gE) (N : Nat) (ρ0 : GS → Option Nat → Int32 → Int32 → Int32 → Option (Int32 × GS)) (S : GS) (h0 : Nat) (x1 : Int32) (x2 : Int32) (x3 : Int32) : Option (Int32 × GS) := bX1_rowsFrom_0 E N ρ0 h0 S x1 x2 x3
noncomputable def vbInchBorders_rowsFrom__III_V (E : gE) (N : Nat) (ρ0 : GS → Option Nat → Int32 → Int32 → Int32 → Option (Int32 × GS)) : GS → Option Nat → Int32 → Int32 → Int32 → Option (Int32 × GS) := fun S r y0 y1 y2 => gvd S r (fun b ci =>
  if ci = 0 then fX1_rowsFrom E N ρ0 S b y0 y1 y2 else
  none)
noncomputable def zX1_rowsFrom (E : gE) (N : Nat) : Nat → (GS → Option Nat → Int32 → Int32 → Int32 → Option (Int32 × GS))
  | 0 => (fun _ _ _ _ _ => none)
  | d + 1 => (vbInchBorders_rowsFrom__III_V E N (zX1_rowsFrom E N d))
noncomputable def vInchBorders_rowsFrom__III_V (E : gE) (N : Nat) (S : GS) (r : Option Nat) (y0 : Int32) (y1 : Int32) (y2 : Int32) : Option (Int32 × GS) := (zX1_rowsFrom E N 64) S r y0 y1 y2
/-! InchBorders.caravan(I)I -/
abbrev rX1_caravan : Room := { frames := 513, cells := 0, slots := 0, locals := 11603 }
noncomputable def bX1_caravan_40 (E : gE) (N : Nat) (h0 : Nat) (K14 : GS → Int32 → Int32 → Int32 → Option (Int32 × GS)) (S : GS) (x1 : Int32) (x2 : Int32) (x3 : Int32) : Option (Int32 × GS) :=
  K14 S x1 x2 (x3 + (1 : Int32))
noncomputable def bX1_caravan_14 (E : gE) (N : Nat) (h0 : Nat) (K14 : GS → Int32 → Int32 → Int32 → Option (Int32 × GS)) (S : GS) (x1 : Int32) (x2 : Int32) (x3 : Int32) : Option (Int32 × GS) :=
  gbd (vInchBorders_persons___I E N S (some h0)) (fun r_1 S_2 =>
  if r_1 ≤ x3 then
    gpv E S_2 (some h0) 19 (.int (-1 : Int32)) (fun S_6 =>
    gbd (vInchBorders_rowsFrom__III_V E N S_6 (some h0) (0 : Int32) x2 x1) (fun _ S_9 =>
    gbd (fX1_many E N S_9 x2) (fun r_12 S_13 =>
    gpv E S_13 (some h0) 18 (.int r_12) (fun S_16 =>
    ggi S_16 (some h0) 19 (fun v_18 =>
    some (v_18, S_16))))))
  else
    ggr S_2 (some h0) 4 (fun v_20 =>
    gbd (vInchBorders_Times_whyCross__II_I E N S_2 v_20 x3 x1) (fun r_22 S_23 =>
    if r_22 = 0 then
      bX1_caravan_40 E N h0 K14 S_23 x1 (x2 ||| ((1 : Int32) <<< (x3 &&& 31))) x3
    else
      bX1_caravan_40 E N h0 K14 S_23 x1 x2 x3)))
noncomputable def bX1_caravan_14L (E : gE) (N : Nat) (h0 : Nat) : Nat → GS → Int32 → Int32 → Int32 → Option (Int32 × GS)
  | 0 => fun _ _ _ _ => none
  | n + 1 => bX1_caravan_14 E N h0 (bX1_caravan_14L E N h0 n)
noncomputable def bX1_caravan_0 (E : gE) (N : Nat) (h0 : Nat) (S : GS) (x1 : Int32) : Option (Int32 × GS) :=
  gbd (vInchBorders_isLand__I_Z E N S (some h0) x1) (fun r_1 S_2 =>
  if r_1 = 0 then
    some ((-1 : Int32), S_2)
  else
    bX1_caravan_14L E N h0 N S_2 x1 (0 : Int32) (0 : Int32))
noncomputable def fX1_caravan (E : gE) (N : Nat) (S : GS) (h0 : Nat) (x1 : Int32) : Option (Int32 × GS) := bX1_caravan_0 E N h0 S x1
/-! InchBorders.caravanAt(I)I -/
abbrev rX1_caravanAt : Room := { frames := 1, cells := 0, slots := 0, locals := 22 }
noncomputable def bX1_caravanAt_24 (E : gE) (N : Nat) (h0 : Nat) (S : GS) (t0 : Int32) : Option (Int32 × GS) :=
  some (t0, S)
noncomputable def bX1_caravanAt_0 (E : gE) (N : Nat) (h0 : Nat) (S : GS) (x1 : Int32) : Option (Int32 × GS) :=
  ggi S (some h0) 18 (fun v_1 =>
  gbd (fX1_isIn E N S x1 (0 : Int32) (v_1 - (1 : Int32))) (fun r_3 S_4 =>
  if r_3 = 0 then
    bX1_caravanAt_24 E N h0 S_4 (-1 : Int32)
  else
    ggr S_4 (some h0) 16 (fun v_8 =>
    gai 1 S_4 v_8 x1 (fun v_10 =>
    bX1_caravanAt_24 E N h0 S_4 v_10))))
noncomputable def fX1_caravanAt (E : gE) (N : Nat) (S : GS) (h0 : Nat) (x1 : Int32) : Option (Int32 × GS) := bX1_caravanAt_0 E N h0 S x1
/-! InchBorders.reach(II)I -/
abbrev rX1_reach : Room := { frames := 3, cells := 0, slots := 0, locals := 64 }
noncomputable def bX1_reach_103 (E : gE) (N : Nat) (h0 : Nat) (K7 : GS → Int32 → Int32 → Int32 → Option (Int32 × GS)) (K17 : GS → Int32 → Int32 → Int32 → Int32 → Option (Int32 × GS)) (S : GS) (x2 : Int32) (x3 : Int32) (x4 : Int32) (x5 : Int32) : Option (Int32 × GS) :=
  K17 S x2 x3 x4 (x5 + (1 : Int32))
noncomputable def bX1_reach_85 (E : gE) (N : Nat) (h0 : Nat) (K7 : GS → Int32 → Int32 → Int32 → Option (Int32 × GS)) (K17 : GS → Int32 → Int32 → Int32 → Int32 → Option (Int32 × GS)) (S : GS) (x2 : Int32) (x3 : Int32) (x4 : Int32) (x5 : Int32) (x6 : Option Nat) : Option (Int32 × GS) :=
  ggi S x6 67 (fun v_1 =>
  ggi S x6 68 (fun v_3 =>
  bX1_reach_103 E N h0 K7 K17 S x2 (x3 ||| (((1 : Int32) <<< (v_1 &&& 31)) ||| ((1 : Int32) <<< (v_3 &&& 31)))) x4 x5))
noncomputable def bX1_reach_17 (E : gE) (N : Nat) (h0 : Nat) (K7 : GS → Int32 → Int32 → Int32 → Option (Int32 × GS)) (K17 : GS → Int32 → Int32 → Int32 → Int32 → Option (Int32 × GS)) (S : GS) (x2 : Int32) (x3 : Int32) (x4 : Int32) (x5 : Int32) : Option (Int32 × GS) :=
  ggr S (some h0) 3 (fun v_1 =>
  ggr S v_1 26 (fun v_3 =>
  gbd (vjava_util_ArrayList_size___I E N S v_3) (fun r_5 S_6 =>
  if r_5 ≤ x5 then
    K7 S_6 x2 x3 (x4 + (1 : Int32))
  else
    ggr S_6 (some h0) 3 (fun v_10 =>
    ggr S_6 v_10 26 (fun v_12 =>
    gbd (vjava_util_ArrayList_get__I_Ljava_lang_Object_ E N S_6 v_12 x5) (fun r_14 S_15 =>
    gcc S_15 r_14 [7] (
    gbd (fX1_isOf E N S_15 x2 x5) (fun r_19 S_20 =>
    if r_19 = 0 then
      ggi S_20 r_14 67 (fun v_24 =>
      gbd (fX1_isOf E N S_20 x3 v_24) (fun r_26 S_27 =>
      if r_26 = 0 then
        ggi S_27 r_14 68 (fun v_31 =>
        gbd (fX1_isOf E N S_27 x3 v_31) (fun r_33 S_34 =>
        if r_33 = 0 then
          bX1_reach_103 E N h0 K7 K17 S_34 x2 x3 x4 x5
        else
          bX1_reach_85 E N h0 K7 K17 S_34 x2 x3 x4 x5 r_14))
      else
        bX1_reach_85 E N h0 K7 K17 S_27 x2 x3 x4 x5 r_14))
    else
      bX1_reach_103 E N h0 K7 K17 S_20 x2 x3 x4 x5))))))))
noncomputable def bX1_reach_17L (E : gE) (N : Nat) (h0 : Nat) (K7 : GS → Int32 → Int32 → Int32 → Option (Int32 × GS)) : Nat → GS → Int32 → Int32 → Int32 → Int32 → Option (Int32 × GS)
  | 0 => fun _ _ _ _ _ => none
  | n + 1 => bX1_reach_17 E N h0 K7 (bX1_reach_17L E N h0 K7 n)
noncomputable def bX1_reach_7 (E : gE) (N : Nat) (h0 : Nat) (K7 : GS → Int32 → Int32 → Int32 → Option (Int32 × GS)) (S : GS) (x2 : Int32) (x3 : Int32) (x4 : Int32) : Option (Int32 × GS) :=
  if (7 : Int32) ≤ x4 then
    some (x3, S)
  else
    bX1_reach_17L E N h0 K7 N S x2 x3 x4 (0 : Int32)
noncomputable def bX1_reach_7L (E : gE) (N : Nat) (h0 : Nat) : Nat → GS → Int32 → Int32 → Int32 → Option (Int32 × GS)
  | 0 => fun _ _ _ _ => none
  | n + 1 => bX1_reach_7 E N h0 (bX1_reach_7L E N h0 n)
noncomputable def bX1_reach_0 (E : gE) (N : Nat) (h0 : Nat) (S : GS) (x1 : Int32) (x2 : Int32) : Option (Int32 × GS) :=
  bX1_reach_7L E N h0 N S x2 ((1 : Int32) <<< (x1 &&& 31)) (0 : Int32)
noncomputable def fX1_reach (E : gE) (N : Nat) (S : GS) (h0 : Nat) (x1 : Int32) (x2 : Int32) : Option (Int32 × GS) := bX1_reach_0 E N h0 S x1 x2
noncomputable def vInchBorders_reach__II_I (E : gE) (N : Nat) (S : GS) (r : Option Nat) (y0 : Int32) (y1 : Int32) : Option (Int32 × GS) := gvd S r (fun b ci =>
  if ci = 0 then fX1_reach E N S b y0 y1 else
  none)
/-! InchBorders.part(II)I -/
abbrev rX1_part : Room := { frames := 4, cells := 0, slots := 0, locals := 90 }
noncomputable def bX1_part_21 (E : gE) (N : Nat) (h0 : Nat) (S : GS) : Option (Int32 × GS) :=
  some ((-1 : Int32), S)
noncomputable def bX1_part_100 (E : gE) (N : Nat) (h0 : Nat) (K28 : GS → Int32 → Int32 → Int32 → Int32 → Option (Int32 × GS)) (S : GS) (x1 : Int32) (x2 : Int32) (x3 : Int32) (x4 : Int32) : Option (Int32 × GS) :=
  K28 S x1 x2 x3 (x4 + (1 : Int32))
noncomputable def bX1_part_75 (E : gE) (N : Nat) (h0 : Nat) (K28 : GS → Int32 → Int32 → Int32 → Int32 → Option (Int32 × GS)) (S : GS) (x1 : Int32) (x2 : Int32) (x3 : Int32) (x4 : Int32) : Option (Int32 × GS) :=
  ggr S (some h0) 4 (fun v_1 =>
  ggi S v_1 31 (fun v_3 =>
  gbd (vInchBorders_reach__II_I E N S (some h0) x1 (x4 ||| v_3)) (fun r_5 S_6 =>
  gbd (fX1_isOf E N S_6 r_5 x2) (fun r_9 S_10 =>
  if r_9 = 0 then
    bX1_part_100 E N h0 K28 S_10 x1 x2 x4 x4
  else
    bX1_part_100 E N h0 K28 S_10 x1 x2 x3 x4))))
noncomputable def bX1_part_28 (E : gE) (N : Nat) (h0 : Nat) (K28 : GS → Int32 → Int32 → Int32 → Int32 → Option (Int32 × GS)) (S : GS) (x1 : Int32) (x2 : Int32) (x3 : Int32) (x4 : Int32) : Option (Int32 × GS) :=
  ggr S (some h0) 3 (fun v_1 =>
  ggr S v_1 26 (fun v_3 =>
  gbd (vjava_util_ArrayList_size___I E N S v_3) (fun r_5 S_6 =>
  if ((1 : Int32) <<< (r_5 &&& 31)) ≤ x4 then
    gpv E S_6 (some h0) 20 (.int x3) (fun S_10 =>
    gbd (fX1_many E N S_10 x3) (fun r_12 S_13 =>
    some (r_12, S_13)))
  else
    ggr S_6 (some h0) 4 (fun v_16 =>
    ggi S_6 v_16 31 (fun v_18 =>
    if (x4 &&& v_18) = 0 then
      if x3 = (-1 : Int32) then
        bX1_part_75 E N h0 K28 S_6 x1 x2 x3 x4
      else
        gbd (fX1_many E N S_6 x4) (fun r_22 S_23 =>
        gbd (fX1_many E N S_23 x3) (fun r_26 S_27 =>
        if r_26 ≤ r_22 then
          bX1_part_100 E N h0 K28 S_27 x1 x2 x3 x4
        else
          bX1_part_75 E N h0 K28 S_27 x1 x2 x3 x4))
    else
      bX1_part_100 E N h0 K28 S_6 x1 x2 x3 x4)))))
noncomputable def bX1_part_28L (E : gE) (N : Nat) (h0 : Nat) : Nat → GS → Int32 → Int32 → Int32 → Int32 → Option (Int32 × GS)
  | 0 => fun _ _ _ _ _ => none
  | n + 1 => bX1_part_28 E N h0 (bX1_part_28L E N h0 n)
noncomputable def bX1_part_0 (E : gE) (N : Nat) (h0 : Nat) (S : GS) (x1 : Int32) (x2 : Int32) : Option (Int32 × GS) :=
  gbd (vInchBorders_isLand__I_Z E N S (some h0) x1) (fun r_1 S_2 =>
  if r_1 = 0 then
    bX1_part_21 E N h0 S_2
  else
    gbd (vInchBorders_isLand__I_Z E N S_2 (some h0) x2) (fun r_6 S_7 =>
    if r_6 = 0 then
      bX1_part_21 E N h0 S_7
    else
      if x1 = x2 then
        bX1_part_21 E N h0 S_7
      else
        bX1_part_28L E N h0 N S_7 x1 x2 (-1 : Int32) (0 : Int32)))
noncomputable def fX1_part (E : gE) (N : Nat) (S : GS) (h0 : Nat) (x1 : Int32) (x2 : Int32) : Option (Int32 × GS) := bX1_part_0 E N h0 S x1 x2
/-! InchBorders.parting()I -/
abbrev rX1_parting : Room := { frames := 0, cells := 0, slots := 0, locals := 0 }
noncomputable def bX1_parting_0 (E : gE) (N : Nat) (h0 : Nat) (S : GS) : Option (Int32 × GS) :=
  ggi S (some h0) 20 (fun v_1 =>
  some (v_1, S))
noncomputable def fX1_parting (E : gE) (N : Nat) (S : GS) (h0 : Nat) : Option (Int32 × GS) := bX1_parting_0 E N h0 S
noncomputable def vInchBorders_Times_anyGrows___Z (E : gE) (N : Nat) (S : GS) (r : Option Nat) : Option (Int32 × GS) := gvd S r (fun b ci =>
  if ci = 2 then fX3_anyGrows E N S b else
  none)
/-! InchBorders.rests()I -/
abbrev rX1_rests : Room := { frames := 6, cells := 0, slots := 0, locals := 127 }
noncomputable def bX1_rests_14 (E : gE) (N : Nat) (h0 : Nat) (K14 : GS → Int32 → Option (Int32 × GS)) (S : GS) (x1 : Int32) : Option (Int32 × GS) :=
  ggr S (some h0) 5 (fun v_1 =>
  gbd (vInchBorders_Times_isOver___Z E N S v_1) (fun r_3 S_4 =>
  if r_3 = 0 then
    ggr S_4 (some h0) 5 (fun v_8 =>
    gbd (vInchBorders_Times_anyGrows___Z E N S_4 v_8) (fun r_10 S_11 =>
    if r_10 = 0 then
      some (x1, S_11)
    else
      ggr S_11 (some h0) 5 (fun v_15 =>
      gbd (vInchBorders_Times_pass___V E N S_11 v_15) (fun _ S_18 =>
      K14 S_18 (x1 + (1 : Int32))))))
  else
    some ((-1 : Int32), S_4)))
noncomputable def bX1_rests_14L (E : gE) (N : Nat) (h0 : Nat) : Nat → GS → Int32 → Option (Int32 × GS)
  | 0 => fun _ _ => none
  | n + 1 => bX1_rests_14 E N h0 (bX1_rests_14L E N h0 n)
noncomputable def bX1_rests_0 (E : gE) (N : Nat) (h0 : Nat) (S : GS) : Option (Int32 × GS) :=
  ggr S (some h0) 5 (fun v_1 =>
  ggr S (some h0) 4 (fun v_3 =>
  gbd (vInchBorders_Times_as__LInchBorders_Times__LInchBorders_Times_ E N S v_1 v_3) (fun r_5 S_6 =>
  bX1_rests_14L E N h0 N S_6 (0 : Int32))))
noncomputable def fX1_rests (E : gE) (N : Nat) (S : GS) (h0 : Nat) : Option (Int32 × GS) := bX1_rests_0 E N h0 S
noncomputable def vS_java_lang_StringBuilder_append__I_Ljava_lang_AbstractStringBuilder_ (E : gE) (N : Nat) (S : GS) (r : Option Nat) (y0 : Int32) : Option (Option Nat × GS) := gvd S r (fun b ci =>
  if ci = 25 then fJ6_append_3 E N S b y0 else
  none)
/-! java/lang/StringBuilder.append(I)Ljava/lang/StringBuilder; -/
abbrev rJ7_append_3 (mc ms : Nat) : Room := { frames := 5, cells := mc, slots := ms, locals := 115 }
noncomputable def bJ7_append_3_5 (E : gE) (N : Nat) (h0 : Nat) (S : GS) (t0 : Option Nat) : Option (Option Nat × GS) :=
  some ((some h0), S)
noncomputable def bJ7_append_3_0 (E : gE) (N : Nat) (h0 : Nat) (S : GS) (x1 : Int32) : Option (Option Nat × GS) :=
  gbd (vS_java_lang_StringBuilder_append__I_Ljava_lang_AbstractStringBuilder_ E N S (some h0) x1) (fun r_1 S_2 =>
  bJ7_append_3_5 E N h0 S_2 r_1)
noncomputable def fJ7_append_3 (E : gE) (N : Nat) (S : GS) (h0 : Nat) (x1 : Int32) : Option (Option Nat × GS) := bJ7_append_3_0 E N h0 S x1
noncomputable def vjava_lang_StringBuilder_append__I_Ljava_lang_StringBuilder_ (E : gE) (N : Nat) (S : GS) (r : Option Nat) (y0 : Int32) : Option (Option Nat × GS) := gvd S r (fun b ci =>
  if ci = 25 then fJ7_append_3 E N S b y0 else
  none)
/-! InchBorders.pass(I)I -/
abbrev rX1_pass (mc ms : Nat) : Room := { frames := 7, cells := mc, slots := ms, locals := 157 }
noncomputable def bX1_pass_136 (E : gE) (N : Nat) (h0 : Nat) (S : GS) (t0 : Int32) : Option (Int32 × GS) :=
  some (t0, S)
noncomputable def bX1_pass_126 (E : gE) (N : Nat) (h0 : Nat) (S : GS) (t0 : Option Nat) (t1 : Option Nat) : Option (Int32 × GS) :=
  gpv E S t0 21 (va_rf t1) (fun S_1 =>
  ggr S_1 (some h0) 21 (fun v_3 =>
  gbd (vjava_lang_String_length___I E N S_1 v_3) (fun r_5 S_6 =>
  bX1_pass_136 E N h0 S_6 r_5)))
noncomputable def bX1_pass_123 (E : gE) (N : Nat) (h0 : Nat) (S : GS) (t0 : Option Nat) (t1 : Option Nat) : Option (Int32 × GS) :=
  gbd (vjava_lang_StringBuilder_toString___Ljava_lang_String_ E N S t1) (fun r_1 S_2 =>
  bX1_pass_126 E N h0 S_2 t0 r_1)
noncomputable def bX1_pass_111 (E : gE) (N : Nat) (h0 : Nat) (S : GS) (x1 : Int32) (t0 : Option Nat) (t1 : Option Nat) : Option (Int32 × GS) :=
  ggr S (some h0) 4 (fun v_1 =>
  ggr S v_1 35 (fun v_3 =>
  gai 1 S v_3 x1 (fun v_5 =>
  gbd (vjava_lang_StringBuilder_append__I_Ljava_lang_StringBuilder_ E N S t1 v_5) (fun r_7 S_8 =>
  bX1_pass_123 E N h0 S_8 t0 r_7))))
noncomputable def bX1_pass_105 (E : gE) (N : Nat) (h0 : Nat) (S : GS) (x1 : Int32) (t0 : Option Nat) (t1 : Option Nat) : Option (Int32 × GS) :=
  gbd (vjava_lang_StringBuilder_append__Ljava_lang_String__Ljava_lang_StringBuilder_ E N S t1 (some (E.2.1 3))) (fun r_1 S_2 =>
  bX1_pass_111 E N h0 S_2 x1 t0 r_1)
noncomputable def bX1_pass_96 (E : gE) (N : Nat) (h0 : Nat) (S : GS) (x1 : Int32) (t0 : Option Nat) (t1 : Option Nat) (t2 : Option Nat) : Option (Int32 × GS) :=
  gcc S t2 [6] (
  ggr S t2 61 (fun v_2 =>
  gbd (vjava_lang_StringBuilder_append__Ljava_lang_String__Ljava_lang_StringBuilder_ E N S t1 v_2) (fun r_4 S_5 =>
  bX1_pass_105 E N h0 S_5 x1 t0 r_4)))
noncomputable def bX1_pass_77 (E : gE) (N : Nat) (h0 : Nat) (S : GS) (x1 : Int32) (t0 : Option Nat) (t1 : Option Nat) : Option (Int32 × GS) :=
  ggr S (some h0) 3 (fun v_1 =>
  ggr S v_1 25 (fun v_3 =>
  ggr S (some h0) 4 (fun v_5 =>
  ggr S v_5 34 (fun v_7 =>
  gai 1 S v_7 x1 (fun v_9 =>
  gbd (vjava_util_ArrayList_get__I_Ljava_lang_Object_ E N S v_3 v_9) (fun r_11 S_12 =>
  bX1_pass_96 E N h0 S_12 x1 t0 t1 r_11))))))
noncomputable def bX1_pass_71 (E : gE) (N : Nat) (h0 : Nat) (S : GS) (x1 : Int32) (t0 : Option Nat) (t1 : Option Nat) : Option (Int32 × GS) :=
  gbd (vjava_lang_StringBuilder_append__Ljava_lang_String__Ljava_lang_StringBuilder_ E N S t1 (some (E.2.1 2))) (fun r_1 S_2 =>
  bX1_pass_77 E N h0 S_2 x1 t0 r_1)
noncomputable def bX1_pass_62 (E : gE) (N : Nat) (h0 : Nat) (S : GS) (x1 : Int32) (t0 : Option Nat) (t1 : Option Nat) (t2 : Option Nat) : Option (Int32 × GS) :=
  gcc S t2 [6] (
  ggr S t2 61 (fun v_2 =>
  gbd (vjava_lang_StringBuilder_append__Ljava_lang_String__Ljava_lang_StringBuilder_ E N S t1 v_2) (fun r_4 S_5 =>
  bX1_pass_71 E N h0 S_5 x1 t0 r_4)))
noncomputable def bX1_pass_59 (E : gE) (N : Nat) (h0 : Nat) (S : GS) (x1 : Int32) (t0 : Option Nat) (t1 : Option Nat) (t2 : Option Nat) (t3 : Int32) : Option (Int32 × GS) :=
  gbd (vjava_util_ArrayList_get__I_Ljava_lang_Object_ E N S t2 t3) (fun r_1 S_2 =>
  bX1_pass_62 E N h0 S_2 x1 t0 t1 r_1)
noncomputable def bX1_pass_44 (E : gE) (N : Nat) (h0 : Nat) (S : GS) (x1 : Int32) (t0 : Option Nat) (t1 : Option Nat) : Option (Int32 × GS) :=
  ggr S (some h0) 3 (fun v_1 =>
  ggr S v_1 25 (fun v_3 =>
  ggr S (some h0) 3 (fun v_5 =>
  gbd (vInchBorders_Atlas_home__I_I E N S v_5 x1) (fun r_7 S_8 =>
  bX1_pass_59 E N h0 S_8 x1 t0 t1 v_3 r_7))))
noncomputable def bX1_pass_38 (E : gE) (N : Nat) (h0 : Nat) (S : GS) (x1 : Int32) (t0 : Option Nat) (t1 : Option Nat) : Option (Int32 × GS) :=
  gbd (vjava_lang_StringBuilder_append__Ljava_lang_String__Ljava_lang_StringBuilder_ E N S t1 (some (E.2.1 1))) (fun r_1 S_2 =>
  bX1_pass_44 E N h0 S_2 x1 t0 r_1)
noncomputable def bX1_pass_29 (E : gE) (N : Nat) (h0 : Nat) (S : GS) (x1 : Int32) (t0 : Option Nat) (t1 : Option Nat) (t2 : Option Nat) : Option (Int32 × GS) :=
  gcc S t2 [8] (
  ggr S t2 61 (fun v_2 =>
  gbd (vjava_lang_StringBuilder_append__Ljava_lang_String__Ljava_lang_StringBuilder_ E N S t1 v_2) (fun r_4 S_5 =>
  bX1_pass_38 E N h0 S_5 x1 t0 r_4)))
noncomputable def bX1_pass_18 (E : gE) (N : Nat) (h0 : Nat) (S : GS) (x1 : Int32) (t0 : Option Nat) (t1 : Option Nat) : Option (Int32 × GS) :=
  ggr S (some h0) 3 (fun v_1 =>
  ggr S v_1 27 (fun v_3 =>
  gbd (vjava_util_ArrayList_get__I_Ljava_lang_Object_ E N S v_3 x1) (fun r_5 S_6 =>
  bX1_pass_29 E N h0 S_6 x1 t0 t1 r_5)))
noncomputable def bX1_pass_14 (E : gE) (N : Nat) (h0 : Nat) (S : GS) (x1 : Int32) (t0 : Option Nat) (t1 : Option Nat) : Option (Int32 × GS) :=
  grf t1 (fun b_5 =>
  gbd (fJ7_init E N S b_5) (fun _ S_2 =>
  bX1_pass_18 E N h0 S_2 x1 t0 (some b_5)))
noncomputable def bX1_pass_5 (E : gE) (N : Nat) (h0 : Nat) (S : GS) (x1 : Int32) (t0 : Int32) : Option (Int32 × GS) :=
  if t0 = 0 then
    some ((-1 : Int32), S)
  else
    gnw S 25 (fun a_3 S_2 =>
    bX1_pass_14 E N h0 S_2 x1 (some h0) (some a_3))
noncomputable def bX1_pass_0 (E : gE) (N : Nat) (h0 : Nat) (S : GS) (x1 : Int32) : Option (Int32 × GS) :=
  gbd (vInchBorders_isPerson__I_Z E N S (some h0) x1) (fun r_1 S_2 =>
  bX1_pass_5 E N h0 S_2 x1 r_1)
noncomputable def fX1_pass (E : gE) (N : Nat) (S : GS) (h0 : Nat) (x1 : Int32) : Option (Int32 × GS) := bX1_pass_0 E N h0 S x1
/-! java/lang/String.charAt(I)C -/
abbrev rJ8_charAt : Room := { frames := 3, cells := 0, slots := 0, locals := 64 }
noncomputable def bJ8_charAt_0 (E : gE) (N : Nat) (h0 : Nat) (S : GS) (x1 : Int32) : Option (Int32 × GS) :=
  gbd (vjava_lang_String_isLatin1___Z E N S (some h0)) (fun r_1 S_2 =>
  if r_1 = 0 then
    ggr S_2 (some h0) 117 (fun v_6 =>
    none)
  else
    ggr S_2 (some h0) 117 (fun v_8 =>
    gbd (fJ12_charAt E N S_2 v_8 x1) (fun r_10 S_11 =>
    gnt .char r_10 (some (r_10, S_11)))))
noncomputable def fJ8_charAt (E : gE) (N : Nat) (S : GS) (h0 : Nat) (x1 : Int32) : Option (Int32 × GS) := bJ8_charAt_0 E N h0 S x1
noncomputable def vjava_lang_String_charAt__I_C (E : gE) (N : Nat) (S : GS) (r : Option Nat) (y0 : Int32) : Option (Int32 × GS) := gvd S r (fun b ci =>
  if ci = 26 then fJ8_charAt E N S b y0 else
  if ci = 27 then fJ8_charAt E N S b y0 else
  none)
/-! InchBorders.byteAt(I)I -/
abbrev rX1_byteAt : Room := { frames := 4, cells := 0, slots := 0, locals := 85 }
noncomputable def bX1_byteAt_29 (E : gE) (N : Nat) (h0 : Nat) (S : GS) (t0 : Int32) : Option (Int32 × GS) :=
  some (t0, S)
noncomputable def bX1_byteAt_0 (E : gE) (N : Nat) (h0 : Nat) (S : GS) (x1 : Int32) : Option (Int32 × GS) :=
  ggr S (some h0) 21 (fun v_1 =>
  gbd (vjava_lang_String_length___I E N S v_1) (fun r_3 S_4 =>
  gbd (fX1_isIn E N S_4 x1 (0 : Int32) (r_3 - (1 : Int32))) (fun r_7 S_8 =>
  if r_7 = 0 then
    bX1_byteAt_29 E N h0 S_8 (-1 : Int32)
  else
    ggr S_8 (some h0) 21 (fun v_12 =>
    gbd (vjava_lang_String_charAt__I_C E N S_8 v_12 x1) (fun r_14 S_15 =>
    bX1_byteAt_29 E N h0 S_15 r_14)))))
noncomputable def fX1_byteAt (E : gE) (N : Nat) (S : GS) (h0 : Nat) (x1 : Int32) : Option (Int32 × GS) := bX1_byteAt_0 E N h0 S x1
noncomputable def vInchBorders_Times_drawn__II_I (E : gE) (N : Nat) (S : GS) (r : Option Nat) (y0 : Int32) (y1 : Int32) : Option (Int32 × GS) := gvd S r (fun b ci =>
  if ci = 2 then fX3_drawn E N S b y0 y1 else
  none)
/-! InchBorders.drawn(II)I -/
abbrev rX1_drawn : Room := { frames := 7, cells := 0, slots := 0, locals := 160 }
noncomputable def bX1_drawn_17 (E : gE) (N : Nat) (h0 : Nat) (S : GS) : Option (Int32 × GS) :=
  some ((-1 : Int32), S)
noncomputable def bX1_drawn_0 (E : gE) (N : Nat) (h0 : Nat) (S : GS) (x1 : Int32) (x2 : Int32) : Option (Int32 × GS) :=
  gbd (fX1_isIn E N S x1 (1 : Int32) (60 : Int32)) (fun r_1 S_2 =>
  if r_1 = 0 then
    bX1_drawn_17 E N h0 S_2
  else
    gbd (vInchBorders_lands___I E N S_2 (some h0)) (fun r_6 S_7 =>
    if r_6 = 0 then
      bX1_drawn_17 E N h0 S_7
    else
      ggr S_7 (some h0) 4 (fun v_11 =>
      gbd (vInchBorders_Times_isOver___Z E N S_7 v_11) (fun r_13 S_14 =>
      if r_13 = 0 then
        gbd (vInchBorders_snap___V E N S_14 (some h0)) (fun _ S_19 =>
        ggr S_19 (some h0) 4 (fun v_22 =>
        gbd (vInchBorders_Times_drawn__II_I E N S_19 v_22 x1 x2) (fun r_24 S_25 =>
        some (r_24, S_25))))
      else
        some ((0 : Int32), S_14)))))
noncomputable def fX1_drawn (E : gE) (N : Nat) (S : GS) (h0 : Nat) (x1 : Int32) (x2 : Int32) : Option (Int32 × GS) := bX1_drawn_0 E N h0 S x1 x2
/-! InchBorders.odds(III)I -/
abbrev rX1_odds : Room := { frames := 7, cells := 0, slots := 0, locals := 160 }
noncomputable def bX1_odds_18 (E : gE) (N : Nat) (h0 : Nat) (S : GS) : Option (Int32 × GS) :=
  some ((-1 : Int32), S)
noncomputable def bX1_odds_77 (E : gE) (N : Nat) (h0 : Nat) (K26 : GS → Int32 → Int32 → Int32 → Int32 → Int32 → Option (Int32 × GS)) (S : GS) (x1 : Int32) (x2 : Int32) (x3 : Int32) (x4 : Int32) (x5 : Int32) : Option (Int32 × GS) :=
  K26 S x1 x2 x3 x4 (x5 + (1 : Int32))
noncomputable def bX1_odds_26 (E : gE) (N : Nat) (h0 : Nat) (K26 : GS → Int32 → Int32 → Int32 → Int32 → Int32 → Option (Int32 × GS)) (S : GS) (x1 : Int32) (x2 : Int32) (x3 : Int32) (x4 : Int32) (x5 : Int32) : Option (Int32 × GS) :=
  if x2 ≤ x5 then
    some (x4, S)
  else
    ggr S (some h0) 5 (fun v_2 =>
    ggr S (some h0) 4 (fun v_4 =>
    gbd (vInchBorders_Times_as__LInchBorders_Times__LInchBorders_Times_ E N S v_2 v_4) (fun r_6 S_7 =>
    gbd (vInchBorders_Times_drawn__II_I E N S_7 r_6 (20 : Int32) (x3 + x5)) (fun r_10 S_11 =>
    ggr S_11 (some h0) 5 (fun v_14 =>
    ggr S_11 v_14 35 (fun v_16 =>
    gai 1 S_11 v_16 x1 (fun v_18 =>
    ggr S_11 (some h0) 4 (fun v_20 =>
    ggr S_11 v_20 35 (fun v_22 =>
    gai 1 S_11 v_22 x1 (fun v_24 =>
    if v_18 ≤ v_24 then
      bX1_odds_77 E N h0 K26 S_11 x1 x2 x3 x4 x5
    else
      bX1_odds_77 E N h0 K26 S_11 x1 x2 x3 (x4 + (1 : Int32)) x5))))))))))
noncomputable def bX1_odds_26L (E : gE) (N : Nat) (h0 : Nat) : Nat → GS → Int32 → Int32 → Int32 → Int32 → Int32 → Option (Int32 × GS)
  | 0 => fun _ _ _ _ _ _ => none
  | n + 1 => bX1_odds_26 E N h0 (bX1_odds_26L E N h0 n)
noncomputable def bX1_odds_0 (E : gE) (N : Nat) (h0 : Nat) (S : GS) (x1 : Int32) (x2 : Int32) (x3 : Int32) : Option (Int32 × GS) :=
  gbd (vInchBorders_isPerson__I_Z E N S (some h0) x1) (fun r_1 S_2 =>
  if r_1 = 0 then
    bX1_odds_18 E N h0 S_2
  else
    gbd (fX1_isIn E N S_2 x2 (1 : Int32) (30 : Int32)) (fun r_6 S_7 =>
    if r_6 = 0 then
      bX1_odds_18 E N h0 S_7
    else
      bX1_odds_26L E N h0 N S_7 x1 x2 x3 (0 : Int32) (0 : Int32)))
noncomputable def fX1_odds (E : gE) (N : Nat) (S : GS) (h0 : Nat) (x1 : Int32) (x2 : Int32) (x3 : Int32) : Option (Int32 × GS) := bX1_odds_0 E N h0 S x1 x2 x3
/-! InchBorders$BookReader.<init>([BILInchBorders$Atlas;)V -/
abbrev rX23_init (mc ms : Nat) : Room := { frames := 4, cells := mc, slots := ms, locals := 80 }
noncomputable def bX23_init_17 (E : gE) (N : Nat) (h0 : Nat) (S : GS) (x3 : Option Nat) (t0 : Option Nat) (t1 : Option Nat) : Option (Int32 × GS) :=
  gpv E S t0 95 (va_rf t1) (fun S_1 =>
  gpv E S_1 (some h0) 94 (va_rf x3) (fun S_3 =>
  some (0, S_3)))
noncomputable def bX23_init_13 (E : gE) (N : Nat) (h0 : Nat) (S : GS) (x3 : Option Nat) (t0 : Option Nat) (t1 : Option Nat) : Option (Int32 × GS) :=
  grf t1 (fun b_5 =>
  gbd (fJ2_init E N S b_5) (fun _ S_2 =>
  bX23_init_17 E N h0 S_2 x3 t0 (some b_5)))
noncomputable def bX23_init_9 (E : gE) (N : Nat) (h0 : Nat) (S : GS) (x3 : Option Nat) : Option (Int32 × GS) :=
  gnw S 24 (fun a_2 S_1 =>
  bX23_init_13 E N h0 S_1 x3 (some h0) (some a_2))
noncomputable def bX23_init_0 (E : gE) (N : Nat) (h0 : Nat) (S : GS) (x1 : Option Nat) (x2 : Int32) (x3 : Option Nat) : Option (Int32 × GS) :=
  gbd (fX6_init E N S h0 x1 x2 (400 : Int32)) (fun _ S_2 =>
  bX23_init_9 E N h0 S_2 x3)
noncomputable def fX23_init (E : gE) (N : Nat) (S : GS) (h0 : Nat) (x1 : Option Nat) (x2 : Int32) (x3 : Option Nat) : Option (Int32 × GS) := bX23_init_0 E N h0 S x1 x2 x3
noncomputable def vInchBorders_BookReader_is__Ljava_lang_String__Z (E : gE) (N : Nat) (S : GS) (r : Option Nat) (y0 : Option Nat) : Option (Int32 × GS) := gvd S r (fun b ci =>
  if ci = 16 then fX6_is E N S b y0 else
  none)
noncomputable def vInchBorders_BookReader_need__ZI_V (E : gE) (N : Nat) (S : GS) (r : Option Nat) (y0 : Int32) (y1 : Int32) : Option ((Int32 ⊕ Nat) × GS) := gvd S r (fun b ci =>
  if ci = 16 then fX6_need E N S b y0 y1 else
  none)
noncomputable def vInchBorders_BookReader_go___V (E : gE) (N : Nat) (S : GS) (r : Option Nat) : Option (Int32 × GS) := gvd S r (fun b ci =>
  if ci = 16 then fX6_go E N S b else
  none)
noncomputable def vInchBorders_BookReader_one__Ljava_util_ArrayList__I (E : gE) (N : Nat) (S : GS) (r : Option Nat) (y0 : Option Nat) : Option ((Int32 ⊕ Nat) × GS) := gvd S r (fun b ci =>
  if ci = 16 then fX6_one E N S b y0 else
  none)
/-! InchBorders$BookReader.crosses(I)LInchBorders$Act; -/
abbrev rX23_crosses (mc ms : Nat) : Room := { frames := 10, cells := mc, slots := ms, locals := 221 }
noncomputable def bX23_crosses_34 (E : gE) (N : Nat) (h0 : Nat) (S : GS) (t0 : Option Nat) : Option ((Option Nat ⊕ Nat) × GS) :=
  some (Sum.inl t0, S)
noncomputable def bX23_crosses_31 (E : gE) (N : Nat) (h0 : Nat) (S : GS) (t0 : Option Nat) (t1 : Option Nat) (t2 : Int32) (t3 : Int32) : Option ((Option Nat ⊕ Nat) × GS) :=
  grf t1 (fun b_5 =>
  gbd (fX14_init E N S b_5 t2 t3) (fun _ S_2 =>
  bX23_crosses_34 E N h0 S_2 t0))
noncomputable def bX23_crosses_18 (E : gE) (N : Nat) (h0 : Nat) (S : GS) (x1 : Int32) (t0 : Option Nat) : Option ((Option Nat ⊕ Nat) × GS) :=
  ggr S (some h0) 94 (fun v_1 =>
  ggr S v_1 25 (fun v_3 =>
  gbx (vInchBorders_BookReader_one__Ljava_util_ArrayList__I E N S (some h0) v_3) (fun r_5 S_6 =>
  bX23_crosses_31 E N h0 S_6 t0 t0 x1 r_5)))
noncomputable def bX23_crosses_15 (E : gE) (N : Nat) (h0 : Nat) (S : GS) (x1 : Int32) : Option ((Option Nat ⊕ Nat) × GS) :=
  gnw S 9 (fun a_2 S_1 =>
  bX23_crosses_18 E N h0 S_1 x1 (some a_2))
noncomputable def bX23_crosses_11 (E : gE) (N : Nat) (h0 : Nat) (S : GS) (x1 : Int32) : Option ((Option Nat ⊕ Nat) × GS) :=
  gbd (vInchBorders_BookReader_go___V E N S (some h0)) (fun _ S_2 =>
  bX23_crosses_15 E N h0 S_2 x1)
noncomputable def bX23_crosses_7 (E : gE) (N : Nat) (h0 : Nat) (S : GS) (x1 : Int32) (t0 : Option Nat) (t1 : Int32) : Option ((Option Nat ⊕ Nat) × GS) :=
  gbx (vInchBorders_BookReader_need__ZI_V E N S t0 t1 (1 : Int32)) (fun _ S_2 =>
  bX23_crosses_11 E N h0 S_2 x1)
noncomputable def bX23_crosses_0 (E : gE) (N : Nat) (h0 : Nat) (S : GS) (x1 : Int32) : Option ((Option Nat ⊕ Nat) × GS) :=
  gbd (vInchBorders_BookReader_is__Ljava_lang_String__Z E N S (some h0) (some (E.2.1 10))) (fun r_1 S_2 =>
  bX23_crosses_7 E N h0 S_2 x1 (some h0) r_1)
noncomputable def fX23_crosses (E : gE) (N : Nat) (S : GS) (h0 : Nat) (x1 : Int32) : Option ((Option Nat ⊕ Nat) × GS) := bX23_crosses_0 E N h0 S x1
/-! InchBorders$Passes.<init>(I)V -/
abbrev rX24_init : Room := { frames := 2, cells := 0, slots := 0, locals := 40 }
noncomputable def bX24_init_0 (E : gE) (N : Nat) (h0 : Nat) (S : GS) (x1 : Int32) : Option (Int32 × GS) :=
  gbd (fX13_init E N S h0) (fun _ S_2 =>
  gpv E S_2 (some h0) 96 (.int x1) (fun S_5 =>
  some (0, S_5)))
noncomputable def fX24_init (E : gE) (N : Nat) (S : GS) (h0 : Nat) (x1 : Int32) : Option (Int32 × GS) := bX24_init_0 E N h0 S x1
noncomputable def vInchBorders_BookReader_number__II_I (E : gE) (N : Nat) (S : GS) (r : Option Nat) (y0 : Int32) (y1 : Int32) : Option ((Int32 ⊕ Nat) × GS) := gvd S r (fun b ci =>
  if ci = 16 then fX6_number E N S b y0 y1 else
  none)
/-! InchBorders$BookReader.lends()LInchBorders$Act; -/
abbrev rX23_lends (mc ms : Nat) : Room := { frames := 10, cells := mc, slots := ms, locals := 221 }
noncomputable def bX23_lends_40 (E : gE) (N : Nat) (h0 : Nat) (S : GS) (t0 : Option Nat) : Option ((Option Nat ⊕ Nat) × GS) :=
  some (Sum.inl t0, S)
noncomputable def bX23_lends_37 (E : gE) (N : Nat) (h0 : Nat) (S : GS) (t0 : Option Nat) (t1 : Option Nat) (t2 : Int32) (t3 : Int32) (t4 : Int32) : Option ((Option Nat ⊕ Nat) × GS) :=
  grf t1 (fun b_5 =>
  gbd (fX17_init E N S b_5 t2 t3 t4) (fun _ S_2 =>
  bX23_lends_40 E N h0 S_2 t0))
noncomputable def bX23_lends_27 (E : gE) (N : Nat) (h0 : Nat) (S : GS) (x1 : Int32) (x2 : Int32) (t0 : Option Nat) : Option ((Option Nat ⊕ Nat) × GS) :=
  gbx (vInchBorders_BookReader_number__II_I E N S (some h0) (1 : Int32) (99 : Int32)) (fun r_1 S_2 =>
  bX23_lends_37 E N h0 S_2 t0 t0 x1 x2 r_1)
noncomputable def bX23_lends_23 (E : gE) (N : Nat) (h0 : Nat) (S : GS) (x1 : Int32) (t0 : Int32) : Option ((Option Nat ⊕ Nat) × GS) :=
  gnw S 11 (fun a_2 S_1 =>
  bX23_lends_27 E N h0 S_1 x1 t0 (some a_2))
noncomputable def bX23_lends_11 (E : gE) (N : Nat) (h0 : Nat) (S : GS) (t0 : Int32) : Option ((Option Nat ⊕ Nat) × GS) :=
  ggr S (some h0) 94 (fun v_1 =>
  ggr S v_1 25 (fun v_3 =>
  gbx (vInchBorders_BookReader_one__Ljava_util_ArrayList__I E N S (some h0) v_3) (fun r_5 S_6 =>
  bX23_lends_23 E N h0 S_6 t0 r_5)))
noncomputable def bX23_lends_0 (E : gE) (N : Nat) (h0 : Nat) (S : GS) : Option ((Option Nat ⊕ Nat) × GS) :=
  ggr S (some h0) 94 (fun v_1 =>
  ggr S v_1 25 (fun v_3 =>
  gbx (vInchBorders_BookReader_one__Ljava_util_ArrayList__I E N S (some h0) v_3) (fun r_5 S_6 =>
  bX23_lends_11 E N h0 S_6 r_5)))
noncomputable def fX23_lends (E : gE) (N : Nat) (S : GS) (h0 : Nat) : Option ((Option Nat ⊕ Nat) × GS) := bX23_lends_0 E N h0 S
/-! InchBorders$BookReader.treaty(Z)LInchBorders$Act; -/
abbrev rX23_treaty (mc ms : Nat) : Room := { frames := 10, cells := mc, slots := ms, locals := 221 }
noncomputable def bX23_treaty_32 (E : gE) (N : Nat) (h0 : Nat) (S : GS) (t0 : Option Nat) : Option ((Option Nat ⊕ Nat) × GS) :=
  some (Sum.inl t0, S)
noncomputable def bX23_treaty_28 (E : gE) (N : Nat) (h0 : Nat) (S : GS) (x1 : Int32) (t0 : Option Nat) (t1 : Option Nat) (t2 : Int32) (t3 : Int32) : Option ((Option Nat ⊕ Nat) × GS) :=
  grf t1 (fun b_5 =>
  gbd (fX18_init E N S b_5 t2 t3 x1) (fun _ S_2 =>
  bX23_treaty_32 E N h0 S_2 t0))
noncomputable def bX23_treaty_15 (E : gE) (N : Nat) (h0 : Nat) (S : GS) (x1 : Int32) (x2 : Int32) (t0 : Option Nat) : Option ((Option Nat ⊕ Nat) × GS) :=
  ggr S (some h0) 94 (fun v_1 =>
  ggr S v_1 25 (fun v_3 =>
  gbx (vInchBorders_BookReader_one__Ljava_util_ArrayList__I E N S (some h0) v_3) (fun r_5 S_6 =>
  bX23_treaty_28 E N h0 S_6 x1 t0 t0 x2 r_5)))
noncomputable def bX23_treaty_11 (E : gE) (N : Nat) (h0 : Nat) (S : GS) (x1 : Int32) (t0 : Int32) : Option ((Option Nat ⊕ Nat) × GS) :=
  gnw S 12 (fun a_2 S_1 =>
  bX23_treaty_15 E N h0 S_1 x1 t0 (some a_2))
noncomputable def bX23_treaty_0 (E : gE) (N : Nat) (h0 : Nat) (S : GS) (x1 : Int32) : Option ((Option Nat ⊕ Nat) × GS) :=
  ggr S (some h0) 94 (fun v_1 =>
  ggr S v_1 25 (fun v_3 =>
  gbx (vInchBorders_BookReader_one__Ljava_util_ArrayList__I E N S (some h0) v_3) (fun r_5 S_6 =>
  bX23_treaty_11 E N h0 S_6 x1 r_5)))
noncomputable def fX23_treaty (E : gE) (N : Nat) (S : GS) (h0 : Nat) (x1 : Int32) : Option ((Option Nat ⊕ Nat) × GS) := bX23_treaty_0 E N h0 S x1
noncomputable def vInchBorders_BookReader_hold__Ljava_util_ArrayList__I (E : gE) (N : Nat) (S : GS) (r : Option Nat) (y0 : Option Nat) : Option ((Int32 ⊕ Nat) × GS) := gvd S r (fun b ci =>
  if ci = 16 then fX6_hold E N S b y0 else
  none)
noncomputable def vInchBorders_BookReader_crosses__I_LInchBorders_Act_ (E : gE) (N : Nat) (S : GS) (r : Option Nat) (y0 : Int32) : Option ((Option Nat ⊕ Nat) × GS) := gvd S r (fun b ci =>
  if ci = 16 then fX23_crosses E N S b y0 else
  none)
noncomputable def vInchBorders_BookReader_lends___LInchBorders_Act_ (E : gE) (N : Nat) (S : GS) (r : Option Nat) : Option ((Option Nat ⊕ Nat) × GS) := gvd S r (fun b ci =>
  if ci = 16 then fX23_lends E N S b else
  none)
noncomputable def vInchBorders_BookReader_treaty__Z_LInchBorders_Act_ (E : gE) (N : Nat) (S : GS) (r : Option Nat) (y0 : Int32) : Option ((Option Nat ⊕ Nat) × GS) := gvd S r (fun b ci =>
  if ci = 16 then fX23_treaty E N S b y0 else
  none)
/-! InchBorders$BookReader.act()LInchBorders$Act; -/
abbrev rX23_act (mc ms : Nat) : Room := { frames := 11, cells := mc, slots := ms, locals := 243 }
noncomputable def bX23_act_134 (E : gE) (N : Nat) (h0 : Nat) (S : GS) (t0 : Option Nat) : Option ((Option Nat ⊕ Nat) × GS) :=
  some (Sum.inl t0, S)
noncomputable def bX23_act_131 (E : gE) (N : Nat) (h0 : Nat) (S : GS) (t0 : Option Nat) (t1 : Int32) : Option ((Option Nat ⊕ Nat) × GS) :=
  gbx (vInchBorders_BookReader_crosses__I_LInchBorders_Act_ E N S t0 t1) (fun r_1 S_2 =>
  bX23_act_134 E N h0 S_2 r_1)
noncomputable def bX23_act_158 (E : gE) (N : Nat) (h0 : Nat) (S : GS) (t0 : Option Nat) : Option ((Option Nat ⊕ Nat) × GS) :=
  some (Sum.inl t0, S)
noncomputable def bX23_act_155 (E : gE) (N : Nat) (h0 : Nat) (S : GS) (t0 : Option Nat) (t1 : Option Nat) (t2 : Int32) : Option ((Option Nat ⊕ Nat) × GS) :=
  grf t1 (fun b_5 =>
  gbd (fX24_init E N S b_5 t2) (fun _ S_2 =>
  bX23_act_158 E N h0 S_2 t0))
noncomputable def bX23_act_147 (E : gE) (N : Nat) (h0 : Nat) (S : GS) (t0 : Option Nat) : Option ((Option Nat ⊕ Nat) × GS) :=
  gbx (vInchBorders_BookReader_number__II_I E N S (some h0) (1 : Int32) (60 : Int32)) (fun r_1 S_2 =>
  bX23_act_155 E N h0 S_2 t0 t0 r_1)
noncomputable def bX23_act_168 (E : gE) (N : Nat) (h0 : Nat) (S : GS) (t0 : Option Nat) : Option ((Option Nat ⊕ Nat) × GS) :=
  some (Sum.inl t0, S)
noncomputable def bX23_act_200 (E : gE) (N : Nat) (h0 : Nat) (S : GS) (t0 : Option Nat) : Option ((Option Nat ⊕ Nat) × GS) :=
  some (Sum.inl t0, S)
noncomputable def bX23_act_182 (E : gE) (N : Nat) (h0 : Nat) (S : GS) (t0 : Option Nat) : Option ((Option Nat ⊕ Nat) × GS) :=
  bX23_act_200 E N h0 S t0
noncomputable def bX23_act_177 (E : gE) (N : Nat) (h0 : Nat) (S : GS) (x1 : Int32) : Option ((Option Nat ⊕ Nat) × GS) :=
  gbx (vInchBorders_BookReader_treaty__Z_LInchBorders_Act_ E N S (some h0) x1) (fun r_1 S_2 =>
  bX23_act_182 E N h0 S_2 r_1)
noncomputable def bX23_act_196 (E : gE) (N : Nat) (h0 : Nat) (S : GS) (x3 : Int32) (t0 : Option Nat) (t1 : Option Nat) (t2 : Int32) : Option ((Option Nat ⊕ Nat) × GS) :=
  grf t1 (fun b_5 =>
  gbd (fX15_init E N S b_5 t2 x3) (fun _ S_2 =>
  bX23_act_200 E N h0 S_2 t0))
noncomputable def bX23_act_188 (E : gE) (N : Nat) (h0 : Nat) (S : GS) (x3 : Int32) (t0 : Option Nat) : Option ((Option Nat ⊕ Nat) × GS) :=
  gbx (vInchBorders_BookReader_number__II_I E N S (some h0) (0 : Int32) (11 : Int32)) (fun r_1 S_2 =>
  bX23_act_196 E N h0 S_2 x3 t0 t0 r_1)
noncomputable def bX23_act_139 (E : gE) (N : Nat) (h0 : Nat) (S : GS) (x1 : Int32) (x2 : Int32) (x3 : Int32) (x4 : Int32) (x5 : Int32) : Option ((Option Nat ⊕ Nat) × GS) :=
  if x5 = 0 then
    if x4 = 0 then
      if x1 = 0 then
        if x2 = 0 then
          gnw S 10 (fun a_6 S_5 =>
          bX23_act_188 E N h0 S_5 x3 (some a_6))
        else
          bX23_act_177 E N h0 S x1
      else
        bX23_act_177 E N h0 S x1
    else
      gbx (vInchBorders_BookReader_lends___LInchBorders_Act_ E N S (some h0)) (fun r_7 S_8 =>
      bX23_act_168 E N h0 S_8 r_7)
  else
    gnw S 17 (fun a_13 S_12 =>
    bX23_act_147 E N h0 S_12 (some a_13))
noncomputable def bX23_act_114 (E : gE) (N : Nat) (h0 : Nat) (S : GS) (x1 : Int32) (x2 : Int32) (x3 : Int32) (x4 : Int32) (x5 : Int32) (x6 : Int32) : Option ((Option Nat ⊕ Nat) × GS) :=
  if x6 = 0 then
    ggr S (some h0) 94 (fun v_6 =>
    ggr S v_6 27 (fun v_8 =>
    gbx (vInchBorders_BookReader_one__Ljava_util_ArrayList__I E N S (some h0) v_8) (fun r_10 S_11 =>
    bX23_act_131 E N h0 S_11 (some h0) r_10)))
  else
    gbd (vInchBorders_BookReader_go___V E N S (some h0)) (fun _ S_3 =>
    bX23_act_139 E N h0 S_3 x1 x2 x3 x4 x5)
noncomputable def bX23_act_110 (E : gE) (N : Nat) (h0 : Nat) (S : GS) (x1 : Int32) (x2 : Int32) (x3 : Int32) (x4 : Int32) (x5 : Int32) (x6 : Int32) (t0 : Option Nat) (t1 : Int32) : Option ((Option Nat ⊕ Nat) × GS) :=
  gbx (vInchBorders_BookReader_need__ZI_V E N S t0 t1 (4 : Int32)) (fun _ S_2 =>
  bX23_act_114 E N h0 S_2 x1 x2 x3 x4 x5 x6)
noncomputable def bX23_act_100 (E : gE) (N : Nat) (h0 : Nat) (S : GS) (x1 : Int32) (x2 : Int32) (x3 : Int32) (x4 : Int32) (x5 : Int32) (x6 : Int32) (t0 : Option Nat) (t1 : Int32) : Option ((Option Nat ⊕ Nat) × GS) :=
  if (40 : Int32) ≤ t1 then
    bX23_act_110 E N h0 S x1 x2 x3 x4 x5 x6 t0 (0 : Int32)
  else
    bX23_act_110 E N h0 S x1 x2 x3 x4 x5 x6 t0 (1 : Int32)
noncomputable def bX23_act_92 (E : gE) (N : Nat) (h0 : Nat) (S : GS) (x1 : Int32) (x2 : Int32) (x3 : Int32) (x4 : Int32) (x5 : Int32) (x6 : Int32) : Option ((Option Nat ⊕ Nat) × GS) :=
  ggr S (some h0) 95 (fun v_1 =>
  gbd (vjava_util_ArrayList_size___I E N S v_1) (fun r_3 S_4 =>
  bX23_act_100 E N h0 S_4 x1 x2 x3 x4 x5 x6 (some h0) r_3))
noncomputable def bX23_act_91 (E : gE) (N : Nat) (h0 : Nat) (S : GS) (x1 : Int32) (x2 : Int32) (x3 : Int32) (x4 : Int32) (x5 : Int32) (x6 : Int32) (t0 : Int32) : Option ((Option Nat ⊕ Nat) × GS) :=
  bX23_act_92 E N h0 S x1 x2 x3 x4 x5 x6
noncomputable def bX23_act_73 (E : gE) (N : Nat) (h0 : Nat) (S : GS) (x1 : Int32) (x2 : Int32) (x3 : Int32) (x4 : Int32) (x5 : Int32) (t0 : Int32) : Option ((Option Nat ⊕ Nat) × GS) :=
  if t0 = 0 then
    ggr S (some h0) 94 (fun v_2 =>
    ggr S v_2 27 (fun v_4 =>
    gbx (vInchBorders_BookReader_hold__Ljava_util_ArrayList__I E N S (some h0) v_4) (fun r_6 S_7 =>
    bX23_act_91 E N h0 S_7 x1 x2 x3 x4 x5 t0 r_6)))
  else
    bX23_act_92 E N h0 S x1 x2 x3 x4 x5 t0
noncomputable def bX23_act_68 (E : gE) (N : Nat) (h0 : Nat) (S : GS) (x1 : Int32) (x2 : Int32) (x3 : Int32) (x4 : Int32) (x5 : Int32) : Option ((Option Nat ⊕ Nat) × GS) :=
  bX23_act_73 E N h0 S x1 x2 x3 x4 x5 (1 : Int32)
noncomputable def bX23_act_65 (E : gE) (N : Nat) (h0 : Nat) (S : GS) (x1 : Int32) (x2 : Int32) (x3 : Int32) (x4 : Int32) (x5 : Int32) (t0 : Int32) : Option ((Option Nat ⊕ Nat) × GS) :=
  if t0 = 0 then
    bX23_act_73 E N h0 S x1 x2 x3 x4 x5 (0 : Int32)
  else
    bX23_act_68 E N h0 S x1 x2 x3 x4 x5
noncomputable def bX23_act_35 (E : gE) (N : Nat) (h0 : Nat) (S : GS) (x1 : Int32) (x2 : Int32) (x3 : Int32) (x4 : Int32) (t0 : Int32) : Option ((Option Nat ⊕ Nat) × GS) :=
  if x1 = 0 then
    if x2 = 0 then
      if x3 = 0 then
        if x4 = 0 then
          if t0 = 0 then
            gbd (vInchBorders_BookReader_is__Ljava_lang_String__Z E N S (some h0) (some (E.2.1 9))) (fun r_6 S_7 =>
            bX23_act_65 E N h0 S_7 x1 x2 x3 x4 t0 r_6)
          else
            bX23_act_68 E N h0 S x1 x2 x3 x4 t0
        else
          bX23_act_68 E N h0 S x1 x2 x3 x4 t0
      else
        bX23_act_68 E N h0 S x1 x2 x3 x4 t0
    else
      bX23_act_68 E N h0 S x1 x2 x3 x4 t0
  else
    bX23_act_68 E N h0 S x1 x2 x3 x4 t0
noncomputable def bX23_act_27 (E : gE) (N : Nat) (h0 : Nat) (S : GS) (x1 : Int32) (x2 : Int32) (x3 : Int32) (t0 : Int32) : Option ((Option Nat ⊕ Nat) × GS) :=
  gbd (vInchBorders_BookReader_is__Ljava_lang_String__Z E N S (some h0) (some (E.2.1 8))) (fun r_1 S_2 =>
  bX23_act_35 E N h0 S_2 x1 x2 x3 t0 r_1)
noncomputable def bX23_act_20 (E : gE) (N : Nat) (h0 : Nat) (S : GS) (x1 : Int32) (x2 : Int32) (t0 : Int32) : Option ((Option Nat ⊕ Nat) × GS) :=
  gbd (vInchBorders_BookReader_is__Ljava_lang_String__Z E N S (some h0) (some (E.2.1 7))) (fun r_1 S_2 =>
  bX23_act_27 E N h0 S_2 x1 x2 t0 r_1)
noncomputable def bX23_act_13 (E : gE) (N : Nat) (h0 : Nat) (S : GS) (x1 : Int32) (t0 : Int32) : Option ((Option Nat ⊕ Nat) × GS) :=
  gbd (vInchBorders_BookReader_is__Ljava_lang_String__Z E N S (some h0) (some (E.2.1 6))) (fun r_1 S_2 =>
  bX23_act_20 E N h0 S_2 x1 t0 r_1)
noncomputable def bX23_act_6 (E : gE) (N : Nat) (h0 : Nat) (S : GS) (t0 : Int32) : Option ((Option Nat ⊕ Nat) × GS) :=
  gbd (vInchBorders_BookReader_is__Ljava_lang_String__Z E N S (some h0) (some (E.2.1 5))) (fun r_1 S_2 =>
  bX23_act_13 E N h0 S_2 t0 r_1)
noncomputable def bX23_act_0 (E : gE) (N : Nat) (h0 : Nat) (S : GS) : Option ((Option Nat ⊕ Nat) × GS) :=
  gbd (vInchBorders_BookReader_is__Ljava_lang_String__Z E N S (some h0) (some (E.2.1 4))) (fun r_1 S_2 =>
  bX23_act_6 E N h0 S_2 r_1)
noncomputable def fX23_act (E : gE) (N : Nat) (S : GS) (h0 : Nat) : Option ((Option Nat ⊕ Nat) × GS) := bX23_act_0 E N h0 S
noncomputable def vInchBorders_BookReader_act___LInchBorders_Act_ (E : gE) (N : Nat) (S : GS) (r : Option Nat) : Option ((Option Nat ⊕ Nat) × GS) := gvd S r (fun b ci =>
  if ci = 16 then fX23_act E N S b else
  none)
noncomputable def vInchBorders_BookReader_end___V (E : gE) (N : Nat) (S : GS) (r : Option Nat) : Option ((Int32 ⊕ Nat) × GS) := gvd S r (fun b ci =>
  if ci = 16 then fX6_end E N S b else
  none)
/-! InchBorders$BookReader.read()Ljava/util/ArrayList; -/
abbrev rX23_read (mc ms : Nat) : Room := { frames := 12, cells := mc, slots := ms, locals := 269 }
noncomputable def bX23_read_27 (E : gE) (N : Nat) (h0 : Nat) (K4 : GS → Option ((Option Nat ⊕ Nat) × GS)) (S : GS) : Option ((Option Nat ⊕ Nat) × GS) :=
  K4 S
noncomputable def bX23_read_22 (E : gE) (N : Nat) (h0 : Nat) (K4 : GS → Option ((Option Nat ⊕ Nat) × GS)) (S : GS) (t0 : Int32) : Option ((Option Nat ⊕ Nat) × GS) :=
  gbx (vInchBorders_BookReader_end___V E N S (some h0)) (fun _ S_2 =>
  bX23_read_27 E N h0 K4 S_2)
noncomputable def bX23_read_19 (E : gE) (N : Nat) (h0 : Nat) (K4 : GS → Option ((Option Nat ⊕ Nat) × GS)) (S : GS) (t0 : Option Nat) (t1 : Option Nat) : Option ((Option Nat ⊕ Nat) × GS) :=
  gbd (vjava_util_ArrayList_add__Ljava_lang_Object__Z E N S t0 t1) (fun r_1 S_2 =>
  bX23_read_22 E N h0 K4 S_2 r_1)
noncomputable def bX23_read_4 (E : gE) (N : Nat) (h0 : Nat) (K4 : GS → Option ((Option Nat ⊕ Nat) × GS)) (S : GS) : Option ((Option Nat ⊕ Nat) × GS) :=
  ggi S (some h0) 47 (fun v_1 =>
  if v_1 = 0 then
    ggr S (some h0) 95 (fun v_4 =>
    some (Sum.inl v_4, S))
  else
    ggr S (some h0) 95 (fun v_6 =>
    gbx (vInchBorders_BookReader_act___LInchBorders_Act_ E N S (some h0)) (fun r_8 S_9 =>
    bX23_read_19 E N h0 K4 S_9 v_6 r_8)))
noncomputable def bX23_read_4L (E : gE) (N : Nat) (h0 : Nat) : Nat → GS → Option ((Option Nat ⊕ Nat) × GS)
  | 0 => fun _ => none
  | n + 1 => bX23_read_4 E N h0 (bX23_read_4L E N h0 n)
noncomputable def bX23_read_0 (E : gE) (N : Nat) (h0 : Nat) (S : GS) : Option ((Option Nat ⊕ Nat) × GS) :=
  gbd (vInchBorders_BookReader_go___V E N S (some h0)) (fun _ S_2 =>
  bX23_read_4L E N h0 N S_2)
noncomputable def fX23_read (E : gE) (N : Nat) (S : GS) (h0 : Nat) : Option ((Option Nat ⊕ Nat) × GS) := bX23_read_0 E N h0 S
/-! InchBorders.lived(Ljava/util/ArrayList;Z)I -/
abbrev rX1_lived : Room := { frames := 8, cells := 0, slots := 0, locals := 170 }
noncomputable def bX1_lived_133 (E : gE) (N : Nat) (h0 : Nat) (S : GS) (t0 : Int32) : Option (Int32 × GS) :=
  some (t0, S)
noncomputable def bX1_lived_123 (E : gE) (N : Nat) (h0 : Nat) (S : GS) (x3 : Int32) (x4 : Int32) : Option (Int32 × GS) :=
  if x3 = 0 then
    bX1_lived_133 E N h0 S (-1 : Int32)
  else
    bX1_lived_133 E N h0 S x4
noncomputable def bX1_lived_57 (E : gE) (N : Nat) (h0 : Nat) (S : GS) (x2 : Int32) (x3 : Int32) (x4 : Int32) : Option (Int32 × GS) :=
  ggr S (some h0) 22 (fun v_1 =>
  gaw 1 E S v_1 (0 : Int32) x3 (fun S_3 =>
  ggr S_3 (some h0) 22 (fun v_5 =>
  gaw 1 E S_3 v_5 (1 : Int32) x4 (fun S_7 =>
  ggr S_7 (some h0) 22 (fun v_9 =>
  ggr S_7 (some h0) 5 (fun v_11 =>
  ggi S_7 v_11 29 (fun v_13 =>
  gaw 1 E S_7 v_9 (2 : Int32) v_13 (fun S_15 =>
  ggr S_15 (some h0) 22 (fun v_17 =>
  ggr S_15 (some h0) 5 (fun v_19 =>
  gbd (vInchBorders_Times_lengths___I E N S_15 v_19) (fun r_21 S_22 =>
  gaw 1 E S_22 v_17 (3 : Int32) r_21 (fun S_25 =>
  if x2 = 0 then
    bX1_lived_123 E N h0 S_25 x3 x4
  else
    if x4 ≤ 0 then
      bX1_lived_123 E N h0 S_25 x3 x4
    else
      gbd (vInchBorders_snap___V E N S_25 (some h0)) (fun _ S_30 =>
      ggr S_30 (some h0) 4 (fun v_33 =>
      ggr S_30 (some h0) 5 (fun v_35 =>
      gbd (vInchBorders_Times_as__LInchBorders_Times__LInchBorders_Times_ E N S_30 v_33 v_35) (fun r_37 S_38 =>
      bX1_lived_123 E N h0 S_38 x3 x4))))))))))))))))
noncomputable def bX1_lived_17 (E : gE) (N : Nat) (h0 : Nat) (K17 : GS → (Option Nat) → Int32 → Int32 → Int32 → Option (Int32 × GS)) (S : GS) (x1 : Option Nat) (x2 : Int32) (x3 : Int32) (x4 : Int32) : Option (Int32 × GS) :=
  gbd (vjava_util_ArrayList_size___I E N S x1) (fun r_1 S_2 =>
  if r_1 ≤ x4 then
    bX1_lived_57 E N h0 S_2 x2 x3 x4
  else
    if x3 = 0 then
      gbd (vjava_util_ArrayList_get__I_Ljava_lang_Object_ E N S_2 x1 x4) (fun r_7 S_8 =>
      gcc S_8 r_7 [9, 10, 11, 12, 17] (
      ggr S_8 (some h0) 5 (fun v_12 =>
      gbd (vInchBorders_Act_does__LInchBorders_Times__I E N S_8 r_7 v_12) (fun r_14 S_15 =>
      if r_14 = 0 then
        K17 S_15 x1 x2 r_14 (x4 + (1 : Int32))
      else
        K17 S_15 x1 x2 r_14 x4))))
    else
      bX1_lived_57 E N h0 S_2 x2 x3 x4)
noncomputable def bX1_lived_17L (E : gE) (N : Nat) (h0 : Nat) : Nat → GS → (Option Nat) → Int32 → Int32 → Int32 → Option (Int32 × GS)
  | 0 => fun _ _ _ _ _ => none
  | n + 1 => bX1_lived_17 E N h0 (bX1_lived_17L E N h0 n)
noncomputable def bX1_lived_0 (E : gE) (N : Nat) (h0 : Nat) (S : GS) (x1 : Option Nat) (x2 : Int32) : Option (Int32 × GS) :=
  ggr S (some h0) 5 (fun v_1 =>
  ggr S (some h0) 4 (fun v_3 =>
  gbd (vInchBorders_Times_as__LInchBorders_Times__LInchBorders_Times_ E N S v_1 v_3) (fun r_5 S_6 =>
  bX1_lived_17L E N h0 N S_6 x1 x2 (0 : Int32) (0 : Int32))))
noncomputable def fX1_lived (E : gE) (N : Nat) (S : GS) (h0 : Nat) (x1 : Option Nat) (x2 : Int32) : Option (Int32 × GS) := bX1_lived_0 E N h0 S x1 x2
noncomputable def vInchBorders_BookReader_read___Ljava_util_ArrayList_ (E : gE) (N : Nat) (S : GS) (r : Option Nat) : Option ((Option Nat ⊕ Nat) × GS) := gvd S r (fun b ci =>
  if ci = 16 then fX23_read E N S b else
  none)
noncomputable def vInchBorders_lived__Ljava_util_ArrayList_Z_I (E : gE) (N : Nat) (S : GS) (r : Option Nat) (y0 : Option Nat) (y1 : Int32) : Option (Int32 × GS) := gvd S r (fun b ci =>
  if ci = 0 then fX1_lived E N S b y0 y1 else
  none)
/-! InchBorders.book(I)I -/
abbrev rX1_book (mc ms : Nat) : Room := { frames := 13, cells := mc, slots := ms, locals := 289 }
noncomputable def bX1_book_57 (E : gE) (N : Nat) (h0 : Nat) (S : GS) (t0 : Option Nat) : Option ((Int32 ⊕ Nat) × GS) :=
  ggi S t0 59 (fun v_1 =>
  gpv E S (some h0) 2 (.int v_1) (fun S_3 =>
  ggi S_3 t0 60 (fun v_5 =>
  some (Sum.inl ((-2 : Int32) - v_5), S_3))))
noncomputable def bX1_book_56 (E : gE) (N : Nat) (h0 : Nat) (S : GS) (t0 : Int32) : Option ((Int32 ⊕ Nat) × GS) :=
  some (Sum.inl t0, S)
noncomputable def bX1_book_53 (E : gE) (N : Nat) (h0 : Nat) (S : GS) (t0 : Option Nat) (t1 : Option Nat) (t2 : Int32) : Option ((Int32 ⊕ Nat) × GS) :=
  gbd (vInchBorders_lived__Ljava_util_ArrayList_Z_I E N S t0 t1 t2) (fun r_1 S_2 =>
  bX1_book_56 E N h0 S_2 r_1)
noncomputable def bX1_book_43 (E : gE) (N : Nat) (h0 : Nat) (S : GS) (x1 : Int32) (t0 : Option Nat) (t1 : Option Nat) : Option ((Int32 ⊕ Nat) × GS) :=
  if x1 = (1 : Int32) then
    bX1_book_53 E N h0 S t0 t1 (1 : Int32)
  else
    bX1_book_53 E N h0 S t0 t1 (0 : Int32)
noncomputable def bX1_book_40 (E : gE) (N : Nat) (h0 : Nat) (S : GS) (x1 : Int32) (t0 : Option Nat) (t1 : Option Nat) : Option ((Int32 ⊕ Nat) × GS) :=
  gbc (vInchBorders_BookReader_read___Ljava_util_ArrayList_ E N S t1) (fun q_5 S_2 =>
    bX1_book_57 E N h0 S_2 (some q_5)) (fun r_1 S_2 =>
  bX1_book_43 E N h0 S_2 x1 t0 r_1)
noncomputable def bX1_book_27 (E : gE) (N : Nat) (h0 : Nat) (S : GS) (x1 : Int32) (x2 : Int32) (t0 : Option Nat) (t1 : Option Nat) : Option ((Int32 ⊕ Nat) × GS) :=
  ggr S (some h0) 0 (fun v_1 =>
  ggr S (some h0) 3 (fun v_3 =>
  grf t1 (fun b_9 =>
  gbd (fX23_init E N S b_9 v_1 x2 v_3) (fun _ S_6 =>
  bX1_book_40 E N h0 S_6 x1 t0 (some b_9)))))
noncomputable def bX1_book_17 (E : gE) (N : Nat) (h0 : Nat) (S : GS) (x1 : Int32) (t0 : Int32) : Option ((Int32 ⊕ Nat) × GS) :=
  gpv E S (some h0) 2 (.int (0 : Int32)) (fun S_1 =>
  gnw S_1 16 (fun a_4 S_3 =>
  bX1_book_27 E N h0 S_3 x1 t0 (some h0) (some a_4)))
noncomputable def bX1_book_6 (E : gE) (N : Nat) (h0 : Nat) (S : GS) (x1 : Int32) (t0 : Int32) : Option ((Int32 ⊕ Nat) × GS) :=
  if t0 = 0 then
    some (Sum.inl (-1000 : Int32), S)
  else
    gbd (vInchBorders_take___I E N S (some h0)) (fun r_2 S_3 =>
    bX1_book_17 E N h0 S_3 x1 r_2)
noncomputable def bX1_book_0 (E : gE) (N : Nat) (h0 : Nat) (S : GS) (x1 : Int32) : Option ((Int32 ⊕ Nat) × GS) :=
  gbd (fX1_isIn E N S x1 (0 : Int32) (1 : Int32)) (fun r_1 S_2 =>
  bX1_book_6 E N h0 S_2 x1 r_1)
noncomputable def fX1_book (E : gE) (N : Nat) (S : GS) (h0 : Nat) (x1 : Int32) : Option ((Int32 ⊕ Nat) × GS) := bX1_book_0 E N h0 S x1
/-! InchBorders.told(I)I -/
abbrev rX1_told : Room := { frames := 1, cells := 0, slots := 0, locals := 22 }
noncomputable def bX1_told_19 (E : gE) (N : Nat) (h0 : Nat) (S : GS) (t0 : Int32) : Option (Int32 × GS) :=
  some (t0, S)
noncomputable def bX1_told_0 (E : gE) (N : Nat) (h0 : Nat) (S : GS) (x1 : Int32) : Option (Int32 × GS) :=
  gbd (fX1_isIn E N S x1 (0 : Int32) (3 : Int32)) (fun r_1 S_2 =>
  if r_1 = 0 then
    bX1_told_19 E N h0 S_2 (-1 : Int32)
  else
    ggr S_2 (some h0) 22 (fun v_6 =>
    gai 1 S_2 v_6 x1 (fun v_8 =>
    bX1_told_19 E N h0 S_2 v_8)))
noncomputable def fX1_told (E : gE) (N : Nat) (S : GS) (h0 : Nat) (x1 : Int32) : Option (Int32 × GS) := bX1_told_0 E N h0 S x1
noncomputable def vInchBorders_SentenceReader_read___LInchBorders_Cond_ (E : gE) (N : Nat) (S : GS) (r : Option Nat) : Option ((Option Nat ⊕ Nat) × GS) := gvd S r (fun b ci =>
  if ci = 18 then fX25_read E N S b else
  none)
/-! InchBorders.sentence()I -/
abbrev rX1_sentence (mc ms : Nat) : Room := { frames := 706, cells := mc, slots := ms, locals := 15912 }
noncomputable def bX1_sentence_40 (E : gE) (N : Nat) (h0 : Nat) (S : GS) (t0 : Option Nat) : Option ((Int32 ⊕ Nat) × GS) :=
  ggi S t0 59 (fun v_1 =>
  gpv E S (some h0) 2 (.int v_1) (fun S_3 =>
  ggi S_3 t0 60 (fun v_5 =>
  some (Sum.inl ((-1 : Int32) - v_5), S_3))))
noncomputable def bX1_sentence_32 (E : gE) (N : Nat) (h0 : Nat) (S : GS) (x2 : Option Nat) (t0 : Option Nat) (t1 : Option Nat) : Option ((Int32 ⊕ Nat) × GS) :=
  gpv E S t0 6 (va_rf t1) (fun S_1 =>
  ggi S_1 x2 98 (fun v_3 =>
  some (Sum.inl v_3, S_1)))
noncomputable def bX1_sentence_26 (E : gE) (N : Nat) (h0 : Nat) (S : GS) (t0 : Option Nat) : Option ((Int32 ⊕ Nat) × GS) :=
  gbc (vInchBorders_SentenceReader_read___LInchBorders_Cond_ E N S t0) (fun q_5 S_2 =>
    bX1_sentence_40 E N h0 S_2 (some q_5)) (fun r_1 S_2 =>
  bX1_sentence_32 E N h0 S_2 t0 (some h0) r_1)
noncomputable def bX1_sentence_13 (E : gE) (N : Nat) (h0 : Nat) (S : GS) (x1 : Int32) (t0 : Option Nat) : Option ((Int32 ⊕ Nat) × GS) :=
  ggr S (some h0) 0 (fun v_1 =>
  ggr S (some h0) 3 (fun v_3 =>
  grf t0 (fun b_9 =>
  gbd (fX25_init E N S b_9 v_1 x1 v_3) (fun _ S_6 =>
  bX1_sentence_26 E N h0 S_6 (some b_9)))))
noncomputable def bX1_sentence_4 (E : gE) (N : Nat) (h0 : Nat) (S : GS) (t0 : Int32) : Option ((Int32 ⊕ Nat) × GS) :=
  gpv E S (some h0) 2 (.int (0 : Int32)) (fun S_1 =>
  gnw S_1 18 (fun a_4 S_3 =>
  bX1_sentence_13 E N h0 S_3 t0 (some a_4)))
noncomputable def bX1_sentence_0 (E : gE) (N : Nat) (h0 : Nat) (S : GS) : Option ((Int32 ⊕ Nat) × GS) :=
  gbd (vInchBorders_take___I E N S (some h0)) (fun r_1 S_2 =>
  bX1_sentence_4 E N h0 S_2 r_1)
noncomputable def fX1_sentence (E : gE) (N : Nat) (S : GS) (h0 : Nat) : Option ((Int32 ⊕ Nat) × GS) := bX1_sentence_0 E N h0 S
/-! InchBorders$IsSo.holds(LInchBorders$Times;I)Z -/
abbrev rX28_holds : Room := { frames := 7, cells := 0, slots := 0, locals := 158 }
noncomputable def bX28_holds_45 (E : gE) (N : Nat) (h0 : Nat) (S : GS) (t0 : Int32) : Option (Int32 × GS) :=
  mzt t0 (some (t0, S))
noncomputable def bX28_holds_0 (E : gE) (N : Nat) (h0 : Nat) (S : GS) (x1 : Option Nat) (x2 : Int32) : Option (Int32 × GS) :=
  ggi S (some h0) 101 (fun v_1 =>
  if v_1 = 0 then
    gbd (vInchBorders_Times_canCross__I_I E N S x1 x2) (fun r_4 S_5 =>
    if r_4 = 0 then
      bX28_holds_45 E N h0 S_5 (1 : Int32)
    else
      bX28_holds_45 E N h0 S_5 (0 : Int32))
  else
    ggr S x1 34 (fun v_9 =>
    gai 1 S v_9 x2 (fun v_11 =>
    ggr S x1 28 (fun v_13 =>
    gbd (vInchBorders_Atlas_home__I_I E N S v_13 x2) (fun r_15 S_16 =>
    if v_11 = r_15 then
      bX28_holds_45 E N h0 S_16 (1 : Int32)
    else
      bX28_holds_45 E N h0 S_16 (0 : Int32))))))
noncomputable def fX28_holds (E : gE) (N : Nat) (S : GS) (h0 : Nat) (x1 : Option Nat) (x2 : Int32) : Option (Int32 × GS) := bX28_holds_0 E N h0 S x1 x2
/-! InchBorders$Than.holds(LInchBorders$Times;I)Z -/
abbrev rX30_holds : Room := { frames := 0, cells := 0, slots := 0, locals := 0 }
noncomputable def bX30_holds_115 (E : gE) (N : Nat) (h0 : Nat) (S : GS) (t0 : Int32) : Option (Int32 × GS) :=
  mzt t0 (some (t0, S))
noncomputable def bX30_holds_51 (E : gE) (N : Nat) (h0 : Nat) (S : GS) (t0 : Int32) : Option (Int32 × GS) :=
  ggi S (some h0) 105 (fun v_1 =>
  if v_1 = (60 : Int32) then
    ggi S (some h0) 106 (fun v_13 =>
    if v_13 ≤ t0 then
      bX30_holds_115 E N h0 S (0 : Int32)
    else
      bX30_holds_115 E N h0 S (1 : Int32))
  else
    ggi S (some h0) 105 (fun v_4 =>
    if v_4 = (61 : Int32) then
      ggi S (some h0) 106 (fun v_10 =>
      if t0 = v_10 then
        bX30_holds_115 E N h0 S (1 : Int32)
      else
        bX30_holds_115 E N h0 S (0 : Int32))
    else
      ggi S (some h0) 106 (fun v_7 =>
      if t0 ≤ v_7 then
        bX30_holds_115 E N h0 S (0 : Int32)
      else
        bX30_holds_115 E N h0 S (1 : Int32))))
noncomputable def bX30_holds_0 (E : gE) (N : Nat) (h0 : Nat) (S : GS) (x1 : Option Nat) (x2 : Int32) : Option (Int32 × GS) :=
  ggi S (some h0) 104 (fun v_1 =>
  if v_1 = 0 then
    ggr S x1 35 (fun v_18 =>
    gai 1 S v_18 x2 (fun v_20 =>
    bX30_holds_51 E N h0 S v_20))
  else
    ggi S (some h0) 104 (fun v_4 =>
    if v_4 = (1 : Int32) then
      ggr S x1 36 (fun v_14 =>
      gai 1 S v_14 x2 (fun v_16 =>
      bX30_holds_51 E N h0 S v_16))
    else
      ggi S (some h0) 104 (fun v_7 =>
      if v_7 = (2 : Int32) then
        ggr S x1 38 (fun v_10 =>
        gai 1 S v_10 x2 (fun v_12 =>
        bX30_holds_51 E N h0 S v_12))
      else
        bX30_holds_51 E N h0 S x2)))
noncomputable def fX30_holds (E : gE) (N : Nat) (S : GS) (h0 : Nat) (x1 : Option Nat) (x2 : Int32) : Option (Int32 × GS) := bX30_holds_0 E N h0 S x1 x2
def NVPInchBorders_Cond_holds__LInchBorders_Times_I_Z (ρ : GS → Option Nat → Option Nat → Int32 → Option (Int32 × GS)) : Prop := ∀ (S : GS) (r : Option Nat) (y0 : Option Nat) (y1 : Int32) (r0 : Int32) (Sf : GS), ρ S r y0 y1 = some (r0, Sf) → gEq S Sf
def UVPInchBorders_Cond_holds__LInchBorders_Times_I_Z (E : gE) (ρ : GS → Option Nat → Option Nat → Int32 → Option (Int32 × GS)) (fr lo : Nat) : Prop := ∀ {Γ : GG} {own : String} {p : Program} {l : Launch} {e : Env} {R : Room} {s : State} {m : MethodId} {args : Array Value} {below : List Frame} {meth : Method} {c : Code} {H : Heap} {locs : List Loc} {cells slots nL pc index : Nat} {cc : ByteArray} {ls : Array Slot} {rest As st0 : List Value} {ret : Option FieldType} {S0 S Sf : GS} {r : Option Nat} {y0 : Option Nat} {y1 : Int32} {r0 : Int32}, gFx Γ E own p m c cc nL s args meth ret → GH Γ E S0 s.heap S H locs → Cond.methodLink own index ⟨"InchBorders$Cond", "holds", "(LInchBorders$Times;I)Z"⟩ ∈ lw_all → ρ S r y0 y1 = some (r0, Sf) → As = [va_rf y0, .int y1] → ls.size = nL → st0 = As.reverse ++ va_rf r :: rest → (rest.map fun v => v.category).sum ≤ 8 → decode cc pc = .ok (.invokevirtual index, 3) → (cells + 0 ≤ R.cells ∧ slots + 0 ≤ R.slots) → (fr + 1 ≤ R.frames ∧ 8 + 11 + lo ≤ R.locals) → va_Run p l e R s m args below meth c H locs cells slots 0 0 (F0 m pc ls st0) rest ((gQi Γ E S r0 Sf) (va_rf r :: As).toArray) (gA E S)
/-! InchBorders$Two.holds(LInchBorders$Times;I)Z -/
abbrev rX31_holds (fr lo : Nat) : Room := { frames := fr + 1 + 7, cells := 0, slots := 0, locals := lo + 19 + 158 }
noncomputable def bX31_holds_68 (E : gE) (N : Nat) (ρ0 : GS → Option Nat → Option Nat → Int32 → Option (Int32 × GS)) (h0 : Nat) (S : GS) (t0 : Int32) : Option (Int32 × GS) :=
  mzt t0 (some (t0, S))
noncomputable def bX31_holds_35 (E : gE) (N : Nat) (ρ0 : GS → Option Nat → Option Nat → Int32 → Option (Int32 × GS)) (h0 : Nat) (S : GS) : Option (Int32 × GS) :=
  bX31_holds_68 E N ρ0 h0 S (0 : Int32)
noncomputable def bX31_holds_63 (E : gE) (N : Nat) (ρ0 : GS → Option Nat → Option Nat → Int32 → Option (Int32 × GS)) (h0 : Nat) (S : GS) : Option (Int32 × GS) :=
  bX31_holds_68 E N ρ0 h0 S (1 : Int32)
noncomputable def bX31_holds_0 (E : gE) (N : Nat) (ρ0 : GS → Option Nat → Option Nat → Int32 → Option (Int32 × GS)) (h0 : Nat) (S : GS) (x1 : Option Nat) (x2 : Int32) : Option (Int32 × GS) :=
  ggi S (some h0) 109 (fun v_1 =>
  if v_1 = 0 then
    ggr S (some h0) 107 (fun v_4 =>
    gbd (ρ0 S v_4 x1 x2) (fun r_6 S_7 =>
    if r_6 = 0 then
      ggr S_7 (some h0) 108 (fun v_11 =>
      gbd (ρ0 S_7 v_11 x1 x2) (fun r_13 S_14 =>
      if r_13 = 0 then
        bX31_holds_68 E N ρ0 h0 S_14 (0 : Int32)
      else
        bX31_holds_63 E N ρ0 h0 S_14))
    else
      bX31_holds_63 E N ρ0 h0 S_7))
  else
    ggr S (some h0) 107 (fun v_18 =>
    gbd (ρ0 S v_18 x1 x2) (fun r_20 S_21 =>
    if r_20 = 0 then
      bX31_holds_35 E N ρ0 h0 S_21
    else
      ggr S_21 (some h0) 108 (fun v_25 =>
      gbd (ρ0 S_21 v_25 x1 x2) (fun r_27 S_28 =>
      if r_27 = 0 then
        bX31_holds_35 E N ρ0 h0 S_28
      else
        bX31_holds_68 E N ρ0 h0 S_28 (1 : Int32))))))
noncomputable def fX31_holds (E : gE) (N : Nat) (ρ0 : GS → Option Nat → Option Nat → Int32 → Option (Int32 × GS)) (S : GS) (h0 : Nat) (x1 : Option Nat) (x2 : Int32) : Option (Int32 × GS) := bX31_holds_0 E N ρ0 h0 S x1 x2
/-! InchBorders$Not.holds(LInchBorders$Times;I)Z -/
abbrev rX27_holds (fr lo : Nat) : Room := { frames := fr + 1 + 7, cells := 0, slots := 0, locals := lo + 19 + 158 }
noncomputable def bX27_holds_17 (E : gE) (N : Nat) (ρ0 : GS → Option Nat → Option Nat → Int32 → Option (Int32 × GS)) (h0 : Nat) (S : GS) (t0 : Int32) : Option (Int32 × GS) :=
  mzt t0 (some (t0, S))
noncomputable def bX27_holds_0 (E : gE) (N : Nat) (ρ0 : GS → Option Nat → Option Nat → Int32 → Option (Int32 × GS)) (h0 : Nat) (S : GS) (x1 : Option Nat) (x2 : Int32) : Option (Int32 × GS) :=
  ggr S (some h0) 100 (fun v_1 =>
  gbd (ρ0 S v_1 x1 x2) (fun r_3 S_4 =>
  if r_3 = 0 then
    bX27_holds_17 E N ρ0 h0 S_4 (1 : Int32)
  else
    bX27_holds_17 E N ρ0 h0 S_4 (0 : Int32)))
noncomputable def fX27_holds (E : gE) (N : Nat) (ρ0 : GS → Option Nat → Option Nat → Int32 → Option (Int32 × GS)) (S : GS) (h0 : Nat) (x1 : Option Nat) (x2 : Int32) : Option (Int32 × GS) := bX27_holds_0 E N ρ0 h0 S x1 x2
noncomputable def vbInchBorders_Cond_holds__LInchBorders_Times_I_Z (E : gE) (N : Nat) (ρ0 : GS → Option Nat → Option Nat → Int32 → Option (Int32 × GS)) : GS → Option Nat → Option Nat → Int32 → Option (Int32 × GS) := fun S r y0 y1 => gvd S r (fun b ci =>
  if ci = 19 then fX27_holds E N ρ0 S b y0 y1 else
  if ci = 20 then fX28_holds E N S b y0 y1 else
  if ci = 21 then fX29_holds E N S b y0 y1 else
  if ci = 22 then fX30_holds E N S b y0 y1 else
  if ci = 23 then fX31_holds E N ρ0 S b y0 y1 else
  none)
noncomputable def zX31_holds (E : gE) (N : Nat) : Nat → (GS → Option Nat → Option Nat → Int32 → Option (Int32 × GS))
  | 0 => (fun _ _ _ _ => none)
  | d + 1 => (vbInchBorders_Cond_holds__LInchBorders_Times_I_Z E N (zX31_holds E N d))
noncomputable def vInchBorders_Cond_holds__LInchBorders_Times_I_Z (E : gE) (N : Nat) (S : GS) (r : Option Nat) (y0 : Option Nat) (y1 : Int32) : Option (Int32 × GS) := (zX31_holds E N 64) S r y0 y1
/-! InchBorders.said(I)I -/
abbrev rX1_said : Room := { frames := 513, cells := 0, slots := 0, locals := 11603 }
noncomputable def bX1_said_49 (E : gE) (N : Nat) (h0 : Nat) (K13 : GS → Int32 → Int32 → Int32 → Option (Int32 × GS)) (S : GS) (x1 : Int32) (x2 : Int32) (x3 : Int32) : Option (Int32 × GS) :=
  K13 S x1 x2 (x3 + (1 : Int32))
noncomputable def bX1_said_65 (E : gE) (N : Nat) (h0 : Nat) (S : GS) (t0 : Int32) : Option (Int32 × GS) :=
  some (t0, S)
noncomputable def bX1_said_13 (E : gE) (N : Nat) (h0 : Nat) (K13 : GS → Int32 → Int32 → Int32 → Option (Int32 × GS)) (S : GS) (x1 : Int32) (x2 : Int32) (x3 : Int32) : Option (Int32 × GS) :=
  gbd (vInchBorders_persons___I E N S (some h0)) (fun r_1 S_2 =>
  if r_1 ≤ x3 then
    if x1 = (-1 : Int32) then
      bX1_said_65 E N h0 S_2 x2
    else
      bX1_said_65 E N h0 S_2 (-1 : Int32)
  else
    ggr S_2 (some h0) 6 (fun v_7 =>
    ggr S_2 (some h0) 4 (fun v_9 =>
    gbd (vInchBorders_Cond_holds__LInchBorders_Times_I_Z E N S_2 v_7 v_9 x3) (fun r_11 S_12 =>
    if r_11 = 0 then
      bX1_said_49 E N h0 K13 S_12 x1 x2 x3
    else
      if x2 = x1 then
        some (x3, S_12)
      else
        bX1_said_49 E N h0 K13 S_12 x1 (x2 + (1 : Int32)) x3))))
noncomputable def bX1_said_13L (E : gE) (N : Nat) (h0 : Nat) : Nat → GS → Int32 → Int32 → Int32 → Option (Int32 × GS)
  | 0 => fun _ _ _ _ => none
  | n + 1 => bX1_said_13 E N h0 (bX1_said_13L E N h0 n)
noncomputable def bX1_said_0 (E : gE) (N : Nat) (h0 : Nat) (S : GS) (x1 : Int32) : Option (Int32 × GS) :=
  ggr S (some h0) 6 (fun v_1 =>
  if v_1 = none then
    some ((-1 : Int32), S)
  else
    bX1_said_13L E N h0 N S x1 (0 : Int32) (0 : Int32))
noncomputable def fX1_said (E : gE) (N : Nat) (S : GS) (h0 : Nat) (x1 : Int32) : Option (Int32 × GS) := bX1_said_0 E N h0 S x1
/-! InchBorders.image(I)Z -/
abbrev rX1_image : Room := { frames := 3, cells := 0, slots := 0, locals := 82 }
noncomputable def bX1_image_0 (E : gE) (N : Nat) (h0 : Nat) (S : GS) (x1 : Int32) : Option (Int32 × GS) :=
  gbd (fX1_isIn E N S x1 (0 : Int32) (1 : Int32)) (fun r_1 S_2 =>
  if r_1 = 0 then
    mzt (0 : Int32) (some ((0 : Int32), S_2))
  else
    ggr S_2 (some h0) 23 (fun v_6 =>
    gar S_2 v_6 x1 (fun v_8 =>
    ggr S_2 (some h0) 3 (fun v_10 =>
    gpv E S_2 v_8 40 (va_rf v_10) (fun S_12 =>
    ggr S_12 (some h0) 23 (fun v_14 =>
    gar S_12 v_14 x1 (fun v_16 =>
    ggr S_12 (some h0) 6 (fun v_18 =>
    gpv E S_12 v_16 41 (va_rf v_18) (fun S_20 =>
    ggr S_20 (some h0) 23 (fun v_22 =>
    gar S_20 v_22 x1 (fun v_24 =>
    ggr S_20 v_24 42 (fun v_26 =>
    ggr S_20 (some h0) 4 (fun v_28 =>
    gbd (vInchBorders_Times_as__LInchBorders_Times__LInchBorders_Times_ E N S_20 v_26 v_28) (fun r_30 S_31 =>
    mzt (1 : Int32) (some ((1 : Int32), S_31))))))))))))))))
noncomputable def fX1_image (E : gE) (N : Nat) (S : GS) (h0 : Nat) (x1 : Int32) : Option (Int32 × GS) := bX1_image_0 E N h0 S x1
/-! InchBorders.restore(I)Z -/
abbrev rX1_restore : Room := { frames := 3, cells := 0, slots := 0, locals := 82 }
noncomputable def bX1_restore_21 (E : gE) (N : Nat) (h0 : Nat) (S : GS) : Option (Int32 × GS) :=
  mzt (0 : Int32) (some ((0 : Int32), S))
noncomputable def bX1_restore_0 (E : gE) (N : Nat) (h0 : Nat) (S : GS) (x1 : Int32) : Option (Int32 × GS) :=
  gbd (fX1_isIn E N S x1 (0 : Int32) (1 : Int32)) (fun r_1 S_2 =>
  if r_1 = 0 then
    bX1_restore_21 E N h0 S_2
  else
    ggr S_2 (some h0) 23 (fun v_6 =>
    gar S_2 v_6 x1 (fun v_8 =>
    ggr S_2 v_8 40 (fun v_10 =>
    if v_10 = none then
      bX1_restore_21 E N h0 S_2
    else
      ggr S_2 (some h0) 23 (fun v_13 =>
      gar S_2 v_13 x1 (fun v_15 =>
      ggr S_2 v_15 40 (fun v_17 =>
      gpv E S_2 (some h0) 3 (va_rf v_17) (fun S_19 =>
      ggr S_19 (some h0) 23 (fun v_21 =>
      gar S_19 v_21 x1 (fun v_23 =>
      ggr S_19 v_23 41 (fun v_25 =>
      gpv E S_19 (some h0) 6 (va_rf v_25) (fun S_27 =>
      ggr S_27 (some h0) 4 (fun v_29 =>
      ggr S_27 (some h0) 23 (fun v_31 =>
      gar S_27 v_31 x1 (fun v_33 =>
      ggr S_27 v_33 42 (fun v_35 =>
      gbd (vInchBorders_Times_as__LInchBorders_Times__LInchBorders_Times_ E N S_27 v_29 v_35) (fun r_37 S_38 =>
      gpv E S_38 (some h0) 8 (.int (0 : Int32)) (fun S_41 =>
      mzt (1 : Int32) (some ((1 : Int32), S_41))))))))))))))))))))
noncomputable def fX1_restore (E : gE) (N : Nat) (S : GS) (h0 : Nat) (x1 : Int32) : Option (Int32 × GS) := bX1_restore_0 E N h0 S x1
/-! InchBorders.count(I)I -/
abbrev rX1_count : Room := { frames := 2, cells := 0, slots := 0, locals := 40 }
noncomputable def bX1_count_0 (E : gE) (N : Nat) (h0 : Nat) (S : GS) (x1 : Int32) : Option (Int32 × GS) :=
  if x1 = (0 : Int32) then
    gbd (vInchBorders_lands___I E N S (some h0)) (fun r_2 S_3 =>
    some (r_2, S_3))
  else
    if x1 = (1 : Int32) then
      ggr S (some h0) 3 (fun v_7 =>
      ggr S v_7 26 (fun v_9 =>
      gbd (vjava_util_ArrayList_size___I E N S v_9) (fun r_11 S_12 =>
      some (r_11, S_12))))
    else
      if x1 = (2 : Int32) then
        gbd (vInchBorders_persons___I E N S (some h0)) (fun r_16 S_17 =>
        some (r_16, S_17))
      else
        if x1 = (3 : Int32) then
          ggi S (some h0) 1 (fun v_21 =>
          some (v_21, S))
        else
          some ((-1 : Int32), S)
noncomputable def fX1_count (E : gE) (N : Nat) (S : GS) (h0 : Nat) (x1 : Int32) : Option (Int32 × GS) := bX1_count_0 E N h0 S x1
/-! InchBorders.need(Z)V -/
abbrev rX1_need : Room := { frames := 0, cells := 0, slots := 0, locals := 0 }
noncomputable def bX1_need_0 (E : gE) (N : Nat) (S : GS) (x0 : Int32) : Option (Int32 × GS) :=
  if x0 = 0 then
    none
  else
    some (0, S)
noncomputable def fX1_need (E : gE) (N : Nat) (S : GS) (x0 : Int32) : Option (Int32 × GS) := bX1_need_0 E N S x0
/-! InchBorders.person(II)I -/
abbrev rX1_person : Room := { frames := 7, cells := 0, slots := 0, locals := 158 }
noncomputable def bX1_person_23 (E : gE) (N : Nat) (h0 : Nat) (S : GS) (x1 : Int32) (x2 : Int32) (t0 : Int32) : Option (Int32 × GS) :=
  gbd (fX1_need E N S t0) (fun _ S_2 =>
  if x2 = (0 : Int32) then
    ggr S_2 (some h0) 3 (fun v_6 =>
    gbd (vInchBorders_Atlas_home__I_I E N S_2 v_6 x1) (fun r_8 S_9 =>
    some (r_8, S_9)))
  else
    if x2 = (1 : Int32) then
      ggr S_2 (some h0) 4 (fun v_13 =>
      ggr S_2 v_13 34 (fun v_15 =>
      gai 1 S_2 v_15 x1 (fun v_17 =>
      some (v_17, S_2))))
    else
      if x2 = (2 : Int32) then
        ggr S_2 (some h0) 4 (fun v_20 =>
        ggr S_2 v_20 35 (fun v_22 =>
        gai 1 S_2 v_22 x1 (fun v_24 =>
        some (v_24, S_2))))
      else
        if x2 = (3 : Int32) then
          ggr S_2 (some h0) 4 (fun v_27 =>
          ggr S_2 v_27 36 (fun v_29 =>
          gai 1 S_2 v_29 x1 (fun v_31 =>
          some (v_31, S_2))))
        else
          if x2 = (4 : Int32) then
            ggr S_2 (some h0) 4 (fun v_34 =>
            ggr S_2 v_34 37 (fun v_36 =>
            gai 1 S_2 v_36 x1 (fun v_38 =>
            some (v_38, S_2))))
          else
            if x2 = (5 : Int32) then
              ggr S_2 (some h0) 4 (fun v_41 =>
              ggr S_2 v_41 38 (fun v_43 =>
              gai 1 S_2 v_43 x1 (fun v_45 =>
              some (v_45, S_2))))
            else
              ggr S_2 (some h0) 4 (fun v_47 =>
              gbd (vInchBorders_Times_canCross__I_I E N S_2 v_47 x1) (fun r_49 S_50 =>
              some (r_49, S_50))))
noncomputable def bX1_person_22 (E : gE) (N : Nat) (h0 : Nat) (S : GS) (x1 : Int32) (x2 : Int32) : Option (Int32 × GS) :=
  bX1_person_23 E N h0 S x1 x2 (0 : Int32)
noncomputable def bX1_person_0 (E : gE) (N : Nat) (h0 : Nat) (S : GS) (x1 : Int32) (x2 : Int32) : Option (Int32 × GS) :=
  gbd (vInchBorders_isPerson__I_Z E N S (some h0) x1) (fun r_1 S_2 =>
  if r_1 = 0 then
    bX1_person_22 E N h0 S_2 x1 x2
  else
    gbd (fX1_isIn E N S_2 x2 (0 : Int32) (6 : Int32)) (fun r_6 S_7 =>
    if r_6 = 0 then
      bX1_person_22 E N h0 S_7 x1 x2
    else
      bX1_person_23 E N h0 S_7 x1 x2 (1 : Int32)))
noncomputable def fX1_person (E : gE) (N : Nat) (S : GS) (h0 : Nat) (x1 : Int32) (x2 : Int32) : Option (Int32 × GS) := bX1_person_0 E N h0 S x1 x2
/-! jdk/internal/util/Preconditions.checkFromIndexSize(IIILjava/util/function/BiFunction;)I -/
abbrev rJ5_checkFromIndexSize : Room := { frames := 0, cells := 0, slots := 0, locals := 0 }
noncomputable def bJ5_checkFromIndexSize_15 (E : gE) (N : Nat) (S : GS) (x0 : Int32) (x1 : Int32) (x2 : Int32) (x3 : Option Nat) : Option (Int32 × GS) :=
  none
noncomputable def bJ5_checkFromIndexSize_0 (E : gE) (N : Nat) (S : GS) (x0 : Int32) (x1 : Int32) (x2 : Int32) (x3 : Option Nat) : Option (Int32 × GS) :=
  if ((x2 ||| x0) ||| x1) < 0 then
    bJ5_checkFromIndexSize_15 E N S x0 x1 x2 x3
  else
    if x1 ≤ (x2 - x0) then
      some (x0, S)
    else
      bJ5_checkFromIndexSize_15 E N S x0 x1 x2 x3
noncomputable def fJ5_checkFromIndexSize (E : gE) (N : Nat) (S : GS) (x0 : Int32) (x1 : Int32) (x2 : Int32) (x3 : Option Nat) : Option (Int32 × GS) := bJ5_checkFromIndexSize_0 E N S x0 x1 x2 x3
/-! java/lang/String.checkBoundsOffCount(III)I -/
abbrev rJ8_checkBoundsOffCount : Room := { frames := 1, cells := 0, slots := 0, locals := 23 }
noncomputable def bJ8_checkBoundsOffCount_0 (E : gE) (N : Nat) (S : GS) (x0 : Int32) (x1 : Int32) (x2 : Int32) : Option (Int32 × GS) :=
  gbd (fJ5_checkFromIndexSize E N S x0 x1 x2 (E.2.2 3)) (fun r_1 S_2 =>
  some (r_1, S_2))
noncomputable def fJ8_checkBoundsOffCount (E : gE) (N : Nat) (S : GS) (x0 : Int32) (x1 : Int32) (x2 : Int32) : Option (Int32 × GS) := bJ8_checkBoundsOffCount_0 E N S x0 x1 x2
/-! jdk/internal/util/Preconditions.checkFromToIndex(IIILjava/util/function/BiFunction;)I -/
abbrev rJ5_checkFromToIndex : Room := { frames := 0, cells := 0, slots := 0, locals := 0 }
noncomputable def bJ5_checkFromToIndex_14 (E : gE) (N : Nat) (S : GS) (x0 : Int32) (x1 : Int32) (x2 : Int32) (x3 : Option Nat) : Option (Int32 × GS) :=
  none
noncomputable def bJ5_checkFromToIndex_0 (E : gE) (N : Nat) (S : GS) (x0 : Int32) (x1 : Int32) (x2 : Int32) (x3 : Option Nat) : Option (Int32 × GS) :=
  if x0 < 0 then
    bJ5_checkFromToIndex_14 E N S x0 x1 x2 x3
  else
    if x1 < x0 then
      bJ5_checkFromToIndex_14 E N S x0 x1 x2 x3
    else
      if x1 ≤ x2 then
        some (x0, S)
      else
        bJ5_checkFromToIndex_14 E N S x0 x1 x2 x3
noncomputable def fJ5_checkFromToIndex (E : gE) (N : Nat) (S : GS) (x0 : Int32) (x1 : Int32) (x2 : Int32) (x3 : Option Nat) : Option (Int32 × GS) := bJ5_checkFromToIndex_0 E N S x0 x1 x2 x3
/-! java/lang/String.checkBoundsBeginEnd(III)V -/
abbrev rJ8_checkBoundsBeginEnd : Room := { frames := 1, cells := 0, slots := 0, locals := 23 }
noncomputable def bJ8_checkBoundsBeginEnd_0 (E : gE) (N : Nat) (S : GS) (x0 : Int32) (x1 : Int32) (x2 : Int32) : Option (Int32 × GS) :=
  gbd (fJ5_checkFromToIndex E N S x0 x1 x2 (E.2.2 3)) (fun r_1 S_2 =>
  some (0, S_2))
noncomputable def fJ8_checkBoundsBeginEnd (E : gE) (N : Nat) (S : GS) (x0 : Int32) (x1 : Int32) (x2 : Int32) : Option (Int32 × GS) := bJ8_checkBoundsBeginEnd_0 E N S x0 x1 x2
