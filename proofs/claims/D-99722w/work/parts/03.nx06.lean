/-! InchBorders$MapReader -/
set_option maxRecDepth 100000
def RX7 : String := "InchBorders$MapReader"
def TX7 : u_T := fun k => match k with
  | 0 => ("InchBorders$Reader", "tape", "[B", true)
  | 1 => ("InchBorders$Reader", "size", "I", true)
  | 2 => ("InchBorders$Reader", "limit", "I", true)
  | 3 => ("InchBorders$Reader", "to", "I", false)
  | 4 => ("InchBorders$Reader", "kind", "I", false)
  | 5 => ("InchBorders$Reader", "from", "I", false)
  | 6 => ("InchBorders$Reader", "number", "I", false)
  | 7 => ("InchBorders$Reader", "sign", "I", false)
  | 8 => ("InchBorders$Reader", "word", "Ljava/lang/String;", false)
  | _ => ("InchBorders$MapReader", "a", "LInchBorders$Atlas;", true)
def tyX7 : Nat → FieldType := fun k => match k with
  | 0 => .array .byte
  | 1 => .int
  | 2 => .int
  | 3 => .int
  | 4 => .int
  | 5 => .int
  | 6 => .int
  | 7 => .int
  | 8 => .object "java/lang/String"
  | _ => .object "InchBorders$Atlas"
abbrev wsX70 : List Cond := u_ws RX7 TX7 10
theorem nmX7 : ∀ a, a < 10 → ∀ b, b < 10 → a ≠ b → (TX7 a).2.1 ≠ (TX7 b).2.1 := by decide +kernel
theorem tyX7_ok : ∀ k, k < 10 → parseFieldDescriptor (TX7 k).2.2.1 = some (tyX7 k) := by decide +kernel
abbrev cX7_init : ByteArray := prog_16_method_1_code
def yX7_init : MethodName := ⟨RX7, "<init>", "([BI)V"⟩
def dkwX7_init_0 : List UInt8 := [42, 43, 28, 17, 3, 132, 183, 0, 3, 42, 187, 0, 9, 89, 183, 0, 11, 181, 0, 14, 177]
abbrev dktX7_init_0 : List UInt8 := dkwX7_init_0 ++ []
theorem dksX7_init_0 : cX7_init.data.toList.drop 0 = dktX7_init_0 := by decide +kernel
theorem dX7_init_0 : decode cX7_init 0 = .ok (.aload_n 0, 1) := dk_42 (dk_at dksX7_init_0 0 rfl rfl)
theorem dX7_init_1 : decode cX7_init 1 = .ok (.aload_n 1, 1) := dk_43 (dk_at dksX7_init_0 1 rfl rfl)
theorem dX7_init_2 : decode cX7_init 2 = .ok (.iload_n 2, 1) := dk_28 (dk_at dksX7_init_0 2 rfl rfl)
theorem dX7_init_3 : decode cX7_init 3 = .ok (.sipush 900, 3) := dk_17 3 132 (dk_at dksX7_init_0 3 rfl rfl)
theorem dX7_init_6 : decode cX7_init 6 = .ok (.invokespecial 3, 3) := dk_183 0 3 (dk_at dksX7_init_0 6 rfl rfl)
theorem dX7_init_9 : decode cX7_init 9 = .ok (.aload_n 0, 1) := dk_42 (dk_at dksX7_init_0 9 rfl rfl)
theorem dX7_init_10 : decode cX7_init 10 = .ok (.new 9, 3) := dk_187 0 9 (dk_at dksX7_init_0 10 rfl rfl)
theorem dX7_init_13 : decode cX7_init 13 = .ok (.dup, 1) := dk_89 (dk_at dksX7_init_0 13 rfl rfl)
theorem dX7_init_14 : decode cX7_init 14 = .ok (.invokespecial 11, 3) := dk_183 0 11 (dk_at dksX7_init_0 14 rfl rfl)
theorem dX7_init_17 : decode cX7_init 17 = .ok (.putfield 14, 3) := dk_181 0 14 (dk_at dksX7_init_0 17 rfl rfl)
theorem dX7_init_20 : decode cX7_init 20 = .ok (.return_, 1) := dk_177 (dk_at dksX7_init_0 20 rfl rfl)
abbrev cX7_read : ByteArray := prog_16_method_2_code
def yX7_read : MethodName := ⟨RX7, "read", "()LInchBorders$Atlas;"⟩
def dkwX7_read_1 : List UInt8 := [180, 0, 33, 4, 96, 181, 0, 33, 167, 255, 228, 42, 180, 0, 14, 176]
abbrev dktX7_read_1 : List UInt8 := dkwX7_read_1 ++ []
def dkwX7_read_0 : List UInt8 := [42, 182, 0, 20, 42, 180, 0, 23, 153, 0, 27, 42, 182, 0, 27, 42, 182, 0, 30, 42, 180, 0, 14, 89]
abbrev dktX7_read_0 : List UInt8 := dkwX7_read_0 ++ dktX7_read_1
theorem dksX7_read_0 : cX7_read.data.toList.drop 0 = dktX7_read_0 := by decide +kernel
theorem dksX7_read_1 : cX7_read.data.toList.drop 24 = dktX7_read_1 := dk_seg dksX7_read_0 24 rfl rfl
theorem dX7_read_0 : decode cX7_read 0 = .ok (.aload_n 0, 1) := dk_42 (dk_at dksX7_read_0 0 rfl rfl)
theorem dX7_read_1 : decode cX7_read 1 = .ok (.invokevirtual 20, 3) := dk_182 0 20 (dk_at dksX7_read_0 1 rfl rfl)
theorem dX7_read_4 : decode cX7_read 4 = .ok (.aload_n 0, 1) := dk_42 (dk_at dksX7_read_0 4 rfl rfl)
theorem dX7_read_5 : decode cX7_read 5 = .ok (.getfield 23, 3) := dk_180 0 23 (dk_at dksX7_read_0 5 rfl rfl)
theorem dX7_read_8 : decode cX7_read 8 = .ok (.ifCond .eq 27, 3) := dk_153 0 27 (dk_at dksX7_read_0 8 rfl rfl)
theorem dX7_read_11 : decode cX7_read 11 = .ok (.aload_n 0, 1) := dk_42 (dk_at dksX7_read_0 11 rfl rfl)
theorem dX7_read_12 : decode cX7_read 12 = .ok (.invokevirtual 27, 3) := dk_182 0 27 (dk_at dksX7_read_0 12 rfl rfl)
theorem dX7_read_15 : decode cX7_read 15 = .ok (.aload_n 0, 1) := dk_42 (dk_at dksX7_read_0 15 rfl rfl)
theorem dX7_read_16 : decode cX7_read 16 = .ok (.invokevirtual 30, 3) := dk_182 0 30 (dk_at dksX7_read_0 16 rfl rfl)
theorem dX7_read_19 : decode cX7_read 19 = .ok (.aload_n 0, 1) := dk_42 (dk_at dksX7_read_0 19 rfl rfl)
theorem dX7_read_20 : decode cX7_read 20 = .ok (.getfield 14, 3) := dk_180 0 14 (dk_at dksX7_read_0 20 rfl rfl)
theorem dX7_read_23 : decode cX7_read 23 = .ok (.dup, 1) := dk_89 (dk_at dksX7_read_0 23 rfl rfl)
theorem dX7_read_24 : decode cX7_read 24 = .ok (.getfield 33, 3) := dk_180 0 33 (dk_at dksX7_read_1 0 rfl rfl)
theorem dX7_read_27 : decode cX7_read 27 = .ok (.iconst 1, 1) := dk_4 (dk_at dksX7_read_1 3 rfl rfl)
theorem dX7_read_28 : decode cX7_read 28 = .ok (.iadd, 1) := dk_96 (dk_at dksX7_read_1 4 rfl rfl)
theorem dX7_read_29 : decode cX7_read 29 = .ok (.putfield 33, 3) := dk_181 0 33 (dk_at dksX7_read_1 5 rfl rfl)
theorem dX7_read_32 : decode cX7_read 32 = .ok (.goto (-28), 3) := dk_167 255 228 (dk_at dksX7_read_1 8 rfl rfl)
theorem dX7_read_35 : decode cX7_read 35 = .ok (.aload_n 0, 1) := dk_42 (dk_at dksX7_read_1 11 rfl rfl)
theorem dX7_read_36 : decode cX7_read 36 = .ok (.getfield 14, 3) := dk_180 0 14 (dk_at dksX7_read_1 12 rfl rfl)
theorem dX7_read_39 : decode cX7_read 39 = .ok (.areturn, 1) := dk_176 (dk_at dksX7_read_1 15 rfl rfl)
abbrev cX7_line : ByteArray := prog_16_method_3_code
def yX7_line : MethodName := ⟨RX7, "line", "()V"⟩
def dkwX7_line_2 : List UInt8 := [167, 0, 23, 42, 18, 52, 182, 0, 38, 153, 0, 10, 42, 182, 0, 54, 167, 0, 7, 42, 182, 0, 56, 177]
abbrev dktX7_line_2 : List UInt8 := dkwX7_line_2 ++ []
def dkwX7_line_1 : List UInt8 := [153, 0, 10, 42, 182, 0, 46, 167, 0, 39, 42, 18, 48, 182, 0, 38, 153, 0, 10, 42, 182, 0, 50]
abbrev dktX7_line_1 : List UInt8 := dkwX7_line_1 ++ dktX7_line_2
def dkwX7_line_0 : List UInt8 := [42, 18, 36, 182, 0, 38, 153, 0, 10, 42, 182, 0, 42, 167, 0, 55, 42, 18, 44, 182, 0, 38]
abbrev dktX7_line_0 : List UInt8 := dkwX7_line_0 ++ dktX7_line_1
theorem dksX7_line_0 : cX7_line.data.toList.drop 0 = dktX7_line_0 := by decide +kernel
theorem dksX7_line_1 : cX7_line.data.toList.drop 22 = dktX7_line_1 := dk_seg dksX7_line_0 22 rfl rfl
theorem dksX7_line_2 : cX7_line.data.toList.drop 45 = dktX7_line_2 := dk_seg dksX7_line_1 23 rfl rfl
theorem dX7_line_0 : decode cX7_line 0 = .ok (.aload_n 0, 1) := dk_42 (dk_at dksX7_line_0 0 rfl rfl)
theorem dX7_line_1 : decode cX7_line 1 = .ok (.ldc 36, 2) := dk_18 36 (dk_at dksX7_line_0 1 rfl rfl)
theorem dX7_line_3 : decode cX7_line 3 = .ok (.invokevirtual 38, 3) := dk_182 0 38 (dk_at dksX7_line_0 3 rfl rfl)
theorem dX7_line_6 : decode cX7_line 6 = .ok (.ifCond .eq 10, 3) := dk_153 0 10 (dk_at dksX7_line_0 6 rfl rfl)
theorem dX7_line_9 : decode cX7_line 9 = .ok (.aload_n 0, 1) := dk_42 (dk_at dksX7_line_0 9 rfl rfl)
theorem dX7_line_10 : decode cX7_line 10 = .ok (.invokevirtual 42, 3) := dk_182 0 42 (dk_at dksX7_line_0 10 rfl rfl)
theorem dX7_line_13 : decode cX7_line 13 = .ok (.goto 55, 3) := dk_167 0 55 (dk_at dksX7_line_0 13 rfl rfl)
theorem dX7_line_16 : decode cX7_line 16 = .ok (.aload_n 0, 1) := dk_42 (dk_at dksX7_line_0 16 rfl rfl)
theorem dX7_line_17 : decode cX7_line 17 = .ok (.ldc 44, 2) := dk_18 44 (dk_at dksX7_line_0 17 rfl rfl)
theorem dX7_line_19 : decode cX7_line 19 = .ok (.invokevirtual 38, 3) := dk_182 0 38 (dk_at dksX7_line_0 19 rfl rfl)
theorem dX7_line_22 : decode cX7_line 22 = .ok (.ifCond .eq 10, 3) := dk_153 0 10 (dk_at dksX7_line_1 0 rfl rfl)
theorem dX7_line_25 : decode cX7_line 25 = .ok (.aload_n 0, 1) := dk_42 (dk_at dksX7_line_1 3 rfl rfl)
theorem dX7_line_26 : decode cX7_line 26 = .ok (.invokevirtual 46, 3) := dk_182 0 46 (dk_at dksX7_line_1 4 rfl rfl)
theorem dX7_line_29 : decode cX7_line 29 = .ok (.goto 39, 3) := dk_167 0 39 (dk_at dksX7_line_1 7 rfl rfl)
theorem dX7_line_32 : decode cX7_line 32 = .ok (.aload_n 0, 1) := dk_42 (dk_at dksX7_line_1 10 rfl rfl)
theorem dX7_line_33 : decode cX7_line 33 = .ok (.ldc 48, 2) := dk_18 48 (dk_at dksX7_line_1 11 rfl rfl)
theorem dX7_line_35 : decode cX7_line 35 = .ok (.invokevirtual 38, 3) := dk_182 0 38 (dk_at dksX7_line_1 13 rfl rfl)
theorem dX7_line_38 : decode cX7_line 38 = .ok (.ifCond .eq 10, 3) := dk_153 0 10 (dk_at dksX7_line_1 16 rfl rfl)
theorem dX7_line_41 : decode cX7_line 41 = .ok (.aload_n 0, 1) := dk_42 (dk_at dksX7_line_1 19 rfl rfl)
theorem dX7_line_42 : decode cX7_line 42 = .ok (.invokevirtual 50, 3) := dk_182 0 50 (dk_at dksX7_line_1 20 rfl rfl)
theorem dX7_line_45 : decode cX7_line 45 = .ok (.goto 23, 3) := dk_167 0 23 (dk_at dksX7_line_2 0 rfl rfl)
theorem dX7_line_48 : decode cX7_line 48 = .ok (.aload_n 0, 1) := dk_42 (dk_at dksX7_line_2 3 rfl rfl)
theorem dX7_line_49 : decode cX7_line 49 = .ok (.ldc 52, 2) := dk_18 52 (dk_at dksX7_line_2 4 rfl rfl)
theorem dX7_line_51 : decode cX7_line 51 = .ok (.invokevirtual 38, 3) := dk_182 0 38 (dk_at dksX7_line_2 6 rfl rfl)
theorem dX7_line_54 : decode cX7_line 54 = .ok (.ifCond .eq 10, 3) := dk_153 0 10 (dk_at dksX7_line_2 9 rfl rfl)
theorem dX7_line_57 : decode cX7_line 57 = .ok (.aload_n 0, 1) := dk_42 (dk_at dksX7_line_2 12 rfl rfl)
theorem dX7_line_58 : decode cX7_line 58 = .ok (.invokevirtual 54, 3) := dk_182 0 54 (dk_at dksX7_line_2 13 rfl rfl)
theorem dX7_line_61 : decode cX7_line 61 = .ok (.goto 7, 3) := dk_167 0 7 (dk_at dksX7_line_2 16 rfl rfl)
theorem dX7_line_64 : decode cX7_line 64 = .ok (.aload_n 0, 1) := dk_42 (dk_at dksX7_line_2 19 rfl rfl)
theorem dX7_line_65 : decode cX7_line 65 = .ok (.invokevirtual 56, 3) := dk_182 0 56 (dk_at dksX7_line_2 20 rfl rfl)
theorem dX7_line_68 : decode cX7_line 68 = .ok (.return_, 1) := dk_177 (dk_at dksX7_line_2 23 rfl rfl)
abbrev cX7_land : ByteArray := prog_16_method_6_code
def yX7_land : MethodName := ⟨RX7, "land", "()V"⟩
def dkwX7_land_2 : List UInt8 := [182, 0, 96, 183, 0, 102, 182, 0, 105, 87, 177]
abbrev dktX7_land_2 : List UInt8 := dkwX7_land_2 ++ []
def dkwX7_land_1 : List UInt8 := [16, 20, 182, 0, 96, 61, 42, 180, 0, 14, 180, 0, 67, 187, 0, 100, 89, 43, 28, 42, 3, 16, 20]
abbrev dktX7_land_1 : List UInt8 := dkwX7_land_1 ++ dktX7_land_2
def dkwX7_land_0 : List UInt8 := [42, 42, 180, 0, 14, 180, 0, 67, 182, 0, 82, 16, 7, 182, 0, 88, 42, 182, 0, 92, 76, 42, 3]
abbrev dktX7_land_0 : List UInt8 := dkwX7_land_0 ++ dktX7_land_1
theorem dksX7_land_0 : cX7_land.data.toList.drop 0 = dktX7_land_0 := by decide +kernel
theorem dksX7_land_1 : cX7_land.data.toList.drop 23 = dktX7_land_1 := dk_seg dksX7_land_0 23 rfl rfl
theorem dksX7_land_2 : cX7_land.data.toList.drop 46 = dktX7_land_2 := dk_seg dksX7_land_1 23 rfl rfl
theorem dX7_land_0 : decode cX7_land 0 = .ok (.aload_n 0, 1) := dk_42 (dk_at dksX7_land_0 0 rfl rfl)
theorem dX7_land_1 : decode cX7_land 1 = .ok (.aload_n 0, 1) := dk_42 (dk_at dksX7_land_0 1 rfl rfl)
theorem dX7_land_2 : decode cX7_land 2 = .ok (.getfield 14, 3) := dk_180 0 14 (dk_at dksX7_land_0 2 rfl rfl)
theorem dX7_land_5 : decode cX7_land 5 = .ok (.getfield 67, 3) := dk_180 0 67 (dk_at dksX7_land_0 5 rfl rfl)
theorem dX7_land_8 : decode cX7_land 8 = .ok (.invokevirtual 82, 3) := dk_182 0 82 (dk_at dksX7_land_0 8 rfl rfl)
theorem dX7_land_11 : decode cX7_land 11 = .ok (.bipush 7, 2) := dk_16 7 (dk_at dksX7_land_0 11 rfl rfl)
theorem dX7_land_13 : decode cX7_land 13 = .ok (.invokevirtual 88, 3) := dk_182 0 88 (dk_at dksX7_land_0 13 rfl rfl)
theorem dX7_land_16 : decode cX7_land 16 = .ok (.aload_n 0, 1) := dk_42 (dk_at dksX7_land_0 16 rfl rfl)
theorem dX7_land_17 : decode cX7_land 17 = .ok (.invokevirtual 92, 3) := dk_182 0 92 (dk_at dksX7_land_0 17 rfl rfl)
theorem dX7_land_20 : decode cX7_land 20 = .ok (.astore_n 1, 1) := dk_76 (dk_at dksX7_land_0 20 rfl rfl)
theorem dX7_land_21 : decode cX7_land 21 = .ok (.aload_n 0, 1) := dk_42 (dk_at dksX7_land_0 21 rfl rfl)
theorem dX7_land_22 : decode cX7_land 22 = .ok (.iconst 0, 1) := dk_3 (dk_at dksX7_land_0 22 rfl rfl)
theorem dX7_land_23 : decode cX7_land 23 = .ok (.bipush 20, 2) := dk_16 20 (dk_at dksX7_land_1 0 rfl rfl)
theorem dX7_land_25 : decode cX7_land 25 = .ok (.invokevirtual 96, 3) := dk_182 0 96 (dk_at dksX7_land_1 2 rfl rfl)
theorem dX7_land_28 : decode cX7_land 28 = .ok (.istore_n 2, 1) := dk_61 (dk_at dksX7_land_1 5 rfl rfl)
theorem dX7_land_29 : decode cX7_land 29 = .ok (.aload_n 0, 1) := dk_42 (dk_at dksX7_land_1 6 rfl rfl)
theorem dX7_land_30 : decode cX7_land 30 = .ok (.getfield 14, 3) := dk_180 0 14 (dk_at dksX7_land_1 7 rfl rfl)
theorem dX7_land_33 : decode cX7_land 33 = .ok (.getfield 67, 3) := dk_180 0 67 (dk_at dksX7_land_1 10 rfl rfl)
theorem dX7_land_36 : decode cX7_land 36 = .ok (.new 100, 3) := dk_187 0 100 (dk_at dksX7_land_1 13 rfl rfl)
theorem dX7_land_39 : decode cX7_land 39 = .ok (.dup, 1) := dk_89 (dk_at dksX7_land_1 16 rfl rfl)
theorem dX7_land_40 : decode cX7_land 40 = .ok (.aload_n 1, 1) := dk_43 (dk_at dksX7_land_1 17 rfl rfl)
theorem dX7_land_41 : decode cX7_land 41 = .ok (.iload_n 2, 1) := dk_28 (dk_at dksX7_land_1 18 rfl rfl)
theorem dX7_land_42 : decode cX7_land 42 = .ok (.aload_n 0, 1) := dk_42 (dk_at dksX7_land_1 19 rfl rfl)
theorem dX7_land_43 : decode cX7_land 43 = .ok (.iconst 0, 1) := dk_3 (dk_at dksX7_land_1 20 rfl rfl)
theorem dX7_land_44 : decode cX7_land 44 = .ok (.bipush 20, 2) := dk_16 20 (dk_at dksX7_land_1 21 rfl rfl)
theorem dX7_land_46 : decode cX7_land 46 = .ok (.invokevirtual 96, 3) := dk_182 0 96 (dk_at dksX7_land_2 0 rfl rfl)
theorem dX7_land_49 : decode cX7_land 49 = .ok (.invokespecial 102, 3) := dk_183 0 102 (dk_at dksX7_land_2 3 rfl rfl)
theorem dX7_land_52 : decode cX7_land 52 = .ok (.invokevirtual 105, 3) := dk_182 0 105 (dk_at dksX7_land_2 6 rfl rfl)
theorem dX7_land_55 : decode cX7_land 55 = .ok (.pop, 1) := dk_87 (dk_at dksX7_land_2 9 rfl rfl)
theorem dX7_land_56 : decode cX7_land 56 = .ok (.return_, 1) := dk_177 (dk_at dksX7_land_2 10 rfl rfl)
abbrev cX7_first : ByteArray := prog_16_method_4_code
def yX7_first : MethodName := ⟨RX7, "first", "(II)V"⟩
def dkwX7_first_0 : List UInt8 := [42, 27, 28, 162, 0, 7, 4, 167, 0, 4, 3, 7, 182, 0, 59, 42, 182, 0, 20, 177]
abbrev dktX7_first_0 : List UInt8 := dkwX7_first_0 ++ []
theorem dksX7_first_0 : cX7_first.data.toList.drop 0 = dktX7_first_0 := by decide +kernel
theorem dX7_first_0 : decode cX7_first 0 = .ok (.aload_n 0, 1) := dk_42 (dk_at dksX7_first_0 0 rfl rfl)
theorem dX7_first_1 : decode cX7_first 1 = .ok (.iload_n 1, 1) := dk_27 (dk_at dksX7_first_0 1 rfl rfl)
theorem dX7_first_2 : decode cX7_first 2 = .ok (.iload_n 2, 1) := dk_28 (dk_at dksX7_first_0 2 rfl rfl)
theorem dX7_first_3 : decode cX7_first 3 = .ok (.if_icmp .ge 7, 3) := dk_162 0 7 (dk_at dksX7_first_0 3 rfl rfl)
theorem dX7_first_6 : decode cX7_first 6 = .ok (.iconst 1, 1) := dk_4 (dk_at dksX7_first_0 6 rfl rfl)
theorem dX7_first_7 : decode cX7_first 7 = .ok (.goto 4, 3) := dk_167 0 4 (dk_at dksX7_first_0 7 rfl rfl)
theorem dX7_first_10 : decode cX7_first 10 = .ok (.iconst 0, 1) := dk_3 (dk_at dksX7_first_0 10 rfl rfl)
theorem dX7_first_11 : decode cX7_first 11 = .ok (.iconst 4, 1) := dk_7 (dk_at dksX7_first_0 11 rfl rfl)
theorem dX7_first_12 : decode cX7_first 12 = .ok (.invokevirtual 59, 3) := dk_182 0 59 (dk_at dksX7_first_0 12 rfl rfl)
theorem dX7_first_15 : decode cX7_first 15 = .ok (.aload_n 0, 1) := dk_42 (dk_at dksX7_first_0 15 rfl rfl)
theorem dX7_first_16 : decode cX7_first 16 = .ok (.invokevirtual 20, 3) := dk_182 0 20 (dk_at dksX7_first_0 16 rfl rfl)
theorem dX7_first_19 : decode cX7_first 19 = .ok (.return_, 1) := dk_177 (dk_at dksX7_first_0 19 rfl rfl)
abbrev cX7_fresh : ByteArray := prog_16_method_5_code
def yX7_fresh : MethodName := ⟨RX7, "fresh", "()Ljava/lang/String;"⟩
def dkwX7_fresh_2 : List UInt8 := [182, 0, 59, 42, 180, 0, 78, 76, 42, 182, 0, 20, 43, 176]
abbrev dktX7_fresh_2 : List UInt8 := dkwX7_fresh_2 ++ []
def dkwX7_fresh_1 : List UInt8 := [160, 0, 22, 42, 42, 180, 0, 14, 180, 0, 75, 182, 0, 71, 2, 160, 0, 7, 4, 167, 0, 4, 3, 6]
abbrev dktX7_fresh_1 : List UInt8 := dkwX7_fresh_1 ++ dktX7_fresh_2
def dkwX7_fresh_0 : List UInt8 := [42, 42, 182, 0, 63, 4, 182, 0, 59, 42, 42, 42, 180, 0, 14, 180, 0, 67, 182, 0, 71, 2]
abbrev dktX7_fresh_0 : List UInt8 := dkwX7_fresh_0 ++ dktX7_fresh_1
theorem dksX7_fresh_0 : cX7_fresh.data.toList.drop 0 = dktX7_fresh_0 := by decide +kernel
theorem dksX7_fresh_1 : cX7_fresh.data.toList.drop 22 = dktX7_fresh_1 := dk_seg dksX7_fresh_0 22 rfl rfl
theorem dksX7_fresh_2 : cX7_fresh.data.toList.drop 46 = dktX7_fresh_2 := dk_seg dksX7_fresh_1 24 rfl rfl
theorem dX7_fresh_0 : decode cX7_fresh 0 = .ok (.aload_n 0, 1) := dk_42 (dk_at dksX7_fresh_0 0 rfl rfl)
theorem dX7_fresh_1 : decode cX7_fresh 1 = .ok (.aload_n 0, 1) := dk_42 (dk_at dksX7_fresh_0 1 rfl rfl)
theorem dX7_fresh_2 : decode cX7_fresh 2 = .ok (.invokevirtual 63, 3) := dk_182 0 63 (dk_at dksX7_fresh_0 2 rfl rfl)
theorem dX7_fresh_5 : decode cX7_fresh 5 = .ok (.iconst 1, 1) := dk_4 (dk_at dksX7_fresh_0 5 rfl rfl)
theorem dX7_fresh_6 : decode cX7_fresh 6 = .ok (.invokevirtual 59, 3) := dk_182 0 59 (dk_at dksX7_fresh_0 6 rfl rfl)
theorem dX7_fresh_9 : decode cX7_fresh 9 = .ok (.aload_n 0, 1) := dk_42 (dk_at dksX7_fresh_0 9 rfl rfl)
theorem dX7_fresh_10 : decode cX7_fresh 10 = .ok (.aload_n 0, 1) := dk_42 (dk_at dksX7_fresh_0 10 rfl rfl)
theorem dX7_fresh_11 : decode cX7_fresh 11 = .ok (.aload_n 0, 1) := dk_42 (dk_at dksX7_fresh_0 11 rfl rfl)
theorem dX7_fresh_12 : decode cX7_fresh 12 = .ok (.getfield 14, 3) := dk_180 0 14 (dk_at dksX7_fresh_0 12 rfl rfl)
theorem dX7_fresh_15 : decode cX7_fresh 15 = .ok (.getfield 67, 3) := dk_180 0 67 (dk_at dksX7_fresh_0 15 rfl rfl)
theorem dX7_fresh_18 : decode cX7_fresh 18 = .ok (.invokevirtual 71, 3) := dk_182 0 71 (dk_at dksX7_fresh_0 18 rfl rfl)
theorem dX7_fresh_21 : decode cX7_fresh 21 = .ok (.iconst (-1), 1) := dk_2 (dk_at dksX7_fresh_0 21 rfl rfl)
theorem dX7_fresh_22 : decode cX7_fresh 22 = .ok (.if_icmp .ne 22, 3) := dk_160 0 22 (dk_at dksX7_fresh_1 0 rfl rfl)
theorem dX7_fresh_25 : decode cX7_fresh 25 = .ok (.aload_n 0, 1) := dk_42 (dk_at dksX7_fresh_1 3 rfl rfl)
theorem dX7_fresh_26 : decode cX7_fresh 26 = .ok (.aload_n 0, 1) := dk_42 (dk_at dksX7_fresh_1 4 rfl rfl)
theorem dX7_fresh_27 : decode cX7_fresh 27 = .ok (.getfield 14, 3) := dk_180 0 14 (dk_at dksX7_fresh_1 5 rfl rfl)
theorem dX7_fresh_30 : decode cX7_fresh 30 = .ok (.getfield 75, 3) := dk_180 0 75 (dk_at dksX7_fresh_1 8 rfl rfl)
theorem dX7_fresh_33 : decode cX7_fresh 33 = .ok (.invokevirtual 71, 3) := dk_182 0 71 (dk_at dksX7_fresh_1 11 rfl rfl)
theorem dX7_fresh_36 : decode cX7_fresh 36 = .ok (.iconst (-1), 1) := dk_2 (dk_at dksX7_fresh_1 14 rfl rfl)
theorem dX7_fresh_37 : decode cX7_fresh 37 = .ok (.if_icmp .ne 7, 3) := dk_160 0 7 (dk_at dksX7_fresh_1 15 rfl rfl)
theorem dX7_fresh_40 : decode cX7_fresh 40 = .ok (.iconst 1, 1) := dk_4 (dk_at dksX7_fresh_1 18 rfl rfl)
theorem dX7_fresh_41 : decode cX7_fresh 41 = .ok (.goto 4, 3) := dk_167 0 4 (dk_at dksX7_fresh_1 19 rfl rfl)
theorem dX7_fresh_44 : decode cX7_fresh 44 = .ok (.iconst 0, 1) := dk_3 (dk_at dksX7_fresh_1 22 rfl rfl)
theorem dX7_fresh_45 : decode cX7_fresh 45 = .ok (.iconst 3, 1) := dk_6 (dk_at dksX7_fresh_1 23 rfl rfl)
theorem dX7_fresh_46 : decode cX7_fresh 46 = .ok (.invokevirtual 59, 3) := dk_182 0 59 (dk_at dksX7_fresh_2 0 rfl rfl)
theorem dX7_fresh_49 : decode cX7_fresh 49 = .ok (.aload_n 0, 1) := dk_42 (dk_at dksX7_fresh_2 3 rfl rfl)
theorem dX7_fresh_50 : decode cX7_fresh 50 = .ok (.getfield 78, 3) := dk_180 0 78 (dk_at dksX7_fresh_2 4 rfl rfl)
theorem dX7_fresh_53 : decode cX7_fresh 53 = .ok (.astore_n 1, 1) := dk_76 (dk_at dksX7_fresh_2 7 rfl rfl)
theorem dX7_fresh_54 : decode cX7_fresh 54 = .ok (.aload_n 0, 1) := dk_42 (dk_at dksX7_fresh_2 8 rfl rfl)
theorem dX7_fresh_55 : decode cX7_fresh 55 = .ok (.invokevirtual 20, 3) := dk_182 0 20 (dk_at dksX7_fresh_2 9 rfl rfl)
theorem dX7_fresh_58 : decode cX7_fresh 58 = .ok (.aload_n 1, 1) := dk_43 (dk_at dksX7_fresh_2 12 rfl rfl)
theorem dX7_fresh_59 : decode cX7_fresh 59 = .ok (.areturn, 1) := dk_176 (dk_at dksX7_fresh_2 13 rfl rfl)
abbrev cX7_store : ByteArray := prog_16_method_7_code
def yX7_store : MethodName := ⟨RX7, "store", "()V"⟩
def dkwX7_store_2 : List UInt8 := [43, 4, 181, 0, 116, 42, 182, 0, 20, 43, 42, 3, 16, 99, 182, 0, 96, 181, 0, 120, 177]
abbrev dktX7_store_2 : List UInt8 := dkwX7_store_2 ++ []
def dkwX7_store_1 : List UInt8 := [182, 0, 112, 192, 0, 100, 76, 42, 43, 180, 0, 116, 154, 0, 7, 4, 167, 0, 4, 3, 6, 182, 0, 59]
abbrev dktX7_store_1 : List UInt8 := dkwX7_store_1 ++ dktX7_store_2
def dkwX7_store_0 : List UInt8 := [42, 182, 0, 20, 42, 180, 0, 14, 180, 0, 67, 42, 42, 180, 0, 14, 180, 0, 67, 182, 0, 109]
abbrev dktX7_store_0 : List UInt8 := dkwX7_store_0 ++ dktX7_store_1
theorem dksX7_store_0 : cX7_store.data.toList.drop 0 = dktX7_store_0 := by decide +kernel
theorem dksX7_store_1 : cX7_store.data.toList.drop 22 = dktX7_store_1 := dk_seg dksX7_store_0 22 rfl rfl
theorem dksX7_store_2 : cX7_store.data.toList.drop 46 = dktX7_store_2 := dk_seg dksX7_store_1 24 rfl rfl
theorem dX7_store_0 : decode cX7_store 0 = .ok (.aload_n 0, 1) := dk_42 (dk_at dksX7_store_0 0 rfl rfl)
theorem dX7_store_1 : decode cX7_store 1 = .ok (.invokevirtual 20, 3) := dk_182 0 20 (dk_at dksX7_store_0 1 rfl rfl)
theorem dX7_store_4 : decode cX7_store 4 = .ok (.aload_n 0, 1) := dk_42 (dk_at dksX7_store_0 4 rfl rfl)
theorem dX7_store_5 : decode cX7_store 5 = .ok (.getfield 14, 3) := dk_180 0 14 (dk_at dksX7_store_0 5 rfl rfl)
theorem dX7_store_8 : decode cX7_store 8 = .ok (.getfield 67, 3) := dk_180 0 67 (dk_at dksX7_store_0 8 rfl rfl)
theorem dX7_store_11 : decode cX7_store 11 = .ok (.aload_n 0, 1) := dk_42 (dk_at dksX7_store_0 11 rfl rfl)
theorem dX7_store_12 : decode cX7_store 12 = .ok (.aload_n 0, 1) := dk_42 (dk_at dksX7_store_0 12 rfl rfl)
theorem dX7_store_13 : decode cX7_store 13 = .ok (.getfield 14, 3) := dk_180 0 14 (dk_at dksX7_store_0 13 rfl rfl)
theorem dX7_store_16 : decode cX7_store 16 = .ok (.getfield 67, 3) := dk_180 0 67 (dk_at dksX7_store_0 16 rfl rfl)
theorem dX7_store_19 : decode cX7_store 19 = .ok (.invokevirtual 109, 3) := dk_182 0 109 (dk_at dksX7_store_0 19 rfl rfl)
theorem dX7_store_22 : decode cX7_store 22 = .ok (.invokevirtual 112, 3) := dk_182 0 112 (dk_at dksX7_store_1 0 rfl rfl)
theorem dX7_store_25 : decode cX7_store 25 = .ok (.checkcast 100, 3) := dk_192 0 100 (dk_at dksX7_store_1 3 rfl rfl)
theorem dX7_store_28 : decode cX7_store 28 = .ok (.astore_n 1, 1) := dk_76 (dk_at dksX7_store_1 6 rfl rfl)
theorem dX7_store_29 : decode cX7_store 29 = .ok (.aload_n 0, 1) := dk_42 (dk_at dksX7_store_1 7 rfl rfl)
theorem dX7_store_30 : decode cX7_store 30 = .ok (.aload_n 1, 1) := dk_43 (dk_at dksX7_store_1 8 rfl rfl)
theorem dX7_store_31 : decode cX7_store 31 = .ok (.getfield 116, 3) := dk_180 0 116 (dk_at dksX7_store_1 9 rfl rfl)
theorem dX7_store_34 : decode cX7_store 34 = .ok (.ifCond .ne 7, 3) := dk_154 0 7 (dk_at dksX7_store_1 12 rfl rfl)
theorem dX7_store_37 : decode cX7_store 37 = .ok (.iconst 1, 1) := dk_4 (dk_at dksX7_store_1 15 rfl rfl)
theorem dX7_store_38 : decode cX7_store 38 = .ok (.goto 4, 3) := dk_167 0 4 (dk_at dksX7_store_1 16 rfl rfl)
theorem dX7_store_41 : decode cX7_store 41 = .ok (.iconst 0, 1) := dk_3 (dk_at dksX7_store_1 19 rfl rfl)
theorem dX7_store_42 : decode cX7_store 42 = .ok (.iconst 3, 1) := dk_6 (dk_at dksX7_store_1 20 rfl rfl)
theorem dX7_store_43 : decode cX7_store 43 = .ok (.invokevirtual 59, 3) := dk_182 0 59 (dk_at dksX7_store_1 21 rfl rfl)
theorem dX7_store_46 : decode cX7_store 46 = .ok (.aload_n 1, 1) := dk_43 (dk_at dksX7_store_2 0 rfl rfl)
theorem dX7_store_47 : decode cX7_store 47 = .ok (.iconst 1, 1) := dk_4 (dk_at dksX7_store_2 1 rfl rfl)
theorem dX7_store_48 : decode cX7_store 48 = .ok (.putfield 116, 3) := dk_181 0 116 (dk_at dksX7_store_2 2 rfl rfl)
theorem dX7_store_51 : decode cX7_store 51 = .ok (.aload_n 0, 1) := dk_42 (dk_at dksX7_store_2 5 rfl rfl)
theorem dX7_store_52 : decode cX7_store 52 = .ok (.invokevirtual 20, 3) := dk_182 0 20 (dk_at dksX7_store_2 6 rfl rfl)
theorem dX7_store_55 : decode cX7_store 55 = .ok (.aload_n 1, 1) := dk_43 (dk_at dksX7_store_2 9 rfl rfl)
theorem dX7_store_56 : decode cX7_store 56 = .ok (.aload_n 0, 1) := dk_42 (dk_at dksX7_store_2 10 rfl rfl)
theorem dX7_store_57 : decode cX7_store 57 = .ok (.iconst 0, 1) := dk_3 (dk_at dksX7_store_2 11 rfl rfl)
theorem dX7_store_58 : decode cX7_store 58 = .ok (.bipush 99, 2) := dk_16 99 (dk_at dksX7_store_2 12 rfl rfl)
theorem dX7_store_60 : decode cX7_store 60 = .ok (.invokevirtual 96, 3) := dk_182 0 96 (dk_at dksX7_store_2 14 rfl rfl)
theorem dX7_store_63 : decode cX7_store 63 = .ok (.putfield 120, 3) := dk_181 0 120 (dk_at dksX7_store_2 17 rfl rfl)
theorem dX7_store_66 : decode cX7_store 66 = .ok (.return_, 1) := dk_177 (dk_at dksX7_store_2 20 rfl rfl)
abbrev cX7_road : ByteArray := prog_16_method_8_code
def yX7_road : MethodName := ⟨RX7, "road", "()V"⟩
def dkwX7_road_4 : List UInt8 := [28, 29, 42, 29, 17, 0, 240, 182, 0, 96, 183, 0, 132, 182, 0, 105, 87, 177]
abbrev dktX7_road_4 : List UInt8 := dkwX7_road_4 ++ []
def dkwX7_road_3 : List UInt8 := [182, 0, 20, 42, 3, 17, 0, 240, 182, 0, 96, 62, 42, 180, 0, 14, 180, 0, 122, 187, 0, 130, 89, 27]
abbrev dktX7_road_3 : List UInt8 := dkwX7_road_3 ++ dktX7_road_4
def dkwX7_road_2 : List UInt8 := [180, 0, 14, 27, 28, 182, 0, 128, 2, 160, 0, 7, 4, 167, 0, 4, 3, 6, 182, 0, 59, 42]
abbrev dktX7_road_2 : List UInt8 := dkwX7_road_2 ++ dktX7_road_3
def dkwX7_road_1 : List UInt8 := [182, 0, 125, 60, 42, 42, 180, 0, 14, 180, 0, 67, 182, 0, 109, 61, 42, 27, 28, 159, 0, 20, 42]
abbrev dktX7_road_1 : List UInt8 := dkwX7_road_1 ++ dktX7_road_2
def dkwX7_road_0 : List UInt8 := [42, 42, 180, 0, 14, 180, 0, 122, 182, 0, 82, 16, 12, 182, 0, 88, 42, 42, 180, 0, 14, 180, 0, 67]
abbrev dktX7_road_0 : List UInt8 := dkwX7_road_0 ++ dktX7_road_1
theorem dksX7_road_0 : cX7_road.data.toList.drop 0 = dktX7_road_0 := by decide +kernel
theorem dksX7_road_1 : cX7_road.data.toList.drop 24 = dktX7_road_1 := dk_seg dksX7_road_0 24 rfl rfl
theorem dksX7_road_2 : cX7_road.data.toList.drop 47 = dktX7_road_2 := dk_seg dksX7_road_1 23 rfl rfl
theorem dksX7_road_3 : cX7_road.data.toList.drop 69 = dktX7_road_3 := dk_seg dksX7_road_2 22 rfl rfl
theorem dksX7_road_4 : cX7_road.data.toList.drop 93 = dktX7_road_4 := dk_seg dksX7_road_3 24 rfl rfl
theorem dX7_road_0 : decode cX7_road 0 = .ok (.aload_n 0, 1) := dk_42 (dk_at dksX7_road_0 0 rfl rfl)
theorem dX7_road_1 : decode cX7_road 1 = .ok (.aload_n 0, 1) := dk_42 (dk_at dksX7_road_0 1 rfl rfl)
theorem dX7_road_2 : decode cX7_road 2 = .ok (.getfield 14, 3) := dk_180 0 14 (dk_at dksX7_road_0 2 rfl rfl)
theorem dX7_road_5 : decode cX7_road 5 = .ok (.getfield 122, 3) := dk_180 0 122 (dk_at dksX7_road_0 5 rfl rfl)
theorem dX7_road_8 : decode cX7_road 8 = .ok (.invokevirtual 82, 3) := dk_182 0 82 (dk_at dksX7_road_0 8 rfl rfl)
theorem dX7_road_11 : decode cX7_road 11 = .ok (.bipush 12, 2) := dk_16 12 (dk_at dksX7_road_0 11 rfl rfl)
theorem dX7_road_13 : decode cX7_road 13 = .ok (.invokevirtual 88, 3) := dk_182 0 88 (dk_at dksX7_road_0 13 rfl rfl)
theorem dX7_road_16 : decode cX7_road 16 = .ok (.aload_n 0, 1) := dk_42 (dk_at dksX7_road_0 16 rfl rfl)
theorem dX7_road_17 : decode cX7_road 17 = .ok (.aload_n 0, 1) := dk_42 (dk_at dksX7_road_0 17 rfl rfl)
theorem dX7_road_18 : decode cX7_road 18 = .ok (.getfield 14, 3) := dk_180 0 14 (dk_at dksX7_road_0 18 rfl rfl)
theorem dX7_road_21 : decode cX7_road 21 = .ok (.getfield 67, 3) := dk_180 0 67 (dk_at dksX7_road_0 21 rfl rfl)
theorem dX7_road_24 : decode cX7_road 24 = .ok (.invokevirtual 125, 3) := dk_182 0 125 (dk_at dksX7_road_1 0 rfl rfl)
theorem dX7_road_27 : decode cX7_road 27 = .ok (.istore_n 1, 1) := dk_60 (dk_at dksX7_road_1 3 rfl rfl)
theorem dX7_road_28 : decode cX7_road 28 = .ok (.aload_n 0, 1) := dk_42 (dk_at dksX7_road_1 4 rfl rfl)
theorem dX7_road_29 : decode cX7_road 29 = .ok (.aload_n 0, 1) := dk_42 (dk_at dksX7_road_1 5 rfl rfl)
theorem dX7_road_30 : decode cX7_road 30 = .ok (.getfield 14, 3) := dk_180 0 14 (dk_at dksX7_road_1 6 rfl rfl)
theorem dX7_road_33 : decode cX7_road 33 = .ok (.getfield 67, 3) := dk_180 0 67 (dk_at dksX7_road_1 9 rfl rfl)
theorem dX7_road_36 : decode cX7_road 36 = .ok (.invokevirtual 109, 3) := dk_182 0 109 (dk_at dksX7_road_1 12 rfl rfl)
theorem dX7_road_39 : decode cX7_road 39 = .ok (.istore_n 2, 1) := dk_61 (dk_at dksX7_road_1 15 rfl rfl)
theorem dX7_road_40 : decode cX7_road 40 = .ok (.aload_n 0, 1) := dk_42 (dk_at dksX7_road_1 16 rfl rfl)
theorem dX7_road_41 : decode cX7_road 41 = .ok (.iload_n 1, 1) := dk_27 (dk_at dksX7_road_1 17 rfl rfl)
theorem dX7_road_42 : decode cX7_road 42 = .ok (.iload_n 2, 1) := dk_28 (dk_at dksX7_road_1 18 rfl rfl)
theorem dX7_road_43 : decode cX7_road 43 = .ok (.if_icmp .eq 20, 3) := dk_159 0 20 (dk_at dksX7_road_1 19 rfl rfl)
theorem dX7_road_46 : decode cX7_road 46 = .ok (.aload_n 0, 1) := dk_42 (dk_at dksX7_road_1 22 rfl rfl)
theorem dX7_road_47 : decode cX7_road 47 = .ok (.getfield 14, 3) := dk_180 0 14 (dk_at dksX7_road_2 0 rfl rfl)
theorem dX7_road_50 : decode cX7_road 50 = .ok (.iload_n 1, 1) := dk_27 (dk_at dksX7_road_2 3 rfl rfl)
theorem dX7_road_51 : decode cX7_road 51 = .ok (.iload_n 2, 1) := dk_28 (dk_at dksX7_road_2 4 rfl rfl)
theorem dX7_road_52 : decode cX7_road 52 = .ok (.invokevirtual 128, 3) := dk_182 0 128 (dk_at dksX7_road_2 5 rfl rfl)
theorem dX7_road_55 : decode cX7_road 55 = .ok (.iconst (-1), 1) := dk_2 (dk_at dksX7_road_2 8 rfl rfl)
theorem dX7_road_56 : decode cX7_road 56 = .ok (.if_icmp .ne 7, 3) := dk_160 0 7 (dk_at dksX7_road_2 9 rfl rfl)
theorem dX7_road_59 : decode cX7_road 59 = .ok (.iconst 1, 1) := dk_4 (dk_at dksX7_road_2 12 rfl rfl)
theorem dX7_road_60 : decode cX7_road 60 = .ok (.goto 4, 3) := dk_167 0 4 (dk_at dksX7_road_2 13 rfl rfl)
theorem dX7_road_63 : decode cX7_road 63 = .ok (.iconst 0, 1) := dk_3 (dk_at dksX7_road_2 16 rfl rfl)
theorem dX7_road_64 : decode cX7_road 64 = .ok (.iconst 3, 1) := dk_6 (dk_at dksX7_road_2 17 rfl rfl)
theorem dX7_road_65 : decode cX7_road 65 = .ok (.invokevirtual 59, 3) := dk_182 0 59 (dk_at dksX7_road_2 18 rfl rfl)
theorem dX7_road_68 : decode cX7_road 68 = .ok (.aload_n 0, 1) := dk_42 (dk_at dksX7_road_2 21 rfl rfl)
theorem dX7_road_69 : decode cX7_road 69 = .ok (.invokevirtual 20, 3) := dk_182 0 20 (dk_at dksX7_road_3 0 rfl rfl)
theorem dX7_road_72 : decode cX7_road 72 = .ok (.aload_n 0, 1) := dk_42 (dk_at dksX7_road_3 3 rfl rfl)
theorem dX7_road_73 : decode cX7_road 73 = .ok (.iconst 0, 1) := dk_3 (dk_at dksX7_road_3 4 rfl rfl)
theorem dX7_road_74 : decode cX7_road 74 = .ok (.sipush 240, 3) := dk_17 0 240 (dk_at dksX7_road_3 5 rfl rfl)
theorem dX7_road_77 : decode cX7_road 77 = .ok (.invokevirtual 96, 3) := dk_182 0 96 (dk_at dksX7_road_3 8 rfl rfl)
theorem dX7_road_80 : decode cX7_road 80 = .ok (.istore_n 3, 1) := dk_62 (dk_at dksX7_road_3 11 rfl rfl)
theorem dX7_road_81 : decode cX7_road 81 = .ok (.aload_n 0, 1) := dk_42 (dk_at dksX7_road_3 12 rfl rfl)
theorem dX7_road_82 : decode cX7_road 82 = .ok (.getfield 14, 3) := dk_180 0 14 (dk_at dksX7_road_3 13 rfl rfl)
theorem dX7_road_85 : decode cX7_road 85 = .ok (.getfield 122, 3) := dk_180 0 122 (dk_at dksX7_road_3 16 rfl rfl)
theorem dX7_road_88 : decode cX7_road 88 = .ok (.new 130, 3) := dk_187 0 130 (dk_at dksX7_road_3 19 rfl rfl)
theorem dX7_road_91 : decode cX7_road 91 = .ok (.dup, 1) := dk_89 (dk_at dksX7_road_3 22 rfl rfl)
theorem dX7_road_92 : decode cX7_road 92 = .ok (.iload_n 1, 1) := dk_27 (dk_at dksX7_road_3 23 rfl rfl)
theorem dX7_road_93 : decode cX7_road 93 = .ok (.iload_n 2, 1) := dk_28 (dk_at dksX7_road_4 0 rfl rfl)
theorem dX7_road_94 : decode cX7_road 94 = .ok (.iload_n 3, 1) := dk_29 (dk_at dksX7_road_4 1 rfl rfl)
theorem dX7_road_95 : decode cX7_road 95 = .ok (.aload_n 0, 1) := dk_42 (dk_at dksX7_road_4 2 rfl rfl)
theorem dX7_road_96 : decode cX7_road 96 = .ok (.iload_n 3, 1) := dk_29 (dk_at dksX7_road_4 3 rfl rfl)
theorem dX7_road_97 : decode cX7_road 97 = .ok (.sipush 240, 3) := dk_17 0 240 (dk_at dksX7_road_4 4 rfl rfl)
theorem dX7_road_100 : decode cX7_road 100 = .ok (.invokevirtual 96, 3) := dk_182 0 96 (dk_at dksX7_road_4 7 rfl rfl)
theorem dX7_road_103 : decode cX7_road 103 = .ok (.invokespecial 132, 3) := dk_183 0 132 (dk_at dksX7_road_4 10 rfl rfl)
theorem dX7_road_106 : decode cX7_road 106 = .ok (.invokevirtual 105, 3) := dk_182 0 105 (dk_at dksX7_road_4 13 rfl rfl)
theorem dX7_road_109 : decode cX7_road 109 = .ok (.pop, 1) := dk_87 (dk_at dksX7_road_4 16 rfl rfl)
theorem dX7_road_110 : decode cX7_road 110 = .ok (.return_, 1) := dk_177 (dk_at dksX7_road_4 17 rfl rfl)
abbrev cX7_treaty : ByteArray := prog_16_method_9_code
def yX7_treaty : MethodName := ⟨RX7, "treaty", "()V"⟩
def dkwX7_treaty_4 : List UInt8 := [182, 0, 20, 177]
abbrev dktX7_treaty_4 : List UInt8 := dkwX7_treaty_4 ++ []
def dkwX7_treaty_3 : List UInt8 := [180, 0, 67, 27, 182, 0, 112, 192, 0, 100, 89, 180, 0, 135, 4, 28, 120, 128, 181, 0, 135, 42]
abbrev dktX7_treaty_3 : List UInt8 := dkwX7_treaty_3 ++ dktX7_treaty_4
def dkwX7_treaty_2 : List UInt8 := [180, 0, 135, 28, 184, 0, 138, 154, 0, 7, 4, 167, 0, 4, 3, 6, 182, 0, 59, 42, 180, 0, 14]
abbrev dktX7_treaty_2 : List UInt8 := dkwX7_treaty_2 ++ dktX7_treaty_3
def dkwX7_treaty_1 : List UInt8 := [182, 0, 109, 61, 42, 27, 28, 159, 0, 31, 42, 180, 0, 14, 180, 0, 67, 27, 182, 0, 112, 192, 0, 100]
abbrev dktX7_treaty_1 : List UInt8 := dkwX7_treaty_1 ++ dktX7_treaty_2
def dkwX7_treaty_0 : List UInt8 := [42, 182, 0, 20, 42, 42, 180, 0, 14, 180, 0, 67, 182, 0, 125, 60, 42, 42, 180, 0, 14, 180, 0, 67]
abbrev dktX7_treaty_0 : List UInt8 := dkwX7_treaty_0 ++ dktX7_treaty_1
theorem dksX7_treaty_0 : cX7_treaty.data.toList.drop 0 = dktX7_treaty_0 := by decide +kernel
theorem dksX7_treaty_1 : cX7_treaty.data.toList.drop 24 = dktX7_treaty_1 := dk_seg dksX7_treaty_0 24 rfl rfl
theorem dksX7_treaty_2 : cX7_treaty.data.toList.drop 48 = dktX7_treaty_2 := dk_seg dksX7_treaty_1 24 rfl rfl
theorem dksX7_treaty_3 : cX7_treaty.data.toList.drop 71 = dktX7_treaty_3 := dk_seg dksX7_treaty_2 23 rfl rfl
theorem dksX7_treaty_4 : cX7_treaty.data.toList.drop 93 = dktX7_treaty_4 := dk_seg dksX7_treaty_3 22 rfl rfl
theorem dX7_treaty_0 : decode cX7_treaty 0 = .ok (.aload_n 0, 1) := dk_42 (dk_at dksX7_treaty_0 0 rfl rfl)
theorem dX7_treaty_1 : decode cX7_treaty 1 = .ok (.invokevirtual 20, 3) := dk_182 0 20 (dk_at dksX7_treaty_0 1 rfl rfl)
theorem dX7_treaty_4 : decode cX7_treaty 4 = .ok (.aload_n 0, 1) := dk_42 (dk_at dksX7_treaty_0 4 rfl rfl)
theorem dX7_treaty_5 : decode cX7_treaty 5 = .ok (.aload_n 0, 1) := dk_42 (dk_at dksX7_treaty_0 5 rfl rfl)
theorem dX7_treaty_6 : decode cX7_treaty 6 = .ok (.getfield 14, 3) := dk_180 0 14 (dk_at dksX7_treaty_0 6 rfl rfl)
theorem dX7_treaty_9 : decode cX7_treaty 9 = .ok (.getfield 67, 3) := dk_180 0 67 (dk_at dksX7_treaty_0 9 rfl rfl)
theorem dX7_treaty_12 : decode cX7_treaty 12 = .ok (.invokevirtual 125, 3) := dk_182 0 125 (dk_at dksX7_treaty_0 12 rfl rfl)
theorem dX7_treaty_15 : decode cX7_treaty 15 = .ok (.istore_n 1, 1) := dk_60 (dk_at dksX7_treaty_0 15 rfl rfl)
theorem dX7_treaty_16 : decode cX7_treaty 16 = .ok (.aload_n 0, 1) := dk_42 (dk_at dksX7_treaty_0 16 rfl rfl)
theorem dX7_treaty_17 : decode cX7_treaty 17 = .ok (.aload_n 0, 1) := dk_42 (dk_at dksX7_treaty_0 17 rfl rfl)
theorem dX7_treaty_18 : decode cX7_treaty 18 = .ok (.getfield 14, 3) := dk_180 0 14 (dk_at dksX7_treaty_0 18 rfl rfl)
theorem dX7_treaty_21 : decode cX7_treaty 21 = .ok (.getfield 67, 3) := dk_180 0 67 (dk_at dksX7_treaty_0 21 rfl rfl)
theorem dX7_treaty_24 : decode cX7_treaty 24 = .ok (.invokevirtual 109, 3) := dk_182 0 109 (dk_at dksX7_treaty_1 0 rfl rfl)
theorem dX7_treaty_27 : decode cX7_treaty 27 = .ok (.istore_n 2, 1) := dk_61 (dk_at dksX7_treaty_1 3 rfl rfl)
theorem dX7_treaty_28 : decode cX7_treaty 28 = .ok (.aload_n 0, 1) := dk_42 (dk_at dksX7_treaty_1 4 rfl rfl)
theorem dX7_treaty_29 : decode cX7_treaty 29 = .ok (.iload_n 1, 1) := dk_27 (dk_at dksX7_treaty_1 5 rfl rfl)
theorem dX7_treaty_30 : decode cX7_treaty 30 = .ok (.iload_n 2, 1) := dk_28 (dk_at dksX7_treaty_1 6 rfl rfl)
theorem dX7_treaty_31 : decode cX7_treaty 31 = .ok (.if_icmp .eq 31, 3) := dk_159 0 31 (dk_at dksX7_treaty_1 7 rfl rfl)
theorem dX7_treaty_34 : decode cX7_treaty 34 = .ok (.aload_n 0, 1) := dk_42 (dk_at dksX7_treaty_1 10 rfl rfl)
theorem dX7_treaty_35 : decode cX7_treaty 35 = .ok (.getfield 14, 3) := dk_180 0 14 (dk_at dksX7_treaty_1 11 rfl rfl)
theorem dX7_treaty_38 : decode cX7_treaty 38 = .ok (.getfield 67, 3) := dk_180 0 67 (dk_at dksX7_treaty_1 14 rfl rfl)
theorem dX7_treaty_41 : decode cX7_treaty 41 = .ok (.iload_n 1, 1) := dk_27 (dk_at dksX7_treaty_1 17 rfl rfl)
theorem dX7_treaty_42 : decode cX7_treaty 42 = .ok (.invokevirtual 112, 3) := dk_182 0 112 (dk_at dksX7_treaty_1 18 rfl rfl)
theorem dX7_treaty_45 : decode cX7_treaty 45 = .ok (.checkcast 100, 3) := dk_192 0 100 (dk_at dksX7_treaty_1 21 rfl rfl)
theorem dX7_treaty_48 : decode cX7_treaty 48 = .ok (.getfield 135, 3) := dk_180 0 135 (dk_at dksX7_treaty_2 0 rfl rfl)
theorem dX7_treaty_51 : decode cX7_treaty 51 = .ok (.iload_n 2, 1) := dk_28 (dk_at dksX7_treaty_2 3 rfl rfl)
theorem dX7_treaty_52 : decode cX7_treaty 52 = .ok (.invokestatic 138, 3) := dk_184 0 138 (dk_at dksX7_treaty_2 4 rfl rfl)
theorem dX7_treaty_55 : decode cX7_treaty 55 = .ok (.ifCond .ne 7, 3) := dk_154 0 7 (dk_at dksX7_treaty_2 7 rfl rfl)
theorem dX7_treaty_58 : decode cX7_treaty 58 = .ok (.iconst 1, 1) := dk_4 (dk_at dksX7_treaty_2 10 rfl rfl)
theorem dX7_treaty_59 : decode cX7_treaty 59 = .ok (.goto 4, 3) := dk_167 0 4 (dk_at dksX7_treaty_2 11 rfl rfl)
theorem dX7_treaty_62 : decode cX7_treaty 62 = .ok (.iconst 0, 1) := dk_3 (dk_at dksX7_treaty_2 14 rfl rfl)
theorem dX7_treaty_63 : decode cX7_treaty 63 = .ok (.iconst 3, 1) := dk_6 (dk_at dksX7_treaty_2 15 rfl rfl)
theorem dX7_treaty_64 : decode cX7_treaty 64 = .ok (.invokevirtual 59, 3) := dk_182 0 59 (dk_at dksX7_treaty_2 16 rfl rfl)
theorem dX7_treaty_67 : decode cX7_treaty 67 = .ok (.aload_n 0, 1) := dk_42 (dk_at dksX7_treaty_2 19 rfl rfl)
theorem dX7_treaty_68 : decode cX7_treaty 68 = .ok (.getfield 14, 3) := dk_180 0 14 (dk_at dksX7_treaty_2 20 rfl rfl)
theorem dX7_treaty_71 : decode cX7_treaty 71 = .ok (.getfield 67, 3) := dk_180 0 67 (dk_at dksX7_treaty_3 0 rfl rfl)
theorem dX7_treaty_74 : decode cX7_treaty 74 = .ok (.iload_n 1, 1) := dk_27 (dk_at dksX7_treaty_3 3 rfl rfl)
theorem dX7_treaty_75 : decode cX7_treaty 75 = .ok (.invokevirtual 112, 3) := dk_182 0 112 (dk_at dksX7_treaty_3 4 rfl rfl)
theorem dX7_treaty_78 : decode cX7_treaty 78 = .ok (.checkcast 100, 3) := dk_192 0 100 (dk_at dksX7_treaty_3 7 rfl rfl)
theorem dX7_treaty_81 : decode cX7_treaty 81 = .ok (.dup, 1) := dk_89 (dk_at dksX7_treaty_3 10 rfl rfl)
theorem dX7_treaty_82 : decode cX7_treaty 82 = .ok (.getfield 135, 3) := dk_180 0 135 (dk_at dksX7_treaty_3 11 rfl rfl)
theorem dX7_treaty_85 : decode cX7_treaty 85 = .ok (.iconst 1, 1) := dk_4 (dk_at dksX7_treaty_3 14 rfl rfl)
theorem dX7_treaty_86 : decode cX7_treaty 86 = .ok (.iload_n 2, 1) := dk_28 (dk_at dksX7_treaty_3 15 rfl rfl)
theorem dX7_treaty_87 : decode cX7_treaty 87 = .ok (.ishl, 1) := dk_120 (dk_at dksX7_treaty_3 16 rfl rfl)
theorem dX7_treaty_88 : decode cX7_treaty 88 = .ok (.ior, 1) := dk_128 (dk_at dksX7_treaty_3 17 rfl rfl)
theorem dX7_treaty_89 : decode cX7_treaty 89 = .ok (.putfield 135, 3) := dk_181 0 135 (dk_at dksX7_treaty_3 18 rfl rfl)
theorem dX7_treaty_92 : decode cX7_treaty 92 = .ok (.aload_n 0, 1) := dk_42 (dk_at dksX7_treaty_3 21 rfl rfl)
theorem dX7_treaty_93 : decode cX7_treaty 93 = .ok (.invokevirtual 20, 3) := dk_182 0 20 (dk_at dksX7_treaty_4 0 rfl rfl)
theorem dX7_treaty_96 : decode cX7_treaty 96 = .ok (.return_, 1) := dk_177 (dk_at dksX7_treaty_4 3 rfl rfl)
abbrev cX7_person : ByteArray := prog_16_method_10_code
def yX7_person : MethodName := ⟨RX7, "person", "()V"⟩
def dkwX7_person_3 : List UInt8 := [177]
abbrev dktX7_person_3 : List UInt8 := dkwX7_person_3 ++ []
def dkwX7_person_2 : List UInt8 := [180, 0, 75, 187, 0, 143, 89, 43, 28, 42, 4, 17, 0, 240, 182, 0, 96, 183, 0, 145, 182, 0, 105, 87]
abbrev dktX7_person_2 : List UInt8 := dkwX7_person_2 ++ dktX7_person_3
def dkwX7_person_1 : List UInt8 := [182, 0, 88, 42, 182, 0, 92, 76, 42, 42, 180, 0, 14, 180, 0, 67, 182, 0, 125, 61, 42, 180, 0, 14]
abbrev dktX7_person_1 : List UInt8 := dkwX7_person_1 ++ dktX7_person_2
def dkwX7_person_0 : List UInt8 := [42, 42, 18, 142, 182, 0, 38, 4, 182, 0, 59, 42, 42, 180, 0, 14, 180, 0, 75, 182, 0, 82, 16, 6]
abbrev dktX7_person_0 : List UInt8 := dkwX7_person_0 ++ dktX7_person_1
theorem dksX7_person_0 : cX7_person.data.toList.drop 0 = dktX7_person_0 := by decide +kernel
theorem dksX7_person_1 : cX7_person.data.toList.drop 24 = dktX7_person_1 := dk_seg dksX7_person_0 24 rfl rfl
theorem dksX7_person_2 : cX7_person.data.toList.drop 48 = dktX7_person_2 := dk_seg dksX7_person_1 24 rfl rfl
theorem dksX7_person_3 : cX7_person.data.toList.drop 72 = dktX7_person_3 := dk_seg dksX7_person_2 24 rfl rfl
theorem dX7_person_0 : decode cX7_person 0 = .ok (.aload_n 0, 1) := dk_42 (dk_at dksX7_person_0 0 rfl rfl)
theorem dX7_person_1 : decode cX7_person 1 = .ok (.aload_n 0, 1) := dk_42 (dk_at dksX7_person_0 1 rfl rfl)
theorem dX7_person_2 : decode cX7_person 2 = .ok (.ldc 142, 2) := dk_18 142 (dk_at dksX7_person_0 2 rfl rfl)
theorem dX7_person_4 : decode cX7_person 4 = .ok (.invokevirtual 38, 3) := dk_182 0 38 (dk_at dksX7_person_0 4 rfl rfl)
theorem dX7_person_7 : decode cX7_person 7 = .ok (.iconst 1, 1) := dk_4 (dk_at dksX7_person_0 7 rfl rfl)
theorem dX7_person_8 : decode cX7_person 8 = .ok (.invokevirtual 59, 3) := dk_182 0 59 (dk_at dksX7_person_0 8 rfl rfl)
theorem dX7_person_11 : decode cX7_person 11 = .ok (.aload_n 0, 1) := dk_42 (dk_at dksX7_person_0 11 rfl rfl)
theorem dX7_person_12 : decode cX7_person 12 = .ok (.aload_n 0, 1) := dk_42 (dk_at dksX7_person_0 12 rfl rfl)
theorem dX7_person_13 : decode cX7_person 13 = .ok (.getfield 14, 3) := dk_180 0 14 (dk_at dksX7_person_0 13 rfl rfl)
theorem dX7_person_16 : decode cX7_person 16 = .ok (.getfield 75, 3) := dk_180 0 75 (dk_at dksX7_person_0 16 rfl rfl)
theorem dX7_person_19 : decode cX7_person 19 = .ok (.invokevirtual 82, 3) := dk_182 0 82 (dk_at dksX7_person_0 19 rfl rfl)
theorem dX7_person_22 : decode cX7_person 22 = .ok (.bipush 6, 2) := dk_16 6 (dk_at dksX7_person_0 22 rfl rfl)
theorem dX7_person_24 : decode cX7_person 24 = .ok (.invokevirtual 88, 3) := dk_182 0 88 (dk_at dksX7_person_1 0 rfl rfl)
theorem dX7_person_27 : decode cX7_person 27 = .ok (.aload_n 0, 1) := dk_42 (dk_at dksX7_person_1 3 rfl rfl)
theorem dX7_person_28 : decode cX7_person 28 = .ok (.invokevirtual 92, 3) := dk_182 0 92 (dk_at dksX7_person_1 4 rfl rfl)
theorem dX7_person_31 : decode cX7_person 31 = .ok (.astore_n 1, 1) := dk_76 (dk_at dksX7_person_1 7 rfl rfl)
theorem dX7_person_32 : decode cX7_person 32 = .ok (.aload_n 0, 1) := dk_42 (dk_at dksX7_person_1 8 rfl rfl)
theorem dX7_person_33 : decode cX7_person 33 = .ok (.aload_n 0, 1) := dk_42 (dk_at dksX7_person_1 9 rfl rfl)
theorem dX7_person_34 : decode cX7_person 34 = .ok (.getfield 14, 3) := dk_180 0 14 (dk_at dksX7_person_1 10 rfl rfl)
theorem dX7_person_37 : decode cX7_person 37 = .ok (.getfield 67, 3) := dk_180 0 67 (dk_at dksX7_person_1 13 rfl rfl)
theorem dX7_person_40 : decode cX7_person 40 = .ok (.invokevirtual 125, 3) := dk_182 0 125 (dk_at dksX7_person_1 16 rfl rfl)
theorem dX7_person_43 : decode cX7_person 43 = .ok (.istore_n 2, 1) := dk_61 (dk_at dksX7_person_1 19 rfl rfl)
theorem dX7_person_44 : decode cX7_person 44 = .ok (.aload_n 0, 1) := dk_42 (dk_at dksX7_person_1 20 rfl rfl)
theorem dX7_person_45 : decode cX7_person 45 = .ok (.getfield 14, 3) := dk_180 0 14 (dk_at dksX7_person_1 21 rfl rfl)
theorem dX7_person_48 : decode cX7_person 48 = .ok (.getfield 75, 3) := dk_180 0 75 (dk_at dksX7_person_2 0 rfl rfl)
theorem dX7_person_51 : decode cX7_person 51 = .ok (.new 143, 3) := dk_187 0 143 (dk_at dksX7_person_2 3 rfl rfl)
theorem dX7_person_54 : decode cX7_person 54 = .ok (.dup, 1) := dk_89 (dk_at dksX7_person_2 6 rfl rfl)
theorem dX7_person_55 : decode cX7_person 55 = .ok (.aload_n 1, 1) := dk_43 (dk_at dksX7_person_2 7 rfl rfl)
theorem dX7_person_56 : decode cX7_person 56 = .ok (.iload_n 2, 1) := dk_28 (dk_at dksX7_person_2 8 rfl rfl)
theorem dX7_person_57 : decode cX7_person 57 = .ok (.aload_n 0, 1) := dk_42 (dk_at dksX7_person_2 9 rfl rfl)
theorem dX7_person_58 : decode cX7_person 58 = .ok (.iconst 1, 1) := dk_4 (dk_at dksX7_person_2 10 rfl rfl)
theorem dX7_person_59 : decode cX7_person 59 = .ok (.sipush 240, 3) := dk_17 0 240 (dk_at dksX7_person_2 11 rfl rfl)
theorem dX7_person_62 : decode cX7_person 62 = .ok (.invokevirtual 96, 3) := dk_182 0 96 (dk_at dksX7_person_2 14 rfl rfl)
theorem dX7_person_65 : decode cX7_person 65 = .ok (.invokespecial 145, 3) := dk_183 0 145 (dk_at dksX7_person_2 17 rfl rfl)
theorem dX7_person_68 : decode cX7_person 68 = .ok (.invokevirtual 105, 3) := dk_182 0 105 (dk_at dksX7_person_2 20 rfl rfl)
theorem dX7_person_71 : decode cX7_person 71 = .ok (.pop, 1) := dk_87 (dk_at dksX7_person_2 23 rfl rfl)
theorem dX7_person_72 : decode cX7_person 72 = .ok (.return_, 1) := dk_177 (dk_at dksX7_person_3 0 rfl rfl)
theorem q124 : (Jvm.Cond.initialized "InchBorders$MapReader") ∈ lw_all := lw_g (lw_at lw_m1 13 rfl) rfl
theorem q204 : (Jvm.Cond.fieldLinkNest "InchBorders$MapReader" (33 : Nat) "InchBorders$Atlas" "lines" "I" "InchBorders") ∈ lw_tbl := lw_at lw_m1 93 rfl
theorem q209 : (Jvm.Cond.fieldLinkNest "InchBorders$MapReader" (67 : Nat) "InchBorders$Atlas" "lands" "Ljava/util/ArrayList;" "InchBorders") ∈ lw_tbl := lw_at lw_m1 98 rfl
theorem q213 : (Jvm.Cond.fieldLinkNest "InchBorders$MapReader" (122 : Nat) "InchBorders$Atlas" "roads" "Ljava/util/ArrayList;" "InchBorders") ∈ lw_tbl := lw_at lw_m1 102 rfl
theorem q219 : (Jvm.Cond.fieldLinkNest "InchBorders$MapReader" (75 : Nat) "InchBorders$Atlas" "persons" "Ljava/util/ArrayList;" "InchBorders") ∈ lw_tbl := lw_at lw_m1 108 rfl
theorem q464 : (Jvm.Cond.instantiable "InchBorders$MapReader" (10 : Nat)) ∈ lw_all := lw_g (lw_at lw_m2 113 rfl) rfl
theorem q466 : (Jvm.Cond.instanceMethod ({ cls := "InchBorders$MapReader", name := "<init>", desc := "([BI)V" } : Jvm.MethodName)) ∈ lw_all := lw_g (lw_at lw_m2 115 rfl) rfl
theorem q467 : (Jvm.Cond.code ({ cls := "InchBorders$MapReader", name := "<init>", desc := "([BI)V" } : Jvm.MethodName) prog_16_method_1_code (3 : Nat) (Option.none : Option Jvm.ClassFile.FieldType)) ∈ lw_all := lw_g (lw_at lw_m2 116 rfl) rfl
theorem q468 : (Jvm.Cond.methodLink "InchBorders$MapReader" (3 : Nat) ({ cls := "InchBorders$Reader", name := "<init>", desc := "([BII)V" } : Jvm.MethodName)) ∈ lw_all := lw_g (lw_at lw_m2 117 rfl) rfl
theorem q473 : (Jvm.Cond.classLink "InchBorders$MapReader" (9 : Nat) "InchBorders$Atlas") ∈ lw_all := lw_g (lw_at lw_m2 122 rfl) rfl
theorem q474 : (Jvm.Cond.methodLinkNest "InchBorders$MapReader" (11 : Nat) ({ cls := "InchBorders$Atlas", name := "<init>", desc := "()V" } : Jvm.MethodName) "InchBorders") ∈ lw_tbl := lw_at lw_m2 123 rfl
theorem q475 : (Jvm.Cond.fieldLink "InchBorders$MapReader" (14 : Nat) "InchBorders$MapReader" "a" "LInchBorders$Atlas;") ∈ lw_all := lw_g (lw_at lw_m2 124 rfl) rfl
theorem q480 : (Jvm.Cond.fieldLink "InchBorders$MapReader" (23 : Nat) "InchBorders$MapReader" "kind" "I") ∈ lw_all := lw_g (lw_at lw_m2 129 rfl) rfl
theorem q481 : (Jvm.Cond.sameField "InchBorders$MapReader" "InchBorders$Reader" "kind" "I") ∈ lw_all := lw_g (lw_at lw_m2 130 rfl) rfl
theorem q493 : (Jvm.Cond.fieldLink "InchBorders$MapReader" (78 : Nat) "InchBorders$MapReader" "word" "Ljava/lang/String;") ∈ lw_all := lw_g (lw_at lw_m2 142 rfl) rfl
theorem q494 : (Jvm.Cond.sameField "InchBorders$MapReader" "InchBorders$Reader" "word" "Ljava/lang/String;") ∈ lw_all := lw_g (lw_at lw_m2 143 rfl) rfl
theorem q495 : (Jvm.Cond.laysFinal "InchBorders$MapReader" "InchBorders$MapReader" "a" "LInchBorders$Atlas;") ∈ lw_all := lw_g (lw_at lw_m2 144 rfl) rfl
theorem q496 : (Jvm.Cond.soleField "InchBorders$MapReader" "a") ∈ lw_all := lw_g (lw_at lw_m2 145 rfl) rfl
theorem q497 : (Jvm.Cond.laysFinal "InchBorders$MapReader" "InchBorders$Reader" "tape" "[B") ∈ lw_all := lw_g (lw_at lw_m2 146 rfl) rfl
theorem q499 : (Jvm.Cond.laysFinal "InchBorders$MapReader" "InchBorders$Reader" "size" "I") ∈ lw_all := lw_g (lw_at lw_m2 148 rfl) rfl
theorem q501 : (Jvm.Cond.laysFinal "InchBorders$MapReader" "InchBorders$Reader" "limit" "I") ∈ lw_all := lw_g (lw_at lw_m2 150 rfl) rfl
theorem q503 : (Jvm.Cond.lays "InchBorders$MapReader" "InchBorders$Reader" "to" "I") ∈ lw_all := lw_g (lw_at lw_m2 152 rfl) rfl
theorem q505 : (Jvm.Cond.lays "InchBorders$MapReader" "InchBorders$Reader" "kind" "I") ∈ lw_all := lw_g (lw_at lw_m2 154 rfl) rfl
theorem q507 : (Jvm.Cond.lays "InchBorders$MapReader" "InchBorders$Reader" "from" "I") ∈ lw_all := lw_g (lw_at lw_m2 156 rfl) rfl
theorem q509 : (Jvm.Cond.lays "InchBorders$MapReader" "InchBorders$Reader" "number" "I") ∈ lw_all := lw_g (lw_at lw_m2 158 rfl) rfl
theorem q511 : (Jvm.Cond.lays "InchBorders$MapReader" "InchBorders$Reader" "sign" "I") ∈ lw_all := lw_g (lw_at lw_m2 160 rfl) rfl
theorem q513 : (Jvm.Cond.lays "InchBorders$MapReader" "InchBorders$Reader" "word" "Ljava/lang/String;") ∈ lw_all := lw_g (lw_at lw_m2 162 rfl) rfl
theorem q515 : (Jvm.Cond.superclass "InchBorders$MapReader" "InchBorders$Reader") ∈ lw_all := lw_g (lw_at lw_m2 164 rfl) rfl
theorem q517 : (Jvm.Cond.instanceMethod ({ cls := "InchBorders$MapReader", name := "read", desc := "()LInchBorders$Atlas;" } : Jvm.MethodName)) ∈ lw_all := lw_g (lw_at lw_m2 166 rfl) rfl
theorem q518 : (Jvm.Cond.selects "InchBorders$MapReader" ({ cls := "InchBorders$MapReader", name := "read", desc := "()LInchBorders$Atlas;" } : Jvm.MethodName) ({ cls := "InchBorders$MapReader", name := "read", desc := "()LInchBorders$Atlas;" } : Jvm.MethodName)) ∈ lw_all := lw_g (lw_at lw_m2 167 rfl) rfl
theorem q519 : (Jvm.Cond.code ({ cls := "InchBorders$MapReader", name := "read", desc := "()LInchBorders$Atlas;" } : Jvm.MethodName) prog_16_method_2_code (1 : Nat) (Option.some (Jvm.ClassFile.FieldType.object "InchBorders$Atlas"))) ∈ lw_all := lw_g (lw_at lw_m2 168 rfl) rfl
theorem q520 : (Jvm.Cond.methodLink "InchBorders$MapReader" (20 : Nat) ({ cls := "InchBorders$MapReader", name := "go", desc := "()V" } : Jvm.MethodName)) ∈ lw_all := lw_g (lw_at lw_m2 169 rfl) rfl
theorem q521 : (Jvm.Cond.sameMethod "InchBorders$MapReader" "InchBorders$Reader" "go" "()V") ∈ lw_all := lw_g (lw_at lw_m2 170 rfl) rfl
theorem q523 : (Jvm.Cond.selects "InchBorders$MapReader" ({ cls := "InchBorders$MapReader", name := "go", desc := "()V" } : Jvm.MethodName) ({ cls := "InchBorders$Reader", name := "go", desc := "()V" } : Jvm.MethodName)) ∈ lw_all := lw_g (lw_at lw_m2 172 rfl) rfl
theorem q721 : (Jvm.Cond.methodLink "InchBorders$MapReader" (27 : Nat) ({ cls := "InchBorders$MapReader", name := "line", desc := "()V" } : Jvm.MethodName)) ∈ lw_all := lw_g (lw_at lw_m3 130 rfl) rfl
theorem q722 : (Jvm.Cond.privateMethod ({ cls := "InchBorders$MapReader", name := "line", desc := "()V" } : Jvm.MethodName)) ∈ lw_tbl := lw_at lw_m3 131 rfl
theorem q723 : (Jvm.Cond.instanceMethod ({ cls := "InchBorders$MapReader", name := "line", desc := "()V" } : Jvm.MethodName)) ∈ lw_all := lw_g (lw_at lw_m3 132 rfl) rfl
theorem q724 : (Jvm.Cond.code ({ cls := "InchBorders$MapReader", name := "line", desc := "()V" } : Jvm.MethodName) prog_16_method_3_code (1 : Nat) (Option.none : Option Jvm.ClassFile.FieldType)) ∈ lw_all := lw_g (lw_at lw_m3 133 rfl) rfl
theorem q725 : (Jvm.Cond.stringRef "InchBorders$MapReader" (36 : Nat) "land") ∈ lw_tbl := lw_at lw_m3 134 rfl
theorem q726 : (Jvm.Cond.methodLink "InchBorders$MapReader" (38 : Nat) ({ cls := "InchBorders$MapReader", name := "is", desc := "(Ljava/lang/String;)Z" } : Jvm.MethodName)) ∈ lw_all := lw_g (lw_at lw_m3 135 rfl) rfl
theorem q727 : (Jvm.Cond.sameMethod "InchBorders$MapReader" "InchBorders$Reader" "is" "(Ljava/lang/String;)Z") ∈ lw_all := lw_g (lw_at lw_m3 136 rfl) rfl
theorem q729 : (Jvm.Cond.selects "InchBorders$MapReader" ({ cls := "InchBorders$MapReader", name := "is", desc := "(Ljava/lang/String;)Z" } : Jvm.MethodName) ({ cls := "InchBorders$Reader", name := "is", desc := "(Ljava/lang/String;)Z" } : Jvm.MethodName)) ∈ lw_all := lw_g (lw_at lw_m3 138 rfl) rfl
theorem q740 : (Jvm.Cond.methodLink "InchBorders$MapReader" (42 : Nat) ({ cls := "InchBorders$MapReader", name := "land", desc := "()V" } : Jvm.MethodName)) ∈ lw_all := lw_g (lw_at lw_m3 149 rfl) rfl
theorem q741 : (Jvm.Cond.privateMethod ({ cls := "InchBorders$MapReader", name := "land", desc := "()V" } : Jvm.MethodName)) ∈ lw_tbl := lw_at lw_m3 150 rfl
theorem q742 : (Jvm.Cond.instanceMethod ({ cls := "InchBorders$MapReader", name := "land", desc := "()V" } : Jvm.MethodName)) ∈ lw_all := lw_g (lw_at lw_m3 151 rfl) rfl
theorem q743 : (Jvm.Cond.code ({ cls := "InchBorders$MapReader", name := "land", desc := "()V" } : Jvm.MethodName) prog_16_method_6_code (3 : Nat) (Option.none : Option Jvm.ClassFile.FieldType)) ∈ lw_all := lw_g (lw_at lw_m3 152 rfl) rfl
theorem q744 : (Jvm.Cond.methodLink "InchBorders$MapReader" (82 : Nat) ({ cls := "java/util/ArrayList", name := "size", desc := "()I" } : Jvm.MethodName)) ∈ lw_all := lw_g (lw_at lw_m3 153 rfl) rfl
theorem q745 : (Jvm.Cond.methodLink "InchBorders$MapReader" (88 : Nat) ({ cls := "InchBorders$MapReader", name := "first", desc := "(II)V" } : Jvm.MethodName)) ∈ lw_all := lw_g (lw_at lw_m3 154 rfl) rfl
theorem q746 : (Jvm.Cond.privateMethod ({ cls := "InchBorders$MapReader", name := "first", desc := "(II)V" } : Jvm.MethodName)) ∈ lw_tbl := lw_at lw_m3 155 rfl
theorem q747 : (Jvm.Cond.instanceMethod ({ cls := "InchBorders$MapReader", name := "first", desc := "(II)V" } : Jvm.MethodName)) ∈ lw_all := lw_g (lw_at lw_m3 156 rfl) rfl
theorem q748 : (Jvm.Cond.code ({ cls := "InchBorders$MapReader", name := "first", desc := "(II)V" } : Jvm.MethodName) prog_16_method_4_code (3 : Nat) (Option.none : Option Jvm.ClassFile.FieldType)) ∈ lw_all := lw_g (lw_at lw_m3 157 rfl) rfl
theorem q749 : (Jvm.Cond.methodLink "InchBorders$MapReader" (59 : Nat) ({ cls := "InchBorders$MapReader", name := "need", desc := "(ZI)V" } : Jvm.MethodName)) ∈ lw_all := lw_g (lw_at lw_m3 158 rfl) rfl
theorem q750 : (Jvm.Cond.sameMethod "InchBorders$MapReader" "InchBorders$Reader" "need" "(ZI)V") ∈ lw_all := lw_g (lw_at lw_m3 159 rfl) rfl
theorem q752 : (Jvm.Cond.selects "InchBorders$MapReader" ({ cls := "InchBorders$MapReader", name := "need", desc := "(ZI)V" } : Jvm.MethodName) ({ cls := "InchBorders$Reader", name := "need", desc := "(ZI)V" } : Jvm.MethodName)) ∈ lw_all := lw_g (lw_at lw_m3 161 rfl) rfl
theorem q823 : (Jvm.Cond.methodLink "InchBorders$MapReader" (92 : Nat) ({ cls := "InchBorders$MapReader", name := "fresh", desc := "()Ljava/lang/String;" } : Jvm.MethodName)) ∈ lw_all := lw_g (lw_at lw_m3 232 rfl) rfl
theorem q824 : (Jvm.Cond.privateMethod ({ cls := "InchBorders$MapReader", name := "fresh", desc := "()Ljava/lang/String;" } : Jvm.MethodName)) ∈ lw_tbl := lw_at lw_m3 233 rfl
theorem q825 : (Jvm.Cond.instanceMethod ({ cls := "InchBorders$MapReader", name := "fresh", desc := "()Ljava/lang/String;" } : Jvm.MethodName)) ∈ lw_all := lw_g (lw_at lw_m3 234 rfl) rfl
theorem q826 : (Jvm.Cond.code ({ cls := "InchBorders$MapReader", name := "fresh", desc := "()Ljava/lang/String;" } : Jvm.MethodName) prog_16_method_5_code (2 : Nat) (Option.some (Jvm.ClassFile.FieldType.object "java/lang/String"))) ∈ lw_all := lw_g (lw_at lw_m3 235 rfl) rfl
theorem q827 : (Jvm.Cond.methodLink "InchBorders$MapReader" (63 : Nat) ({ cls := "InchBorders$MapReader", name := "isName", desc := "()Z" } : Jvm.MethodName)) ∈ lw_all := lw_g (lw_at lw_m3 236 rfl) rfl
theorem q828 : (Jvm.Cond.sameMethod "InchBorders$MapReader" "InchBorders$Reader" "isName" "()Z") ∈ lw_all := lw_g (lw_at lw_m3 237 rfl) rfl
theorem q830 : (Jvm.Cond.selects "InchBorders$MapReader" ({ cls := "InchBorders$MapReader", name := "isName", desc := "()Z" } : Jvm.MethodName) ({ cls := "InchBorders$Reader", name := "isName", desc := "()Z" } : Jvm.MethodName)) ∈ lw_all := lw_g (lw_at lw_m3 239 rfl) rfl
theorem q907 : (Jvm.Cond.methodLink "InchBorders$MapReader" (71 : Nat) ({ cls := "InchBorders$MapReader", name := "find", desc := "(Ljava/util/ArrayList;)I" } : Jvm.MethodName)) ∈ lw_all := lw_g (lw_at lw_m4 76 rfl) rfl
theorem q908 : (Jvm.Cond.sameMethod "InchBorders$MapReader" "InchBorders$Reader" "find" "(Ljava/util/ArrayList;)I") ∈ lw_all := lw_g (lw_at lw_m4 77 rfl) rfl
theorem q910 : (Jvm.Cond.selects "InchBorders$MapReader" ({ cls := "InchBorders$MapReader", name := "find", desc := "(Ljava/util/ArrayList;)I" } : Jvm.MethodName) ({ cls := "InchBorders$Reader", name := "find", desc := "(Ljava/util/ArrayList;)I" } : Jvm.MethodName)) ∈ lw_all := lw_g (lw_at lw_m4 79 rfl) rfl
theorem q916 : (Jvm.Cond.methodLink "InchBorders$MapReader" (96 : Nat) ({ cls := "InchBorders$MapReader", name := "number", desc := "(II)I" } : Jvm.MethodName)) ∈ lw_all := lw_g (lw_at lw_m4 85 rfl) rfl
theorem q917 : (Jvm.Cond.sameMethod "InchBorders$MapReader" "InchBorders$Reader" "number" "(II)I") ∈ lw_all := lw_g (lw_at lw_m4 86 rfl) rfl
theorem q919 : (Jvm.Cond.selects "InchBorders$MapReader" ({ cls := "InchBorders$MapReader", name := "number", desc := "(II)I" } : Jvm.MethodName) ({ cls := "InchBorders$Reader", name := "number", desc := "(II)I" } : Jvm.MethodName)) ∈ lw_all := lw_g (lw_at lw_m4 88 rfl) rfl
theorem q927 : (Jvm.Cond.classLink "InchBorders$MapReader" (100 : Nat) "InchBorders$Land") ∈ lw_all := lw_g (lw_at lw_m4 96 rfl) rfl
theorem q929 : (Jvm.Cond.methodLink "InchBorders$MapReader" (102 : Nat) ({ cls := "InchBorders$Land", name := "<init>", desc := "(Ljava/lang/String;II)V" } : Jvm.MethodName)) ∈ lw_all := lw_g (lw_at lw_m4 98 rfl) rfl
theorem q942 : (Jvm.Cond.fieldLinkNest "InchBorders$MapReader" (120 : Nat) "InchBorders$Land" "store" "I" "InchBorders") ∈ lw_tbl := lw_at lw_m4 111 rfl
theorem q944 : (Jvm.Cond.fieldLinkNest "InchBorders$MapReader" (135 : Nat) "InchBorders$Land" "spares" "I" "InchBorders") ∈ lw_tbl := lw_at lw_m4 113 rfl
theorem q945 : (Jvm.Cond.fieldLinkNest "InchBorders$MapReader" (116 : Nat) "InchBorders$Land" "told" "Z" "InchBorders") ∈ lw_tbl := lw_at lw_m4 114 rfl
theorem q965 : (Jvm.Cond.methodLink "InchBorders$MapReader" (105 : Nat) ({ cls := "java/util/ArrayList", name := "add", desc := "(Ljava/lang/Object;)Z" } : Jvm.MethodName)) ∈ lw_all := lw_g (lw_at lw_m4 134 rfl) rfl
theorem q1001 : (Jvm.Cond.selects "InchBorders$MapReader" ({ cls := "java/lang/Object", name := "getClass", desc := "()Ljava/lang/Class;" } : Jvm.MethodName) ({ cls := "java/lang/Object", name := "getClass", desc := "()Ljava/lang/Class;" } : Jvm.MethodName)) ∈ lw_all := lw_g (lw_at lw_m4 170 rfl) rfl
theorem q1026 : (Jvm.Cond.stringRef "InchBorders$MapReader" (44 : Nat) "store") ∈ lw_tbl := lw_at lw_m4 195 rfl
theorem q1027 : (Jvm.Cond.methodLink "InchBorders$MapReader" (46 : Nat) ({ cls := "InchBorders$MapReader", name := "store", desc := "()V" } : Jvm.MethodName)) ∈ lw_all := lw_g (lw_at lw_m4 196 rfl) rfl
theorem q1028 : (Jvm.Cond.privateMethod ({ cls := "InchBorders$MapReader", name := "store", desc := "()V" } : Jvm.MethodName)) ∈ lw_tbl := lw_at lw_m4 197 rfl
theorem q1029 : (Jvm.Cond.instanceMethod ({ cls := "InchBorders$MapReader", name := "store", desc := "()V" } : Jvm.MethodName)) ∈ lw_all := lw_g (lw_at lw_m4 198 rfl) rfl
theorem q1030 : (Jvm.Cond.code ({ cls := "InchBorders$MapReader", name := "store", desc := "()V" } : Jvm.MethodName) prog_16_method_7_code (2 : Nat) (Option.none : Option Jvm.ClassFile.FieldType)) ∈ lw_all := lw_g (lw_at lw_m4 199 rfl) rfl
theorem q1031 : (Jvm.Cond.methodLink "InchBorders$MapReader" (109 : Nat) ({ cls := "InchBorders$MapReader", name := "hold", desc := "(Ljava/util/ArrayList;)I" } : Jvm.MethodName)) ∈ lw_all := lw_g (lw_at lw_m4 200 rfl) rfl
theorem q1032 : (Jvm.Cond.sameMethod "InchBorders$MapReader" "InchBorders$Reader" "hold" "(Ljava/util/ArrayList;)I") ∈ lw_all := lw_g (lw_at lw_m4 201 rfl) rfl
theorem q1034 : (Jvm.Cond.selects "InchBorders$MapReader" ({ cls := "InchBorders$MapReader", name := "hold", desc := "(Ljava/util/ArrayList;)I" } : Jvm.MethodName) ({ cls := "InchBorders$Reader", name := "hold", desc := "(Ljava/util/ArrayList;)I" } : Jvm.MethodName)) ∈ lw_all := lw_g (lw_at lw_m4 203 rfl) rfl
theorem q1039 : (Jvm.Cond.methodLink "InchBorders$MapReader" (112 : Nat) ({ cls := "java/util/ArrayList", name := "get", desc := "(I)Ljava/lang/Object;" } : Jvm.MethodName)) ∈ lw_all := lw_g (lw_at lw_m4 208 rfl) rfl
theorem q1040 : (Jvm.Cond.stringRef "InchBorders$MapReader" (48 : Nat) "road") ∈ lw_tbl := lw_at lw_m4 209 rfl
theorem q1041 : (Jvm.Cond.methodLink "InchBorders$MapReader" (50 : Nat) ({ cls := "InchBorders$MapReader", name := "road", desc := "()V" } : Jvm.MethodName)) ∈ lw_all := lw_g (lw_at lw_m4 210 rfl) rfl
theorem q1042 : (Jvm.Cond.privateMethod ({ cls := "InchBorders$MapReader", name := "road", desc := "()V" } : Jvm.MethodName)) ∈ lw_tbl := lw_at lw_m4 211 rfl
theorem q1043 : (Jvm.Cond.instanceMethod ({ cls := "InchBorders$MapReader", name := "road", desc := "()V" } : Jvm.MethodName)) ∈ lw_all := lw_g (lw_at lw_m4 212 rfl) rfl
theorem q1044 : (Jvm.Cond.code ({ cls := "InchBorders$MapReader", name := "road", desc := "()V" } : Jvm.MethodName) prog_16_method_8_code (4 : Nat) (Option.none : Option Jvm.ClassFile.FieldType)) ∈ lw_all := lw_g (lw_at lw_m4 213 rfl) rfl
theorem q1045 : (Jvm.Cond.methodLink "InchBorders$MapReader" (125 : Nat) ({ cls := "InchBorders$MapReader", name := "one", desc := "(Ljava/util/ArrayList;)I" } : Jvm.MethodName)) ∈ lw_all := lw_g (lw_at lw_m4 214 rfl) rfl
theorem q1046 : (Jvm.Cond.sameMethod "InchBorders$MapReader" "InchBorders$Reader" "one" "(Ljava/util/ArrayList;)I") ∈ lw_all := lw_g (lw_at lw_m4 215 rfl) rfl
theorem q1048 : (Jvm.Cond.selects "InchBorders$MapReader" ({ cls := "InchBorders$MapReader", name := "one", desc := "(Ljava/util/ArrayList;)I" } : Jvm.MethodName) ({ cls := "InchBorders$Reader", name := "one", desc := "(Ljava/util/ArrayList;)I" } : Jvm.MethodName)) ∈ lw_all := lw_g (lw_at lw_m4 217 rfl) rfl
theorem q1052 : (Jvm.Cond.methodLink "InchBorders$MapReader" (128 : Nat) ({ cls := "InchBorders$Atlas", name := "road", desc := "(II)I" } : Jvm.MethodName)) ∈ lw_all := lw_g (lw_at lw_m4 221 rfl) rfl
theorem q1062 : (Jvm.Cond.classLink "InchBorders$MapReader" (130 : Nat) "InchBorders$Road") ∈ lw_all := lw_g (lw_at lw_m4 231 rfl) rfl
theorem q1064 : (Jvm.Cond.methodLink "InchBorders$MapReader" (132 : Nat) ({ cls := "InchBorders$Road", name := "<init>", desc := "(IIII)V" } : Jvm.MethodName)) ∈ lw_all := lw_g (lw_at lw_m4 233 rfl) rfl
theorem q1087 : (Jvm.Cond.stringRef "InchBorders$MapReader" (52 : Nat) "treaty") ∈ lw_tbl := lw_at lw_m5 16 rfl
theorem q1088 : (Jvm.Cond.methodLink "InchBorders$MapReader" (54 : Nat) ({ cls := "InchBorders$MapReader", name := "treaty", desc := "()V" } : Jvm.MethodName)) ∈ lw_all := lw_g (lw_at lw_m5 17 rfl) rfl
theorem q1089 : (Jvm.Cond.privateMethod ({ cls := "InchBorders$MapReader", name := "treaty", desc := "()V" } : Jvm.MethodName)) ∈ lw_tbl := lw_at lw_m5 18 rfl
theorem q1090 : (Jvm.Cond.instanceMethod ({ cls := "InchBorders$MapReader", name := "treaty", desc := "()V" } : Jvm.MethodName)) ∈ lw_all := lw_g (lw_at lw_m5 19 rfl) rfl
theorem q1091 : (Jvm.Cond.code ({ cls := "InchBorders$MapReader", name := "treaty", desc := "()V" } : Jvm.MethodName) prog_16_method_9_code (3 : Nat) (Option.none : Option Jvm.ClassFile.FieldType)) ∈ lw_all := lw_g (lw_at lw_m5 20 rfl) rfl
theorem q1092 : (Jvm.Cond.methodLinkNest "InchBorders$MapReader" (138 : Nat) ({ cls := "InchBorders", name := "isOf", desc := "(II)Z" } : Jvm.MethodName) "InchBorders") ∈ lw_tbl := lw_at lw_m5 21 rfl
theorem q1095 : (Jvm.Cond.methodLink "InchBorders$MapReader" (56 : Nat) ({ cls := "InchBorders$MapReader", name := "person", desc := "()V" } : Jvm.MethodName)) ∈ lw_all := lw_g (lw_at lw_m5 24 rfl) rfl
theorem q1096 : (Jvm.Cond.privateMethod ({ cls := "InchBorders$MapReader", name := "person", desc := "()V" } : Jvm.MethodName)) ∈ lw_tbl := lw_at lw_m5 25 rfl
theorem q1097 : (Jvm.Cond.instanceMethod ({ cls := "InchBorders$MapReader", name := "person", desc := "()V" } : Jvm.MethodName)) ∈ lw_all := lw_g (lw_at lw_m5 26 rfl) rfl
theorem q1098 : (Jvm.Cond.code ({ cls := "InchBorders$MapReader", name := "person", desc := "()V" } : Jvm.MethodName) prog_16_method_10_code (3 : Nat) (Option.none : Option Jvm.ClassFile.FieldType)) ∈ lw_all := lw_g (lw_at lw_m5 27 rfl) rfl
theorem q1099 : (Jvm.Cond.stringRef "InchBorders$MapReader" (142 : Nat) "person") ∈ lw_tbl := lw_at lw_m5 28 rfl
theorem q1100 : (Jvm.Cond.classLink "InchBorders$MapReader" (143 : Nat) "InchBorders$Person") ∈ lw_all := lw_g (lw_at lw_m5 29 rfl) rfl
theorem q1102 : (Jvm.Cond.methodLink "InchBorders$MapReader" (145 : Nat) ({ cls := "InchBorders$Person", name := "<init>", desc := "(Ljava/lang/String;II)V" } : Jvm.MethodName)) ∈ lw_all := lw_g (lw_at lw_m5 31 rfl) rfl
theorem q1116 : (Jvm.Cond.methodLink "InchBorders$MapReader" (30 : Nat) ({ cls := "InchBorders$MapReader", name := "end", desc := "()V" } : Jvm.MethodName)) ∈ lw_all := lw_g (lw_at lw_m5 45 rfl) rfl
theorem q1117 : (Jvm.Cond.sameMethod "InchBorders$MapReader" "InchBorders$Reader" "end" "()V") ∈ lw_all := lw_g (lw_at lw_m5 46 rfl) rfl
theorem q1119 : (Jvm.Cond.selects "InchBorders$MapReader" ({ cls := "InchBorders$MapReader", name := "end", desc := "()V" } : Jvm.MethodName) ({ cls := "InchBorders$Reader", name := "end", desc := "()V" } : Jvm.MethodName)) ∈ lw_all := lw_g (lw_at lw_m5 48 rfl) rfl
theorem q2705 : (Jvm.Cond.selects "InchBorders$MapReader" ({ cls := "InchBorders$Reader", name := "need", desc := "(ZI)V" } : Jvm.MethodName) ({ cls := "InchBorders$Reader", name := "need", desc := "(ZI)V" } : Jvm.MethodName)) ∈ lw_all := lw_g (lw_at lw_m11 194 rfl) rfl
theorem q2709 : (Jvm.Cond.selects "InchBorders$MapReader" ({ cls := "InchBorders$Reader", name := "go", desc := "()V" } : Jvm.MethodName) ({ cls := "InchBorders$Reader", name := "go", desc := "()V" } : Jvm.MethodName)) ∈ lw_all := lw_g (lw_at lw_m11 198 rfl) rfl
theorem q2713 : (Jvm.Cond.selects "InchBorders$MapReader" ({ cls := "InchBorders$Reader", name := "isName", desc := "()Z" } : Jvm.MethodName) ({ cls := "InchBorders$Reader", name := "isName", desc := "()Z" } : Jvm.MethodName)) ∈ lw_all := lw_g (lw_at lw_m11 202 rfl) rfl
theorem q2717 : (Jvm.Cond.selects "InchBorders$MapReader" ({ cls := "InchBorders$Reader", name := "find", desc := "(Ljava/util/ArrayList;)I" } : Jvm.MethodName) ({ cls := "InchBorders$Reader", name := "find", desc := "(Ljava/util/ArrayList;)I" } : Jvm.MethodName)) ∈ lw_all := lw_g (lw_at lw_m11 206 rfl) rfl
theorem q2721 : (Jvm.Cond.selects "InchBorders$MapReader" ({ cls := "InchBorders$Reader", name := "hold", desc := "(Ljava/util/ArrayList;)I" } : Jvm.MethodName) ({ cls := "InchBorders$Reader", name := "hold", desc := "(Ljava/util/ArrayList;)I" } : Jvm.MethodName)) ∈ lw_all := lw_g (lw_at lw_m11 210 rfl) rfl
theorem q2737 : (Jvm.Cond.castable "InchBorders$MapReader" "java/lang/Object") ∈ lw_tbl := lw_at lw_m11 226 rfl
theorem in_X7 : ∀ w ∈ wsX70, w ∈ lw_all := lw_in wsX70 [497, 499, 501, 503, 505, 507, 509, 511, 513, 495] (by decide +kernel) (by decide +kernel)

/-! InchBorders$Fault -/
set_option maxRecDepth 100000
def RX8 : String := "InchBorders$Fault"
def TX8 : u_T := fun k => match k with
  | 0 => ("java/lang/Throwable", "cause", "Ljava/lang/Throwable;", false)
  | 1 => ("java/lang/Throwable", "stackTrace", "[Ljava/lang/StackTraceElement;", false)
  | 2 => ("java/lang/Throwable", "suppressedExceptions", "Ljava/util/List;", false)
  | 3 => ("java/lang/Throwable", "detailMessage", "Ljava/lang/String;", false)
  | 4 => ("java/lang/Throwable", "backtrace", "Ljava/lang/Object;", false)
  | 5 => ("java/lang/Throwable", "depth", "I", false)
  | 6 => ("InchBorders$Fault", "kind", "I", true)
  | _ => ("InchBorders$Fault", "place", "I", true)
def tyX8 : Nat → FieldType := fun k => match k with
  | 0 => .object "java/lang/Throwable"
  | 1 => .array (.object "java/lang/StackTraceElement")
  | 2 => .object "java/util/List"
  | 3 => .object "java/lang/String"
  | 4 => .object "java/lang/Object"
  | 5 => .int
  | 6 => .int
  | _ => .int
abbrev wsX80 : List Cond := u_ws RX8 TX8 8
theorem nmX8 : ∀ a, a < 8 → ∀ b, b < 8 → a ≠ b → (TX8 a).2.1 ≠ (TX8 b).2.1 := by decide +kernel
theorem tyX8_ok : ∀ k, k < 8 → parseFieldDescriptor (TX8 k).2.2.1 = some (tyX8 k) := by decide +kernel
abbrev cX8_init : ByteArray := prog_9_method_1_code
def yX8_init : MethodName := ⟨RX8, "<init>", "(II)V"⟩
def dkwX8_init_0 : List UInt8 := [42, 1, 1, 3, 3, 183, 0, 1, 42, 27, 181, 0, 7, 42, 28, 181, 0, 13, 177]
abbrev dktX8_init_0 : List UInt8 := dkwX8_init_0 ++ []
theorem dksX8_init_0 : cX8_init.data.toList.drop 0 = dktX8_init_0 := by decide +kernel
theorem dX8_init_0 : decode cX8_init 0 = .ok (.aload_n 0, 1) := dk_42 (dk_at dksX8_init_0 0 rfl rfl)
theorem dX8_init_1 : decode cX8_init 1 = .ok (.aconst_null, 1) := dk_1 (dk_at dksX8_init_0 1 rfl rfl)
theorem dX8_init_2 : decode cX8_init 2 = .ok (.aconst_null, 1) := dk_1 (dk_at dksX8_init_0 2 rfl rfl)
theorem dX8_init_3 : decode cX8_init 3 = .ok (.iconst 0, 1) := dk_3 (dk_at dksX8_init_0 3 rfl rfl)
theorem dX8_init_4 : decode cX8_init 4 = .ok (.iconst 0, 1) := dk_3 (dk_at dksX8_init_0 4 rfl rfl)
theorem dX8_init_5 : decode cX8_init 5 = .ok (.invokespecial 1, 3) := dk_183 0 1 (dk_at dksX8_init_0 5 rfl rfl)
theorem dX8_init_8 : decode cX8_init 8 = .ok (.aload_n 0, 1) := dk_42 (dk_at dksX8_init_0 8 rfl rfl)
theorem dX8_init_9 : decode cX8_init 9 = .ok (.iload_n 1, 1) := dk_27 (dk_at dksX8_init_0 9 rfl rfl)
theorem dX8_init_10 : decode cX8_init 10 = .ok (.putfield 7, 3) := dk_181 0 7 (dk_at dksX8_init_0 10 rfl rfl)
theorem dX8_init_13 : decode cX8_init 13 = .ok (.aload_n 0, 1) := dk_42 (dk_at dksX8_init_0 13 rfl rfl)
theorem dX8_init_14 : decode cX8_init 14 = .ok (.iload_n 2, 1) := dk_28 (dk_at dksX8_init_0 14 rfl rfl)
theorem dX8_init_15 : decode cX8_init 15 = .ok (.putfield 13, 3) := dk_181 0 13 (dk_at dksX8_init_0 15 rfl rfl)
theorem dX8_init_18 : decode cX8_init 18 = .ok (.return_, 1) := dk_177 (dk_at dksX8_init_0 18 rfl rfl)
theorem q135 : (Jvm.Cond.initialized "InchBorders$Fault") ∈ lw_all := lw_g (lw_at lw_m1 24 rfl) rfl
theorem q756 : (Jvm.Cond.instantiable "InchBorders$Fault" (8 : Nat)) ∈ lw_all := lw_g (lw_at lw_m3 165 rfl) rfl
theorem q757 : (Jvm.Cond.castable "InchBorders$Fault" "InchBorders$Fault") ∈ lw_tbl := lw_at lw_m3 166 rfl
theorem q762 : (Jvm.Cond.selects "InchBorders$Fault" ({ cls := "java/lang/Throwable", name := "fillInStackTrace", desc := "(I)Ljava/lang/Throwable;" } : Jvm.MethodName) ({ cls := "java/lang/Throwable", name := "fillInStackTrace", desc := "(I)Ljava/lang/Throwable;" } : Jvm.MethodName)) ∈ lw_all := lw_g (lw_at lw_m3 171 rfl) rfl
theorem q763 : (Jvm.Cond.selects "InchBorders$Fault" ({ cls := "java/lang/Throwable", name := "fillInStackTrace", desc := "()Ljava/lang/Throwable;" } : Jvm.MethodName) ({ cls := "java/lang/Throwable", name := "fillInStackTrace", desc := "()Ljava/lang/Throwable;" } : Jvm.MethodName)) ∈ lw_all := lw_g (lw_at lw_m3 172 rfl) rfl
theorem q764 : (Jvm.Cond.lays "InchBorders$Fault" "java/lang/Throwable" "cause" "Ljava/lang/Throwable;") ∈ lw_all := lw_g (lw_at lw_m3 173 rfl) rfl
theorem q766 : (Jvm.Cond.lays "InchBorders$Fault" "java/lang/Throwable" "stackTrace" "[Ljava/lang/StackTraceElement;") ∈ lw_all := lw_g (lw_at lw_m3 175 rfl) rfl
theorem q768 : (Jvm.Cond.lays "InchBorders$Fault" "java/lang/Throwable" "suppressedExceptions" "Ljava/util/List;") ∈ lw_all := lw_g (lw_at lw_m3 177 rfl) rfl
theorem q770 : (Jvm.Cond.lays "InchBorders$Fault" "java/lang/Throwable" "detailMessage" "Ljava/lang/String;") ∈ lw_all := lw_g (lw_at lw_m3 179 rfl) rfl
theorem q772 : (Jvm.Cond.lays "InchBorders$Fault" "java/lang/Throwable" "backtrace" "Ljava/lang/Object;") ∈ lw_all := lw_g (lw_at lw_m3 181 rfl) rfl
theorem q794 : (Jvm.Cond.instanceMethod ({ cls := "InchBorders$Fault", name := "<init>", desc := "(II)V" } : Jvm.MethodName)) ∈ lw_all := lw_g (lw_at lw_m3 203 rfl) rfl
theorem q795 : (Jvm.Cond.code ({ cls := "InchBorders$Fault", name := "<init>", desc := "(II)V" } : Jvm.MethodName) prog_9_method_1_code (3 : Nat) (Option.none : Option Jvm.ClassFile.FieldType)) ∈ lw_all := lw_g (lw_at lw_m3 204 rfl) rfl
theorem q796 : (Jvm.Cond.methodLink "InchBorders$Fault" (1 : Nat) ({ cls := "java/lang/Exception", name := "<init>", desc := "(Ljava/lang/String;Ljava/lang/Throwable;ZZ)V" } : Jvm.MethodName)) ∈ lw_all := lw_g (lw_at lw_m3 205 rfl) rfl
theorem q802 : (Jvm.Cond.fieldLink "InchBorders$Fault" (7 : Nat) "InchBorders$Fault" "kind" "I") ∈ lw_all := lw_g (lw_at lw_m3 211 rfl) rfl
theorem q804 : (Jvm.Cond.fieldLink "InchBorders$Fault" (13 : Nat) "InchBorders$Fault" "place" "I") ∈ lw_all := lw_g (lw_at lw_m3 213 rfl) rfl
theorem q811 : (Jvm.Cond.laysFinal "InchBorders$Fault" "InchBorders$Fault" "kind" "I") ∈ lw_all := lw_g (lw_at lw_m3 220 rfl) rfl
theorem q812 : (Jvm.Cond.soleField "InchBorders$Fault" "kind") ∈ lw_all := lw_g (lw_at lw_m3 221 rfl) rfl
theorem q813 : (Jvm.Cond.laysFinal "InchBorders$Fault" "InchBorders$Fault" "place" "I") ∈ lw_all := lw_g (lw_at lw_m3 222 rfl) rfl
theorem q814 : (Jvm.Cond.soleField "InchBorders$Fault" "place") ∈ lw_all := lw_g (lw_at lw_m3 223 rfl) rfl
theorem q819 : (Jvm.Cond.lays "InchBorders$Fault" "java/lang/Throwable" "depth" "I") ∈ lw_all := lw_g (lw_at lw_m3 228 rfl) rfl
theorem q822 : (Jvm.Cond.superclass "InchBorders$Fault" "java/lang/Exception") ∈ lw_all := lw_g (lw_at lw_m3 231 rfl) rfl
theorem q994 : (Jvm.Cond.selects "InchBorders$Fault" ({ cls := "java/lang/Object", name := "getClass", desc := "()Ljava/lang/Class;" } : Jvm.MethodName) ({ cls := "java/lang/Object", name := "getClass", desc := "()Ljava/lang/Class;" } : Jvm.MethodName)) ∈ lw_all := lw_g (lw_at lw_m4 163 rfl) rfl
theorem q2740 : (Jvm.Cond.castable "InchBorders$Fault" "java/lang/Object") ∈ lw_tbl := lw_at lw_m11 229 rfl
theorem in_X8 : ∀ w ∈ wsX80, w ∈ lw_all := lw_in wsX80 [764, 766, 768, 770, 772, 819, 811, 813] (by decide +kernel) (by decide +kernel)

/-! InchBorders$Named -/
set_option maxRecDepth 100000
def RX9 : String := "InchBorders$Named"
abbrev cX9_init : ByteArray := prog_17_method_1_code
def yX9_init : MethodName := ⟨RX9, "<init>", "(Ljava/lang/String;)V"⟩
def dkwX9_init_0 : List UInt8 := [42, 183, 0, 1, 42, 43, 181, 0, 7, 177]
abbrev dktX9_init_0 : List UInt8 := dkwX9_init_0 ++ []
theorem dksX9_init_0 : cX9_init.data.toList.drop 0 = dktX9_init_0 := by decide +kernel
theorem dX9_init_0 : decode cX9_init 0 = .ok (.aload_n 0, 1) := dk_42 (dk_at dksX9_init_0 0 rfl rfl)
theorem dX9_init_1 : decode cX9_init 1 = .ok (.invokespecial 1, 3) := dk_183 0 1 (dk_at dksX9_init_0 1 rfl rfl)
theorem dX9_init_4 : decode cX9_init 4 = .ok (.aload_n 0, 1) := dk_42 (dk_at dksX9_init_0 4 rfl rfl)
theorem dX9_init_5 : decode cX9_init 5 = .ok (.aload_n 1, 1) := dk_43 (dk_at dksX9_init_0 5 rfl rfl)
theorem dX9_init_6 : decode cX9_init 6 = .ok (.putfield 7, 3) := dk_181 0 7 (dk_at dksX9_init_0 6 rfl rfl)
theorem dX9_init_9 : decode cX9_init 9 = .ok (.return_, 1) := dk_177 (dk_at dksX9_init_0 9 rfl rfl)
theorem q136 : (Jvm.Cond.initialized "InchBorders$Named") ∈ lw_all := lw_g (lw_at lw_m1 25 rfl) rfl
theorem q933 : (Jvm.Cond.instanceMethod ({ cls := "InchBorders$Named", name := "<init>", desc := "(Ljava/lang/String;)V" } : Jvm.MethodName)) ∈ lw_all := lw_g (lw_at lw_m4 102 rfl) rfl
theorem q934 : (Jvm.Cond.code ({ cls := "InchBorders$Named", name := "<init>", desc := "(Ljava/lang/String;)V" } : Jvm.MethodName) prog_17_method_1_code (2 : Nat) (Option.none : Option Jvm.ClassFile.FieldType)) ∈ lw_all := lw_g (lw_at lw_m4 103 rfl) rfl
theorem q935 : (Jvm.Cond.methodLink "InchBorders$Named" (1 : Nat) ({ cls := "java/lang/Object", name := "<init>", desc := "()V" } : Jvm.MethodName)) ∈ lw_all := lw_g (lw_at lw_m4 104 rfl) rfl
theorem q946 : (Jvm.Cond.fieldLink "InchBorders$Named" (7 : Nat) "InchBorders$Named" "name" "Ljava/lang/String;") ∈ lw_all := lw_g (lw_at lw_m4 115 rfl) rfl
theorem q963 : (Jvm.Cond.soleField "InchBorders$Named" "name") ∈ lw_all := lw_g (lw_at lw_m4 132 rfl) rfl
