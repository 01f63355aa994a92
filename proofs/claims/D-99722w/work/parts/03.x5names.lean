/-! InchBordersModel -/
set_option maxRecDepth 100000
def RX5 : String := "InchBordersModel"
def TX5 : u_T := fun k => match k with
  | 0 => ("InchBordersModel", "thrown", "I", false)
  | 1 => ("InchBordersModel", "tape", "[B", true)
  | 2 => ("InchBordersModel", "length", "I", false)
  | 3 => ("InchBordersModel", "size", "I", false)
  | 4 => ("InchBordersModel", "p", "I", false)
  | 5 => ("InchBordersModel", "limit", "I", false)
  | 6 => ("InchBordersModel", "s", "[I", true)
  | 7 => ("InchBordersModel", "h", "[I", true)
  | 8 => ("InchBordersModel", "read", "[I", true)
  | 9 => ("InchBordersModel", "names", "[J", true)
  | 10 => ("InchBordersModel", "reserved", "[J", true)
  | 11 => ("InchBordersModel", "token", "I", false)
  | 12 => ("InchBordersModel", "at", "I", false)
  | 13 => ("InchBordersModel", "span", "I", false)
  | 14 => ("InchBordersModel", "number", "I", false)
  | 15 => ("InchBordersModel", "fault", "I", false)
  | 16 => ("InchBordersModel", "faultAt", "I", false)
  | 17 => ("InchBordersModel", "word", "J", false)
  | 18 => ("InchBordersModel", "got", "I", false)
  | 19 => ("InchBordersModel", "lines", "I", false)
  | 20 => ("InchBordersModel", "stored", "I", false)
  | 21 => ("InchBordersModel", "undone", "[I", true)
  | 22 => ("InchBordersModel", "before", "[I", true)
  | 23 => ("InchBordersModel", "undoMany", "I", false)
  | 24 => ("InchBordersModel", "where", "[I", true)
  | 25 => ("InchBordersModel", "much", "[I", true)
  | 26 => ("InchBordersModel", "store", "[I", true)
  | 27 => ("InchBordersModel", "step", "[I", true)
  | 28 => ("InchBordersModel", "depth", "I", false)
  | 29 => ("InchBordersModel", "sparing", "I", false)
  | 30 => ("InchBordersModel", "home", "I", false)
  | 31 => ("InchBordersModel", "wayRow", "[I", true)
  | 32 => ("InchBordersModel", "madeRow", "[I", true)
  | 33 => ("InchBordersModel", "ends", "[I", true)
  | 34 => ("InchBordersModel", "wayMany", "I", false)
  | 35 => ("InchBordersModel", "madeMany", "I", false)
  | 36 => ("InchBordersModel", "likelyLand", "I", false)
  | 37 => ("InchBordersModel", "sparedSet", "I", false)
  | 38 => ("InchBordersModel", "hasSpared", "Z", false)
  | 39 => ("InchBordersModel", "order", "[I", true)
  | 40 => ("InchBordersModel", "caravanRow", "[I", true)
  | 41 => ("InchBordersModel", "caravanMany", "I", false)
  | 42 => ("InchBordersModel", "partSet", "I", false)
  | 43 => ("InchBordersModel", "hasPart", "Z", false)
  | 44 => ("InchBordersModel", "text", "[B", true)
  | 45 => ("InchBordersModel", "textMany", "I", false)
  | 46 => ("InchBordersModel", "seed", "I", false)
  | 47 => ("InchBordersModel", "toldMany", "I", false)
  | 48 => ("InchBordersModel", "toldAt", "[I", true)
  | 49 => ("InchBordersModel", "hasTold", "Z", false)
  | 50 => ("InchBordersModel", "stack", "[I", true)
  | 51 => ("InchBordersModel", "codes", "I", false)
  | 52 => ("InchBordersModel", "ones", "I", false)
  | 53 => ("InchBordersModel", "top", "I", false)
  | 54 => ("InchBordersModel", "deep", "I", false)
  | 55 => ("InchBordersModel", "isWhole", "Z", false)
  | 56 => ("InchBordersModel", "truths", "[Z", true)
  | 57 => ("InchBordersModel", "imaged", "[I", true)
  | 58 => ("InchBordersModel", "namesKept", "[J", true)
  | _ => ("InchBordersModel", "areKept", "[Z", true)
def tyX5 : Nat → FieldType := fun k => match k with
  | 0 => .int
  | 1 => .array .byte
  | 2 => .int
  | 3 => .int
  | 4 => .int
  | 5 => .int
  | 6 => .array .int
  | 7 => .array .int
  | 8 => .array .int
  | 9 => .array .long
  | 10 => .array .long
  | 11 => .int
  | 12 => .int
  | 13 => .int
  | 14 => .int
  | 15 => .int
  | 16 => .int
  | 17 => .long
  | 18 => .int
  | 19 => .int
  | 20 => .int
  | 21 => .array .int
  | 22 => .array .int
  | 23 => .int
  | 24 => .array .int
  | 25 => .array .int
  | 26 => .array .int
  | 27 => .array .int
  | 28 => .int
  | 29 => .int
  | 30 => .int
  | 31 => .array .int
  | 32 => .array .int
  | 33 => .array .int
  | 34 => .int
  | 35 => .int
  | 36 => .int
  | 37 => .int
  | 38 => .boolean
  | 39 => .array .int
  | 40 => .array .int
  | 41 => .int
  | 42 => .int
  | 43 => .boolean
  | 44 => .array .byte
  | 45 => .int
  | 46 => .int
  | 47 => .int
  | 48 => .array .int
  | 49 => .boolean
  | 50 => .array .int
  | 51 => .int
  | 52 => .int
  | 53 => .int
  | 54 => .int
  | 55 => .boolean
  | 56 => .array .boolean
  | 57 => .array .int
  | 58 => .array .long
  | _ => .array .boolean
abbrev wsX50 : List Cond := u_ws RX5 TX5 60
set_option maxRecDepth 100000 in
theorem nmX5 : ∀ a, a < 60 → ∀ b, b < 60 → a ≠ b → (TX5 a).2.1 ≠ (TX5 b).2.1 := by decide +kernel
set_option maxRecDepth 100000 in
theorem tyX5_ok : ∀ k, k < 60 → parseFieldDescriptor (TX5 k).2.2.1 = some (tyX5 k) := by decide +kernel
abbrev cX5_thrown : ByteArray := prog_32_method_1_code
def yX5_thrown : MethodName := ⟨RX5, "thrown", "()I"⟩
theorem dX5_thrown_0 : decode cX5_thrown 0 = .ok (.aload_n 0, 1) := by decide +kernel
theorem dX5_thrown_1 : decode cX5_thrown 1 = .ok (.getfield 1, 3) := by decide +kernel
theorem dX5_thrown_4 : decode cX5_thrown 4 = .ok (.ireturn, 1) := by decide +kernel
abbrev cX5_feed : ByteArray := prog_32_method_3_code
def yX5_feed : MethodName := ⟨RX5, "feed", "(IIIII)I"⟩
def dkwX5_feed_2 : List UInt8 := [182, 0, 10, 42, 180, 0, 7, 172]
abbrev dktX5_feed_2 : List UInt8 := dkwX5_feed_2 ++ []
def dkwX5_feed_1 : List UInt8 := [182, 0, 10, 42, 28, 182, 0, 10, 42, 29, 182, 0, 10, 42, 21, 4, 182, 0, 10, 42, 21, 5]
abbrev dktX5_feed_1 : List UInt8 := dkwX5_feed_1 ++ dktX5_feed_2
def dkwX5_feed_0 : List UInt8 := [42, 3, 181, 0, 1, 42, 180, 0, 7, 16, 20, 96, 17, 3, 172, 164, 0, 5, 2, 172, 42, 27]
abbrev dktX5_feed_0 : List UInt8 := dkwX5_feed_0 ++ dktX5_feed_1
theorem dksX5_feed_0 : cX5_feed.data.toList.drop 0 = dktX5_feed_0 := by decide +kernel
theorem dksX5_feed_1 : cX5_feed.data.toList.drop 22 = dktX5_feed_1 := dk_seg dksX5_feed_0 22 rfl rfl
theorem dksX5_feed_2 : cX5_feed.data.toList.drop 44 = dktX5_feed_2 := dk_seg dksX5_feed_1 22 rfl rfl
theorem dX5_feed_0 : decode cX5_feed 0 = .ok (.aload_n 0, 1) := dk_42 (dk_at dksX5_feed_0 0 rfl rfl)
theorem dX5_feed_1 : decode cX5_feed 1 = .ok (.iconst 0, 1) := dk_3 (dk_at dksX5_feed_0 1 rfl rfl)
theorem dX5_feed_2 : decode cX5_feed 2 = .ok (.putfield 1, 3) := dk_181 0 1 (dk_at dksX5_feed_0 2 rfl rfl)
theorem dX5_feed_5 : decode cX5_feed 5 = .ok (.aload_n 0, 1) := dk_42 (dk_at dksX5_feed_0 5 rfl rfl)
theorem dX5_feed_6 : decode cX5_feed 6 = .ok (.getfield 7, 3) := dk_180 0 7 (dk_at dksX5_feed_0 6 rfl rfl)
theorem dX5_feed_9 : decode cX5_feed 9 = .ok (.bipush 20, 2) := dk_16 20 (dk_at dksX5_feed_0 9 rfl rfl)
theorem dX5_feed_11 : decode cX5_feed 11 = .ok (.iadd, 1) := dk_96 (dk_at dksX5_feed_0 11 rfl rfl)
theorem dX5_feed_12 : decode cX5_feed 12 = .ok (.sipush 940, 3) := dk_17 3 172 (dk_at dksX5_feed_0 12 rfl rfl)
theorem dX5_feed_15 : decode cX5_feed 15 = .ok (.if_icmp .le 5, 3) := dk_164 0 5 (dk_at dksX5_feed_0 15 rfl rfl)
theorem dX5_feed_18 : decode cX5_feed 18 = .ok (.iconst (-1), 1) := dk_2 (dk_at dksX5_feed_0 18 rfl rfl)
theorem dX5_feed_19 : decode cX5_feed 19 = .ok (.ireturn, 1) := dk_172 (dk_at dksX5_feed_0 19 rfl rfl)
theorem dX5_feed_20 : decode cX5_feed 20 = .ok (.aload_n 0, 1) := dk_42 (dk_at dksX5_feed_0 20 rfl rfl)
theorem dX5_feed_21 : decode cX5_feed 21 = .ok (.iload_n 1, 1) := dk_27 (dk_at dksX5_feed_0 21 rfl rfl)
theorem dX5_feed_22 : decode cX5_feed 22 = .ok (.invokevirtual 10, 3) := dk_182 0 10 (dk_at dksX5_feed_1 0 rfl rfl)
theorem dX5_feed_25 : decode cX5_feed 25 = .ok (.aload_n 0, 1) := dk_42 (dk_at dksX5_feed_1 3 rfl rfl)
theorem dX5_feed_26 : decode cX5_feed 26 = .ok (.iload_n 2, 1) := dk_28 (dk_at dksX5_feed_1 4 rfl rfl)
theorem dX5_feed_27 : decode cX5_feed 27 = .ok (.invokevirtual 10, 3) := dk_182 0 10 (dk_at dksX5_feed_1 5 rfl rfl)
theorem dX5_feed_30 : decode cX5_feed 30 = .ok (.aload_n 0, 1) := dk_42 (dk_at dksX5_feed_1 8 rfl rfl)
theorem dX5_feed_31 : decode cX5_feed 31 = .ok (.iload_n 3, 1) := dk_29 (dk_at dksX5_feed_1 9 rfl rfl)
theorem dX5_feed_32 : decode cX5_feed 32 = .ok (.invokevirtual 10, 3) := dk_182 0 10 (dk_at dksX5_feed_1 10 rfl rfl)
theorem dX5_feed_35 : decode cX5_feed 35 = .ok (.aload_n 0, 1) := dk_42 (dk_at dksX5_feed_1 13 rfl rfl)
theorem dX5_feed_36 : decode cX5_feed 36 = .ok (.iload 4, 2) := dk_21 4 (dk_at dksX5_feed_1 14 rfl rfl)
theorem dX5_feed_38 : decode cX5_feed 38 = .ok (.invokevirtual 10, 3) := dk_182 0 10 (dk_at dksX5_feed_1 16 rfl rfl)
theorem dX5_feed_41 : decode cX5_feed 41 = .ok (.aload_n 0, 1) := dk_42 (dk_at dksX5_feed_1 19 rfl rfl)
theorem dX5_feed_42 : decode cX5_feed 42 = .ok (.iload 5, 2) := dk_21 5 (dk_at dksX5_feed_1 20 rfl rfl)
theorem dX5_feed_44 : decode cX5_feed 44 = .ok (.invokevirtual 10, 3) := dk_182 0 10 (dk_at dksX5_feed_2 0 rfl rfl)
theorem dX5_feed_47 : decode cX5_feed 47 = .ok (.aload_n 0, 1) := dk_42 (dk_at dksX5_feed_2 3 rfl rfl)
theorem dX5_feed_48 : decode cX5_feed 48 = .ok (.getfield 7, 3) := dk_180 0 7 (dk_at dksX5_feed_2 4 rfl rfl)
theorem dX5_feed_51 : decode cX5_feed 51 = .ok (.ireturn, 1) := dk_172 (dk_at dksX5_feed_2 7 rfl rfl)
abbrev cX5_four : ByteArray := prog_32_method_4_code
def yX5_four : MethodName := ⟨RX5, "four", "(I)V"⟩
def dkwX5_four_1 : List UInt8 := [180, 0, 7, 4, 96, 181, 0, 7, 132, 2, 248, 167, 255, 226, 177]
abbrev dktX5_four_1 : List UInt8 := dkwX5_four_1 ++ []
def dkwX5_four_0 : List UInt8 := [16, 24, 61, 28, 155, 0, 32, 42, 180, 0, 14, 42, 180, 0, 7, 27, 28, 122, 145, 84, 42, 89]
abbrev dktX5_four_0 : List UInt8 := dkwX5_four_0 ++ dktX5_four_1
theorem dksX5_four_0 : cX5_four.data.toList.drop 0 = dktX5_four_0 := by decide +kernel
theorem dksX5_four_1 : cX5_four.data.toList.drop 22 = dktX5_four_1 := dk_seg dksX5_four_0 22 rfl rfl
theorem dX5_four_0 : decode cX5_four 0 = .ok (.bipush 24, 2) := dk_16 24 (dk_at dksX5_four_0 0 rfl rfl)
theorem dX5_four_2 : decode cX5_four 2 = .ok (.istore_n 2, 1) := dk_61 (dk_at dksX5_four_0 2 rfl rfl)
theorem dX5_four_3 : decode cX5_four 3 = .ok (.iload_n 2, 1) := dk_28 (dk_at dksX5_four_0 3 rfl rfl)
theorem dX5_four_4 : decode cX5_four 4 = .ok (.ifCond .lt 32, 3) := dk_155 0 32 (dk_at dksX5_four_0 4 rfl rfl)
theorem dX5_four_7 : decode cX5_four 7 = .ok (.aload_n 0, 1) := dk_42 (dk_at dksX5_four_0 7 rfl rfl)
theorem dX5_four_8 : decode cX5_four 8 = .ok (.getfield 14, 3) := dk_180 0 14 (dk_at dksX5_four_0 8 rfl rfl)
theorem dX5_four_11 : decode cX5_four 11 = .ok (.aload_n 0, 1) := dk_42 (dk_at dksX5_four_0 11 rfl rfl)
theorem dX5_four_12 : decode cX5_four 12 = .ok (.getfield 7, 3) := dk_180 0 7 (dk_at dksX5_four_0 12 rfl rfl)
theorem dX5_four_15 : decode cX5_four 15 = .ok (.iload_n 1, 1) := dk_27 (dk_at dksX5_four_0 15 rfl rfl)
theorem dX5_four_16 : decode cX5_four 16 = .ok (.iload_n 2, 1) := dk_28 (dk_at dksX5_four_0 16 rfl rfl)
theorem dX5_four_17 : decode cX5_four 17 = .ok (.ishr, 1) := dk_122 (dk_at dksX5_four_0 17 rfl rfl)
theorem dX5_four_18 : decode cX5_four 18 = .ok (.i2b, 1) := dk_145 (dk_at dksX5_four_0 18 rfl rfl)
theorem dX5_four_19 : decode cX5_four 19 = .ok (.bastore, 1) := dk_84 (dk_at dksX5_four_0 19 rfl rfl)
theorem dX5_four_20 : decode cX5_four 20 = .ok (.aload_n 0, 1) := dk_42 (dk_at dksX5_four_0 20 rfl rfl)
theorem dX5_four_21 : decode cX5_four 21 = .ok (.dup, 1) := dk_89 (dk_at dksX5_four_0 21 rfl rfl)
theorem dX5_four_22 : decode cX5_four 22 = .ok (.getfield 7, 3) := dk_180 0 7 (dk_at dksX5_four_1 0 rfl rfl)
theorem dX5_four_25 : decode cX5_four 25 = .ok (.iconst 1, 1) := dk_4 (dk_at dksX5_four_1 3 rfl rfl)
theorem dX5_four_26 : decode cX5_four 26 = .ok (.iadd, 1) := dk_96 (dk_at dksX5_four_1 4 rfl rfl)
theorem dX5_four_27 : decode cX5_four 27 = .ok (.putfield 7, 3) := dk_181 0 7 (dk_at dksX5_four_1 5 rfl rfl)
theorem dX5_four_30 : decode cX5_four 30 = .ok (.iinc 2 (-8), 3) := dk_132 2 248 (dk_at dksX5_four_1 8 rfl rfl)
theorem dX5_four_33 : decode cX5_four 33 = .ok (.goto (-30), 3) := dk_167 255 226 (dk_at dksX5_four_1 11 rfl rfl)
theorem dX5_four_36 : decode cX5_four 36 = .ok (.return_, 1) := dk_177 (dk_at dksX5_four_1 14 rfl rfl)
abbrev cX5_end : ByteArray := prog_32_method_5_code
def yX5_end : MethodName := ⟨RX5, "end", "(I)Z"⟩
def dkwX5_end_1 : List UInt8 := [4, 172]
abbrev dktX5_end_1 : List UInt8 := dkwX5_end_1 ++ []
def dkwX5_end_0 : List UInt8 := [42, 3, 181, 0, 1, 27, 155, 0, 11, 27, 42, 180, 0, 7, 164, 0, 5, 3, 172, 42, 27, 181, 0, 7]
abbrev dktX5_end_0 : List UInt8 := dkwX5_end_0 ++ dktX5_end_1
theorem dksX5_end_0 : cX5_end.data.toList.drop 0 = dktX5_end_0 := by decide +kernel
theorem dksX5_end_1 : cX5_end.data.toList.drop 24 = dktX5_end_1 := dk_seg dksX5_end_0 24 rfl rfl
theorem dX5_end_0 : decode cX5_end 0 = .ok (.aload_n 0, 1) := dk_42 (dk_at dksX5_end_0 0 rfl rfl)
theorem dX5_end_1 : decode cX5_end 1 = .ok (.iconst 0, 1) := dk_3 (dk_at dksX5_end_0 1 rfl rfl)
theorem dX5_end_2 : decode cX5_end 2 = .ok (.putfield 1, 3) := dk_181 0 1 (dk_at dksX5_end_0 2 rfl rfl)
theorem dX5_end_5 : decode cX5_end 5 = .ok (.iload_n 1, 1) := dk_27 (dk_at dksX5_end_0 5 rfl rfl)
theorem dX5_end_6 : decode cX5_end 6 = .ok (.ifCond .lt 11, 3) := dk_155 0 11 (dk_at dksX5_end_0 6 rfl rfl)
theorem dX5_end_9 : decode cX5_end 9 = .ok (.iload_n 1, 1) := dk_27 (dk_at dksX5_end_0 9 rfl rfl)
theorem dX5_end_10 : decode cX5_end 10 = .ok (.aload_n 0, 1) := dk_42 (dk_at dksX5_end_0 10 rfl rfl)
theorem dX5_end_11 : decode cX5_end 11 = .ok (.getfield 7, 3) := dk_180 0 7 (dk_at dksX5_end_0 11 rfl rfl)
theorem dX5_end_14 : decode cX5_end 14 = .ok (.if_icmp .le 5, 3) := dk_164 0 5 (dk_at dksX5_end_0 14 rfl rfl)
theorem dX5_end_17 : decode cX5_end 17 = .ok (.iconst 0, 1) := dk_3 (dk_at dksX5_end_0 17 rfl rfl)
theorem dX5_end_18 : decode cX5_end 18 = .ok (.ireturn, 1) := dk_172 (dk_at dksX5_end_0 18 rfl rfl)
theorem dX5_end_19 : decode cX5_end 19 = .ok (.aload_n 0, 1) := dk_42 (dk_at dksX5_end_0 19 rfl rfl)
theorem dX5_end_20 : decode cX5_end 20 = .ok (.iload_n 1, 1) := dk_27 (dk_at dksX5_end_0 20 rfl rfl)
theorem dX5_end_21 : decode cX5_end 21 = .ok (.putfield 7, 3) := dk_181 0 7 (dk_at dksX5_end_0 21 rfl rfl)
theorem dX5_end_24 : decode cX5_end 24 = .ok (.iconst 1, 1) := dk_4 (dk_at dksX5_end_1 0 rfl rfl)
theorem dX5_end_25 : decode cX5_end 25 = .ok (.ireturn, 1) := dk_172 (dk_at dksX5_end_1 1 rfl rfl)
abbrev cX5_init : ByteArray := prog_32_method_13_code
def yX5_init : MethodName := ⟨RX5, "<init>", "()V"⟩
def dkwX5_init_20 : List UInt8 := [180, 0, 37, 27, 46, 79, 132, 1, 1, 167, 255, 235, 177]
abbrev dktX5_init_20 : List UInt8 := dkwX5_init_20 ++ []
def dkwX5_init_19 : List UInt8 := [16, 23, 20, 0, 160, 80, 42, 182, 0, 162, 3, 60, 27, 16, 91, 162, 0, 21, 42, 180, 0, 33, 27, 42]
abbrev dktX5_init_19 : List UInt8 := dkwX5_init_19 ++ dktX5_init_20
def dkwX5_init_18 : List UInt8 := [42, 180, 0, 47, 16, 21, 20, 0, 156, 80, 42, 180, 0, 47, 16, 22, 20, 0, 158, 80, 42, 180, 0, 47]
abbrev dktX5_init_18 : List UInt8 := dkwX5_init_18 ++ dktX5_init_19
def dkwX5_init_17 : List UInt8 := [20, 0, 150, 80, 42, 180, 0, 47, 16, 19, 20, 0, 152, 80, 42, 180, 0, 47, 16, 20, 20, 0, 154, 80]
abbrev dktX5_init_17 : List UInt8 := dkwX5_init_17 ++ dktX5_init_18
def dkwX5_init_16 : List UInt8 := [16, 16, 20, 0, 146, 80, 42, 180, 0, 47, 16, 17, 20, 0, 148, 80, 42, 180, 0, 47, 16, 18]
abbrev dktX5_init_16 : List UInt8 := dkwX5_init_16 ++ dktX5_init_17
def dkwX5_init_15 : List UInt8 := [42, 180, 0, 47, 16, 14, 20, 0, 142, 80, 42, 180, 0, 47, 16, 15, 20, 0, 144, 80, 42, 180, 0, 47]
abbrev dktX5_init_15 : List UInt8 := dkwX5_init_15 ++ dktX5_init_16
def dkwX5_init_14 : List UInt8 := [20, 0, 136, 80, 42, 180, 0, 47, 16, 12, 20, 0, 138, 80, 42, 180, 0, 47, 16, 13, 20, 0, 140, 80]
abbrev dktX5_init_14 : List UInt8 := dkwX5_init_14 ++ dktX5_init_15
def dkwX5_init_13 : List UInt8 := [16, 9, 20, 0, 132, 80, 42, 180, 0, 47, 16, 10, 20, 0, 134, 80, 42, 180, 0, 47, 16, 11]
abbrev dktX5_init_13 : List UInt8 := dkwX5_init_13 ++ dktX5_init_14
def dkwX5_init_12 : List UInt8 := [180, 0, 47, 16, 7, 20, 0, 128, 80, 42, 180, 0, 47, 16, 8, 20, 0, 130, 80, 42, 180, 0, 47]
abbrev dktX5_init_12 : List UInt8 := dkwX5_init_12 ++ dktX5_init_13
def dkwX5_init_11 : List UInt8 := [20, 0, 122, 80, 42, 180, 0, 47, 8, 20, 0, 124, 80, 42, 180, 0, 47, 16, 6, 20, 0, 126, 80, 42]
abbrev dktX5_init_11 : List UInt8 := dkwX5_init_11 ++ dktX5_init_12
def dkwX5_init_10 : List UInt8 := [180, 0, 47, 5, 20, 0, 118, 80, 42, 180, 0, 47, 6, 20, 0, 120, 80, 42, 180, 0, 47, 7]
abbrev dktX5_init_10 : List UInt8 := dkwX5_init_10 ++ dktX5_init_11
def dkwX5_init_9 : List UInt8 := [181, 0, 111, 42, 180, 0, 47, 3, 20, 0, 114, 80, 42, 180, 0, 47, 4, 20, 0, 116, 80, 42]
abbrev dktX5_init_9 : List UInt8 := dkwX5_init_9 ++ dktX5_init_10
def dkwX5_init_8 : List UInt8 := [181, 0, 101, 42, 17, 2, 126, 188, 10, 181, 0, 105, 42, 16, 26, 188, 11, 181, 0, 108, 42, 5, 188, 4]
abbrev dktX5_init_8 : List UInt8 := dkwX5_init_8 ++ dktX5_init_9
def dkwX5_init_7 : List UInt8 := [181, 0, 92, 42, 7, 188, 10, 181, 0, 95, 42, 16, 45, 188, 10, 181, 0, 98, 42, 16, 45, 188, 4]
abbrev dktX5_init_7 : List UInt8 := dkwX5_init_7 ++ dktX5_init_8
def dkwX5_init_6 : List UInt8 := [188, 10, 181, 0, 83, 42, 16, 6, 188, 10, 181, 0, 86, 42, 2, 181, 0, 89, 42, 16, 40, 188, 8]
abbrev dktX5_init_6 : List UInt8 := dkwX5_init_6 ++ dktX5_init_7
def dkwX5_init_5 : List UInt8 := [181, 0, 71, 42, 16, 7, 188, 10, 181, 0, 74, 42, 2, 181, 0, 77, 42, 2, 181, 0, 80, 42, 16, 6]
abbrev dktX5_init_5 : List UInt8 := dkwX5_init_5 ++ dktX5_init_6
def dkwX5_init_4 : List UInt8 := [181, 0, 62, 42, 16, 6, 188, 10, 181, 0, 65, 42, 8, 188, 10, 181, 0, 68, 42, 7, 188, 10]
abbrev dktX5_init_4 : List UInt8 := dkwX5_init_4 ++ dktX5_init_5
def dkwX5_init_3 : List UInt8 := [181, 0, 53, 42, 16, 6, 188, 10, 181, 0, 56, 42, 16, 6, 188, 10, 181, 0, 59, 42, 16, 6, 188, 10]
abbrev dktX5_init_3 : List UInt8 := dkwX5_init_3 ++ dktX5_init_4
def dkwX5_init_2 : List UInt8 := [42, 16, 24, 188, 11, 181, 0, 47, 42, 17, 1, 120, 188, 10, 181, 0, 50, 42, 16, 47, 188, 10]
abbrev dktX5_init_2 : List UInt8 := dkwX5_init_2 ++ dktX5_init_3
def dkwX5_init_1 : List UInt8 := [16, 91, 188, 10, 181, 0, 37, 42, 17, 0, 160, 188, 10, 181, 0, 40, 42, 16, 26, 188, 11, 181, 0, 43]
abbrev dktX5_init_1 : List UInt8 := dkwX5_init_1 ++ dktX5_init_2
def dkwX5_init_0 : List UInt8 := [42, 183, 0, 27, 42, 17, 3, 172, 188, 8, 181, 0, 14, 42, 17, 1, 63, 188, 10, 181, 0, 33, 42]
abbrev dktX5_init_0 : List UInt8 := dkwX5_init_0 ++ dktX5_init_1
theorem dksX5_init_0 : cX5_init.data.toList.drop 0 = dktX5_init_0 := by decide +kernel
theorem dksX5_init_1 : cX5_init.data.toList.drop 23 = dktX5_init_1 := dk_seg dksX5_init_0 23 rfl rfl
theorem dksX5_init_2 : cX5_init.data.toList.drop 47 = dktX5_init_2 := dk_seg dksX5_init_1 24 rfl rfl
theorem dksX5_init_3 : cX5_init.data.toList.drop 69 = dktX5_init_3 := dk_seg dksX5_init_2 22 rfl rfl
theorem dksX5_init_4 : cX5_init.data.toList.drop 93 = dktX5_init_4 := dk_seg dksX5_init_3 24 rfl rfl
theorem dksX5_init_5 : cX5_init.data.toList.drop 115 = dktX5_init_5 := dk_seg dksX5_init_4 22 rfl rfl
theorem dksX5_init_6 : cX5_init.data.toList.drop 139 = dktX5_init_6 := dk_seg dksX5_init_5 24 rfl rfl
theorem dksX5_init_7 : cX5_init.data.toList.drop 162 = dktX5_init_7 := dk_seg dksX5_init_6 23 rfl rfl
theorem dksX5_init_8 : cX5_init.data.toList.drop 185 = dktX5_init_8 := dk_seg dksX5_init_7 23 rfl rfl
theorem dksX5_init_9 : cX5_init.data.toList.drop 209 = dktX5_init_9 := dk_seg dksX5_init_8 24 rfl rfl
theorem dksX5_init_10 : cX5_init.data.toList.drop 231 = dktX5_init_10 := dk_seg dksX5_init_9 22 rfl rfl
theorem dksX5_init_11 : cX5_init.data.toList.drop 253 = dktX5_init_11 := dk_seg dksX5_init_10 22 rfl rfl
theorem dksX5_init_12 : cX5_init.data.toList.drop 277 = dktX5_init_12 := dk_seg dksX5_init_11 24 rfl rfl
theorem dksX5_init_13 : cX5_init.data.toList.drop 300 = dktX5_init_13 := dk_seg dksX5_init_12 23 rfl rfl
theorem dksX5_init_14 : cX5_init.data.toList.drop 322 = dktX5_init_14 := dk_seg dksX5_init_13 22 rfl rfl
theorem dksX5_init_15 : cX5_init.data.toList.drop 346 = dktX5_init_15 := dk_seg dksX5_init_14 24 rfl rfl
theorem dksX5_init_16 : cX5_init.data.toList.drop 370 = dktX5_init_16 := dk_seg dksX5_init_15 24 rfl rfl
theorem dksX5_init_17 : cX5_init.data.toList.drop 392 = dktX5_init_17 := dk_seg dksX5_init_16 22 rfl rfl
theorem dksX5_init_18 : cX5_init.data.toList.drop 416 = dktX5_init_18 := dk_seg dksX5_init_17 24 rfl rfl
theorem dksX5_init_19 : cX5_init.data.toList.drop 440 = dktX5_init_19 := dk_seg dksX5_init_18 24 rfl rfl
theorem dksX5_init_20 : cX5_init.data.toList.drop 464 = dktX5_init_20 := dk_seg dksX5_init_19 24 rfl rfl
theorem dX5_init_0 : decode cX5_init 0 = .ok (.aload_n 0, 1) := dk_42 (dk_at dksX5_init_0 0 rfl rfl)
theorem dX5_init_1 : decode cX5_init 1 = .ok (.invokespecial 27, 3) := dk_183 0 27 (dk_at dksX5_init_0 1 rfl rfl)
theorem dX5_init_4 : decode cX5_init 4 = .ok (.aload_n 0, 1) := dk_42 (dk_at dksX5_init_0 4 rfl rfl)
theorem dX5_init_5 : decode cX5_init 5 = .ok (.sipush 940, 3) := dk_17 3 172 (dk_at dksX5_init_0 5 rfl rfl)
theorem dX5_init_8 : decode cX5_init 8 = .ok (.newarray .byte, 2) := dk_188_8 (dk_at dksX5_init_0 8 rfl rfl)
theorem dX5_init_10 : decode cX5_init 10 = .ok (.putfield 14, 3) := dk_181 0 14 (dk_at dksX5_init_0 10 rfl rfl)
theorem dX5_init_13 : decode cX5_init 13 = .ok (.aload_n 0, 1) := dk_42 (dk_at dksX5_init_0 13 rfl rfl)
theorem dX5_init_14 : decode cX5_init 14 = .ok (.sipush 319, 3) := dk_17 1 63 (dk_at dksX5_init_0 14 rfl rfl)
theorem dX5_init_17 : decode cX5_init 17 = .ok (.newarray .int, 2) := dk_188_10 (dk_at dksX5_init_0 17 rfl rfl)
theorem dX5_init_19 : decode cX5_init 19 = .ok (.putfield 33, 3) := dk_181 0 33 (dk_at dksX5_init_0 19 rfl rfl)
theorem dX5_init_22 : decode cX5_init 22 = .ok (.aload_n 0, 1) := dk_42 (dk_at dksX5_init_0 22 rfl rfl)
theorem dX5_init_23 : decode cX5_init 23 = .ok (.bipush 91, 2) := dk_16 91 (dk_at dksX5_init_1 0 rfl rfl)
theorem dX5_init_25 : decode cX5_init 25 = .ok (.newarray .int, 2) := dk_188_10 (dk_at dksX5_init_1 2 rfl rfl)
theorem dX5_init_27 : decode cX5_init 27 = .ok (.putfield 37, 3) := dk_181 0 37 (dk_at dksX5_init_1 4 rfl rfl)
theorem dX5_init_30 : decode cX5_init 30 = .ok (.aload_n 0, 1) := dk_42 (dk_at dksX5_init_1 7 rfl rfl)
theorem dX5_init_31 : decode cX5_init 31 = .ok (.sipush 160, 3) := dk_17 0 160 (dk_at dksX5_init_1 8 rfl rfl)
theorem dX5_init_34 : decode cX5_init 34 = .ok (.newarray .int, 2) := dk_188_10 (dk_at dksX5_init_1 11 rfl rfl)
theorem dX5_init_36 : decode cX5_init 36 = .ok (.putfield 40, 3) := dk_181 0 40 (dk_at dksX5_init_1 13 rfl rfl)
theorem dX5_init_39 : decode cX5_init 39 = .ok (.aload_n 0, 1) := dk_42 (dk_at dksX5_init_1 16 rfl rfl)
theorem dX5_init_40 : decode cX5_init 40 = .ok (.bipush 26, 2) := dk_16 26 (dk_at dksX5_init_1 17 rfl rfl)
theorem dX5_init_42 : decode cX5_init 42 = .ok (.newarray .long, 2) := dk_188_11 (dk_at dksX5_init_1 19 rfl rfl)
theorem dX5_init_44 : decode cX5_init 44 = .ok (.putfield 43, 3) := dk_181 0 43 (dk_at dksX5_init_1 21 rfl rfl)
theorem dX5_init_47 : decode cX5_init 47 = .ok (.aload_n 0, 1) := dk_42 (dk_at dksX5_init_2 0 rfl rfl)
theorem dX5_init_48 : decode cX5_init 48 = .ok (.bipush 24, 2) := dk_16 24 (dk_at dksX5_init_2 1 rfl rfl)
theorem dX5_init_50 : decode cX5_init 50 = .ok (.newarray .long, 2) := dk_188_11 (dk_at dksX5_init_2 3 rfl rfl)
theorem dX5_init_52 : decode cX5_init 52 = .ok (.putfield 47, 3) := dk_181 0 47 (dk_at dksX5_init_2 5 rfl rfl)
theorem dX5_init_55 : decode cX5_init 55 = .ok (.aload_n 0, 1) := dk_42 (dk_at dksX5_init_2 8 rfl rfl)
theorem dX5_init_56 : decode cX5_init 56 = .ok (.sipush 376, 3) := dk_17 1 120 (dk_at dksX5_init_2 9 rfl rfl)
theorem dX5_init_59 : decode cX5_init 59 = .ok (.newarray .int, 2) := dk_188_10 (dk_at dksX5_init_2 12 rfl rfl)
theorem dX5_init_61 : decode cX5_init 61 = .ok (.putfield 50, 3) := dk_181 0 50 (dk_at dksX5_init_2 14 rfl rfl)
theorem dX5_init_64 : decode cX5_init 64 = .ok (.aload_n 0, 1) := dk_42 (dk_at dksX5_init_2 17 rfl rfl)
theorem dX5_init_65 : decode cX5_init 65 = .ok (.bipush 47, 2) := dk_16 47 (dk_at dksX5_init_2 18 rfl rfl)
theorem dX5_init_67 : decode cX5_init 67 = .ok (.newarray .int, 2) := dk_188_10 (dk_at dksX5_init_2 20 rfl rfl)
theorem dX5_init_69 : decode cX5_init 69 = .ok (.putfield 53, 3) := dk_181 0 53 (dk_at dksX5_init_3 0 rfl rfl)
theorem dX5_init_72 : decode cX5_init 72 = .ok (.aload_n 0, 1) := dk_42 (dk_at dksX5_init_3 3 rfl rfl)
theorem dX5_init_73 : decode cX5_init 73 = .ok (.bipush 6, 2) := dk_16 6 (dk_at dksX5_init_3 4 rfl rfl)
theorem dX5_init_75 : decode cX5_init 75 = .ok (.newarray .int, 2) := dk_188_10 (dk_at dksX5_init_3 6 rfl rfl)
theorem dX5_init_77 : decode cX5_init 77 = .ok (.putfield 56, 3) := dk_181 0 56 (dk_at dksX5_init_3 8 rfl rfl)
theorem dX5_init_80 : decode cX5_init 80 = .ok (.aload_n 0, 1) := dk_42 (dk_at dksX5_init_3 11 rfl rfl)
theorem dX5_init_81 : decode cX5_init 81 = .ok (.bipush 6, 2) := dk_16 6 (dk_at dksX5_init_3 12 rfl rfl)
theorem dX5_init_83 : decode cX5_init 83 = .ok (.newarray .int, 2) := dk_188_10 (dk_at dksX5_init_3 14 rfl rfl)
theorem dX5_init_85 : decode cX5_init 85 = .ok (.putfield 59, 3) := dk_181 0 59 (dk_at dksX5_init_3 16 rfl rfl)
theorem dX5_init_88 : decode cX5_init 88 = .ok (.aload_n 0, 1) := dk_42 (dk_at dksX5_init_3 19 rfl rfl)
theorem dX5_init_89 : decode cX5_init 89 = .ok (.bipush 6, 2) := dk_16 6 (dk_at dksX5_init_3 20 rfl rfl)
theorem dX5_init_91 : decode cX5_init 91 = .ok (.newarray .int, 2) := dk_188_10 (dk_at dksX5_init_3 22 rfl rfl)
theorem dX5_init_93 : decode cX5_init 93 = .ok (.putfield 62, 3) := dk_181 0 62 (dk_at dksX5_init_4 0 rfl rfl)
theorem dX5_init_96 : decode cX5_init 96 = .ok (.aload_n 0, 1) := dk_42 (dk_at dksX5_init_4 3 rfl rfl)
theorem dX5_init_97 : decode cX5_init 97 = .ok (.bipush 6, 2) := dk_16 6 (dk_at dksX5_init_4 4 rfl rfl)
theorem dX5_init_99 : decode cX5_init 99 = .ok (.newarray .int, 2) := dk_188_10 (dk_at dksX5_init_4 6 rfl rfl)
theorem dX5_init_101 : decode cX5_init 101 = .ok (.putfield 65, 3) := dk_181 0 65 (dk_at dksX5_init_4 8 rfl rfl)
theorem dX5_init_104 : decode cX5_init 104 = .ok (.aload_n 0, 1) := dk_42 (dk_at dksX5_init_4 11 rfl rfl)
theorem dX5_init_105 : decode cX5_init 105 = .ok (.iconst 5, 1) := dk_8 (dk_at dksX5_init_4 12 rfl rfl)
theorem dX5_init_106 : decode cX5_init 106 = .ok (.newarray .int, 2) := dk_188_10 (dk_at dksX5_init_4 13 rfl rfl)
theorem dX5_init_108 : decode cX5_init 108 = .ok (.putfield 68, 3) := dk_181 0 68 (dk_at dksX5_init_4 15 rfl rfl)
theorem dX5_init_111 : decode cX5_init 111 = .ok (.aload_n 0, 1) := dk_42 (dk_at dksX5_init_4 18 rfl rfl)
theorem dX5_init_112 : decode cX5_init 112 = .ok (.iconst 4, 1) := dk_7 (dk_at dksX5_init_4 19 rfl rfl)
theorem dX5_init_113 : decode cX5_init 113 = .ok (.newarray .int, 2) := dk_188_10 (dk_at dksX5_init_4 20 rfl rfl)
theorem dX5_init_115 : decode cX5_init 115 = .ok (.putfield 71, 3) := dk_181 0 71 (dk_at dksX5_init_5 0 rfl rfl)
theorem dX5_init_118 : decode cX5_init 118 = .ok (.aload_n 0, 1) := dk_42 (dk_at dksX5_init_5 3 rfl rfl)
theorem dX5_init_119 : decode cX5_init 119 = .ok (.bipush 7, 2) := dk_16 7 (dk_at dksX5_init_5 4 rfl rfl)
theorem dX5_init_121 : decode cX5_init 121 = .ok (.newarray .int, 2) := dk_188_10 (dk_at dksX5_init_5 6 rfl rfl)
theorem dX5_init_123 : decode cX5_init 123 = .ok (.putfield 74, 3) := dk_181 0 74 (dk_at dksX5_init_5 8 rfl rfl)
theorem dX5_init_126 : decode cX5_init 126 = .ok (.aload_n 0, 1) := dk_42 (dk_at dksX5_init_5 11 rfl rfl)
theorem dX5_init_127 : decode cX5_init 127 = .ok (.iconst (-1), 1) := dk_2 (dk_at dksX5_init_5 12 rfl rfl)
theorem dX5_init_128 : decode cX5_init 128 = .ok (.putfield 77, 3) := dk_181 0 77 (dk_at dksX5_init_5 13 rfl rfl)
theorem dX5_init_131 : decode cX5_init 131 = .ok (.aload_n 0, 1) := dk_42 (dk_at dksX5_init_5 16 rfl rfl)
theorem dX5_init_132 : decode cX5_init 132 = .ok (.iconst (-1), 1) := dk_2 (dk_at dksX5_init_5 17 rfl rfl)
theorem dX5_init_133 : decode cX5_init 133 = .ok (.putfield 80, 3) := dk_181 0 80 (dk_at dksX5_init_5 18 rfl rfl)
theorem dX5_init_136 : decode cX5_init 136 = .ok (.aload_n 0, 1) := dk_42 (dk_at dksX5_init_5 21 rfl rfl)
theorem dX5_init_137 : decode cX5_init 137 = .ok (.bipush 6, 2) := dk_16 6 (dk_at dksX5_init_5 22 rfl rfl)
theorem dX5_init_139 : decode cX5_init 139 = .ok (.newarray .int, 2) := dk_188_10 (dk_at dksX5_init_6 0 rfl rfl)
theorem dX5_init_141 : decode cX5_init 141 = .ok (.putfield 83, 3) := dk_181 0 83 (dk_at dksX5_init_6 2 rfl rfl)
theorem dX5_init_144 : decode cX5_init 144 = .ok (.aload_n 0, 1) := dk_42 (dk_at dksX5_init_6 5 rfl rfl)
theorem dX5_init_145 : decode cX5_init 145 = .ok (.bipush 6, 2) := dk_16 6 (dk_at dksX5_init_6 6 rfl rfl)
theorem dX5_init_147 : decode cX5_init 147 = .ok (.newarray .int, 2) := dk_188_10 (dk_at dksX5_init_6 8 rfl rfl)
theorem dX5_init_149 : decode cX5_init 149 = .ok (.putfield 86, 3) := dk_181 0 86 (dk_at dksX5_init_6 10 rfl rfl)
theorem dX5_init_152 : decode cX5_init 152 = .ok (.aload_n 0, 1) := dk_42 (dk_at dksX5_init_6 13 rfl rfl)
theorem dX5_init_153 : decode cX5_init 153 = .ok (.iconst (-1), 1) := dk_2 (dk_at dksX5_init_6 14 rfl rfl)
theorem dX5_init_154 : decode cX5_init 154 = .ok (.putfield 89, 3) := dk_181 0 89 (dk_at dksX5_init_6 15 rfl rfl)
theorem dX5_init_157 : decode cX5_init 157 = .ok (.aload_n 0, 1) := dk_42 (dk_at dksX5_init_6 18 rfl rfl)
theorem dX5_init_158 : decode cX5_init 158 = .ok (.bipush 40, 2) := dk_16 40 (dk_at dksX5_init_6 19 rfl rfl)
theorem dX5_init_160 : decode cX5_init 160 = .ok (.newarray .byte, 2) := dk_188_8 (dk_at dksX5_init_6 21 rfl rfl)
theorem dX5_init_162 : decode cX5_init 162 = .ok (.putfield 92, 3) := dk_181 0 92 (dk_at dksX5_init_7 0 rfl rfl)
theorem dX5_init_165 : decode cX5_init 165 = .ok (.aload_n 0, 1) := dk_42 (dk_at dksX5_init_7 3 rfl rfl)
theorem dX5_init_166 : decode cX5_init 166 = .ok (.iconst 4, 1) := dk_7 (dk_at dksX5_init_7 4 rfl rfl)
theorem dX5_init_167 : decode cX5_init 167 = .ok (.newarray .int, 2) := dk_188_10 (dk_at dksX5_init_7 5 rfl rfl)
theorem dX5_init_169 : decode cX5_init 169 = .ok (.putfield 95, 3) := dk_181 0 95 (dk_at dksX5_init_7 7 rfl rfl)
theorem dX5_init_172 : decode cX5_init 172 = .ok (.aload_n 0, 1) := dk_42 (dk_at dksX5_init_7 10 rfl rfl)
theorem dX5_init_173 : decode cX5_init 173 = .ok (.bipush 45, 2) := dk_16 45 (dk_at dksX5_init_7 11 rfl rfl)
theorem dX5_init_175 : decode cX5_init 175 = .ok (.newarray .int, 2) := dk_188_10 (dk_at dksX5_init_7 13 rfl rfl)
theorem dX5_init_177 : decode cX5_init 177 = .ok (.putfield 98, 3) := dk_181 0 98 (dk_at dksX5_init_7 15 rfl rfl)
theorem dX5_init_180 : decode cX5_init 180 = .ok (.aload_n 0, 1) := dk_42 (dk_at dksX5_init_7 18 rfl rfl)
theorem dX5_init_181 : decode cX5_init 181 = .ok (.bipush 45, 2) := dk_16 45 (dk_at dksX5_init_7 19 rfl rfl)
theorem dX5_init_183 : decode cX5_init 183 = .ok (.newarray .boolean, 2) := dk_188_4 (dk_at dksX5_init_7 21 rfl rfl)
theorem dX5_init_185 : decode cX5_init 185 = .ok (.putfield 101, 3) := dk_181 0 101 (dk_at dksX5_init_8 0 rfl rfl)
theorem dX5_init_188 : decode cX5_init 188 = .ok (.aload_n 0, 1) := dk_42 (dk_at dksX5_init_8 3 rfl rfl)
theorem dX5_init_189 : decode cX5_init 189 = .ok (.sipush 638, 3) := dk_17 2 126 (dk_at dksX5_init_8 4 rfl rfl)
theorem dX5_init_192 : decode cX5_init 192 = .ok (.newarray .int, 2) := dk_188_10 (dk_at dksX5_init_8 7 rfl rfl)
theorem dX5_init_194 : decode cX5_init 194 = .ok (.putfield 105, 3) := dk_181 0 105 (dk_at dksX5_init_8 9 rfl rfl)
theorem dX5_init_197 : decode cX5_init 197 = .ok (.aload_n 0, 1) := dk_42 (dk_at dksX5_init_8 12 rfl rfl)
theorem dX5_init_198 : decode cX5_init 198 = .ok (.bipush 26, 2) := dk_16 26 (dk_at dksX5_init_8 13 rfl rfl)
theorem dX5_init_200 : decode cX5_init 200 = .ok (.newarray .long, 2) := dk_188_11 (dk_at dksX5_init_8 15 rfl rfl)
theorem dX5_init_202 : decode cX5_init 202 = .ok (.putfield 108, 3) := dk_181 0 108 (dk_at dksX5_init_8 17 rfl rfl)
theorem dX5_init_205 : decode cX5_init 205 = .ok (.aload_n 0, 1) := dk_42 (dk_at dksX5_init_8 20 rfl rfl)
theorem dX5_init_206 : decode cX5_init 206 = .ok (.iconst 2, 1) := dk_5 (dk_at dksX5_init_8 21 rfl rfl)
theorem dX5_init_207 : decode cX5_init 207 = .ok (.newarray .boolean, 2) := dk_188_4 (dk_at dksX5_init_8 22 rfl rfl)
theorem dX5_init_209 : decode cX5_init 209 = .ok (.putfield 111, 3) := dk_181 0 111 (dk_at dksX5_init_9 0 rfl rfl)
theorem dX5_init_212 : decode cX5_init 212 = .ok (.aload_n 0, 1) := dk_42 (dk_at dksX5_init_9 3 rfl rfl)
theorem dX5_init_213 : decode cX5_init 213 = .ok (.getfield 47, 3) := dk_180 0 47 (dk_at dksX5_init_9 4 rfl rfl)
theorem dX5_init_216 : decode cX5_init 216 = .ok (.iconst 0, 1) := dk_3 (dk_at dksX5_init_9 7 rfl rfl)
theorem dX5_init_217 : decode cX5_init 217 = .ok (.ldc2_w 114, 3) := dk_20 0 114 (dk_at dksX5_init_9 8 rfl rfl)
theorem dX5_init_220 : decode cX5_init 220 = .ok (.lastore, 1) := dk_80 (dk_at dksX5_init_9 11 rfl rfl)
theorem dX5_init_221 : decode cX5_init 221 = .ok (.aload_n 0, 1) := dk_42 (dk_at dksX5_init_9 12 rfl rfl)
theorem dX5_init_222 : decode cX5_init 222 = .ok (.getfield 47, 3) := dk_180 0 47 (dk_at dksX5_init_9 13 rfl rfl)
theorem dX5_init_225 : decode cX5_init 225 = .ok (.iconst 1, 1) := dk_4 (dk_at dksX5_init_9 16 rfl rfl)
theorem dX5_init_226 : decode cX5_init 226 = .ok (.ldc2_w 116, 3) := dk_20 0 116 (dk_at dksX5_init_9 17 rfl rfl)
theorem dX5_init_229 : decode cX5_init 229 = .ok (.lastore, 1) := dk_80 (dk_at dksX5_init_9 20 rfl rfl)
theorem dX5_init_230 : decode cX5_init 230 = .ok (.aload_n 0, 1) := dk_42 (dk_at dksX5_init_9 21 rfl rfl)
theorem dX5_init_231 : decode cX5_init 231 = .ok (.getfield 47, 3) := dk_180 0 47 (dk_at dksX5_init_10 0 rfl rfl)
theorem dX5_init_234 : decode cX5_init 234 = .ok (.iconst 2, 1) := dk_5 (dk_at dksX5_init_10 3 rfl rfl)
theorem dX5_init_235 : decode cX5_init 235 = .ok (.ldc2_w 118, 3) := dk_20 0 118 (dk_at dksX5_init_10 4 rfl rfl)
theorem dX5_init_238 : decode cX5_init 238 = .ok (.lastore, 1) := dk_80 (dk_at dksX5_init_10 7 rfl rfl)
theorem dX5_init_239 : decode cX5_init 239 = .ok (.aload_n 0, 1) := dk_42 (dk_at dksX5_init_10 8 rfl rfl)
theorem dX5_init_240 : decode cX5_init 240 = .ok (.getfield 47, 3) := dk_180 0 47 (dk_at dksX5_init_10 9 rfl rfl)
theorem dX5_init_243 : decode cX5_init 243 = .ok (.iconst 3, 1) := dk_6 (dk_at dksX5_init_10 12 rfl rfl)
theorem dX5_init_244 : decode cX5_init 244 = .ok (.ldc2_w 120, 3) := dk_20 0 120 (dk_at dksX5_init_10 13 rfl rfl)
theorem dX5_init_247 : decode cX5_init 247 = .ok (.lastore, 1) := dk_80 (dk_at dksX5_init_10 16 rfl rfl)
theorem dX5_init_248 : decode cX5_init 248 = .ok (.aload_n 0, 1) := dk_42 (dk_at dksX5_init_10 17 rfl rfl)
theorem dX5_init_249 : decode cX5_init 249 = .ok (.getfield 47, 3) := dk_180 0 47 (dk_at dksX5_init_10 18 rfl rfl)
theorem dX5_init_252 : decode cX5_init 252 = .ok (.iconst 4, 1) := dk_7 (dk_at dksX5_init_10 21 rfl rfl)
theorem dX5_init_253 : decode cX5_init 253 = .ok (.ldc2_w 122, 3) := dk_20 0 122 (dk_at dksX5_init_11 0 rfl rfl)
theorem dX5_init_256 : decode cX5_init 256 = .ok (.lastore, 1) := dk_80 (dk_at dksX5_init_11 3 rfl rfl)
theorem dX5_init_257 : decode cX5_init 257 = .ok (.aload_n 0, 1) := dk_42 (dk_at dksX5_init_11 4 rfl rfl)
theorem dX5_init_258 : decode cX5_init 258 = .ok (.getfield 47, 3) := dk_180 0 47 (dk_at dksX5_init_11 5 rfl rfl)
theorem dX5_init_261 : decode cX5_init 261 = .ok (.iconst 5, 1) := dk_8 (dk_at dksX5_init_11 8 rfl rfl)
theorem dX5_init_262 : decode cX5_init 262 = .ok (.ldc2_w 124, 3) := dk_20 0 124 (dk_at dksX5_init_11 9 rfl rfl)
theorem dX5_init_265 : decode cX5_init 265 = .ok (.lastore, 1) := dk_80 (dk_at dksX5_init_11 12 rfl rfl)
theorem dX5_init_266 : decode cX5_init 266 = .ok (.aload_n 0, 1) := dk_42 (dk_at dksX5_init_11 13 rfl rfl)
theorem dX5_init_267 : decode cX5_init 267 = .ok (.getfield 47, 3) := dk_180 0 47 (dk_at dksX5_init_11 14 rfl rfl)
theorem dX5_init_270 : decode cX5_init 270 = .ok (.bipush 6, 2) := dk_16 6 (dk_at dksX5_init_11 17 rfl rfl)
theorem dX5_init_272 : decode cX5_init 272 = .ok (.ldc2_w 126, 3) := dk_20 0 126 (dk_at dksX5_init_11 19 rfl rfl)
theorem dX5_init_275 : decode cX5_init 275 = .ok (.lastore, 1) := dk_80 (dk_at dksX5_init_11 22 rfl rfl)
theorem dX5_init_276 : decode cX5_init 276 = .ok (.aload_n 0, 1) := dk_42 (dk_at dksX5_init_11 23 rfl rfl)
theorem dX5_init_277 : decode cX5_init 277 = .ok (.getfield 47, 3) := dk_180 0 47 (dk_at dksX5_init_12 0 rfl rfl)
theorem dX5_init_280 : decode cX5_init 280 = .ok (.bipush 7, 2) := dk_16 7 (dk_at dksX5_init_12 3 rfl rfl)
theorem dX5_init_282 : decode cX5_init 282 = .ok (.ldc2_w 128, 3) := dk_20 0 128 (dk_at dksX5_init_12 5 rfl rfl)
theorem dX5_init_285 : decode cX5_init 285 = .ok (.lastore, 1) := dk_80 (dk_at dksX5_init_12 8 rfl rfl)
theorem dX5_init_286 : decode cX5_init 286 = .ok (.aload_n 0, 1) := dk_42 (dk_at dksX5_init_12 9 rfl rfl)
theorem dX5_init_287 : decode cX5_init 287 = .ok (.getfield 47, 3) := dk_180 0 47 (dk_at dksX5_init_12 10 rfl rfl)
theorem dX5_init_290 : decode cX5_init 290 = .ok (.bipush 8, 2) := dk_16 8 (dk_at dksX5_init_12 13 rfl rfl)
theorem dX5_init_292 : decode cX5_init 292 = .ok (.ldc2_w 130, 3) := dk_20 0 130 (dk_at dksX5_init_12 15 rfl rfl)
theorem dX5_init_295 : decode cX5_init 295 = .ok (.lastore, 1) := dk_80 (dk_at dksX5_init_12 18 rfl rfl)
theorem dX5_init_296 : decode cX5_init 296 = .ok (.aload_n 0, 1) := dk_42 (dk_at dksX5_init_12 19 rfl rfl)
theorem dX5_init_297 : decode cX5_init 297 = .ok (.getfield 47, 3) := dk_180 0 47 (dk_at dksX5_init_12 20 rfl rfl)
theorem dX5_init_300 : decode cX5_init 300 = .ok (.bipush 9, 2) := dk_16 9 (dk_at dksX5_init_13 0 rfl rfl)
theorem dX5_init_302 : decode cX5_init 302 = .ok (.ldc2_w 132, 3) := dk_20 0 132 (dk_at dksX5_init_13 2 rfl rfl)
theorem dX5_init_305 : decode cX5_init 305 = .ok (.lastore, 1) := dk_80 (dk_at dksX5_init_13 5 rfl rfl)
theorem dX5_init_306 : decode cX5_init 306 = .ok (.aload_n 0, 1) := dk_42 (dk_at dksX5_init_13 6 rfl rfl)
theorem dX5_init_307 : decode cX5_init 307 = .ok (.getfield 47, 3) := dk_180 0 47 (dk_at dksX5_init_13 7 rfl rfl)
theorem dX5_init_310 : decode cX5_init 310 = .ok (.bipush 10, 2) := dk_16 10 (dk_at dksX5_init_13 10 rfl rfl)
theorem dX5_init_312 : decode cX5_init 312 = .ok (.ldc2_w 134, 3) := dk_20 0 134 (dk_at dksX5_init_13 12 rfl rfl)
theorem dX5_init_315 : decode cX5_init 315 = .ok (.lastore, 1) := dk_80 (dk_at dksX5_init_13 15 rfl rfl)
theorem dX5_init_316 : decode cX5_init 316 = .ok (.aload_n 0, 1) := dk_42 (dk_at dksX5_init_13 16 rfl rfl)
theorem dX5_init_317 : decode cX5_init 317 = .ok (.getfield 47, 3) := dk_180 0 47 (dk_at dksX5_init_13 17 rfl rfl)
theorem dX5_init_320 : decode cX5_init 320 = .ok (.bipush 11, 2) := dk_16 11 (dk_at dksX5_init_13 20 rfl rfl)
theorem dX5_init_322 : decode cX5_init 322 = .ok (.ldc2_w 136, 3) := dk_20 0 136 (dk_at dksX5_init_14 0 rfl rfl)
theorem dX5_init_325 : decode cX5_init 325 = .ok (.lastore, 1) := dk_80 (dk_at dksX5_init_14 3 rfl rfl)
theorem dX5_init_326 : decode cX5_init 326 = .ok (.aload_n 0, 1) := dk_42 (dk_at dksX5_init_14 4 rfl rfl)
theorem dX5_init_327 : decode cX5_init 327 = .ok (.getfield 47, 3) := dk_180 0 47 (dk_at dksX5_init_14 5 rfl rfl)
theorem dX5_init_330 : decode cX5_init 330 = .ok (.bipush 12, 2) := dk_16 12 (dk_at dksX5_init_14 8 rfl rfl)
theorem dX5_init_332 : decode cX5_init 332 = .ok (.ldc2_w 138, 3) := dk_20 0 138 (dk_at dksX5_init_14 10 rfl rfl)
theorem dX5_init_335 : decode cX5_init 335 = .ok (.lastore, 1) := dk_80 (dk_at dksX5_init_14 13 rfl rfl)
theorem dX5_init_336 : decode cX5_init 336 = .ok (.aload_n 0, 1) := dk_42 (dk_at dksX5_init_14 14 rfl rfl)
theorem dX5_init_337 : decode cX5_init 337 = .ok (.getfield 47, 3) := dk_180 0 47 (dk_at dksX5_init_14 15 rfl rfl)
theorem dX5_init_340 : decode cX5_init 340 = .ok (.bipush 13, 2) := dk_16 13 (dk_at dksX5_init_14 18 rfl rfl)
theorem dX5_init_342 : decode cX5_init 342 = .ok (.ldc2_w 140, 3) := dk_20 0 140 (dk_at dksX5_init_14 20 rfl rfl)
theorem dX5_init_345 : decode cX5_init 345 = .ok (.lastore, 1) := dk_80 (dk_at dksX5_init_14 23 rfl rfl)
theorem dX5_init_346 : decode cX5_init 346 = .ok (.aload_n 0, 1) := dk_42 (dk_at dksX5_init_15 0 rfl rfl)
theorem dX5_init_347 : decode cX5_init 347 = .ok (.getfield 47, 3) := dk_180 0 47 (dk_at dksX5_init_15 1 rfl rfl)
theorem dX5_init_350 : decode cX5_init 350 = .ok (.bipush 14, 2) := dk_16 14 (dk_at dksX5_init_15 4 rfl rfl)
theorem dX5_init_352 : decode cX5_init 352 = .ok (.ldc2_w 142, 3) := dk_20 0 142 (dk_at dksX5_init_15 6 rfl rfl)
theorem dX5_init_355 : decode cX5_init 355 = .ok (.lastore, 1) := dk_80 (dk_at dksX5_init_15 9 rfl rfl)
theorem dX5_init_356 : decode cX5_init 356 = .ok (.aload_n 0, 1) := dk_42 (dk_at dksX5_init_15 10 rfl rfl)
theorem dX5_init_357 : decode cX5_init 357 = .ok (.getfield 47, 3) := dk_180 0 47 (dk_at dksX5_init_15 11 rfl rfl)
theorem dX5_init_360 : decode cX5_init 360 = .ok (.bipush 15, 2) := dk_16 15 (dk_at dksX5_init_15 14 rfl rfl)
theorem dX5_init_362 : decode cX5_init 362 = .ok (.ldc2_w 144, 3) := dk_20 0 144 (dk_at dksX5_init_15 16 rfl rfl)
theorem dX5_init_365 : decode cX5_init 365 = .ok (.lastore, 1) := dk_80 (dk_at dksX5_init_15 19 rfl rfl)
theorem dX5_init_366 : decode cX5_init 366 = .ok (.aload_n 0, 1) := dk_42 (dk_at dksX5_init_15 20 rfl rfl)
theorem dX5_init_367 : decode cX5_init 367 = .ok (.getfield 47, 3) := dk_180 0 47 (dk_at dksX5_init_15 21 rfl rfl)
theorem dX5_init_370 : decode cX5_init 370 = .ok (.bipush 16, 2) := dk_16 16 (dk_at dksX5_init_16 0 rfl rfl)
theorem dX5_init_372 : decode cX5_init 372 = .ok (.ldc2_w 146, 3) := dk_20 0 146 (dk_at dksX5_init_16 2 rfl rfl)
theorem dX5_init_375 : decode cX5_init 375 = .ok (.lastore, 1) := dk_80 (dk_at dksX5_init_16 5 rfl rfl)
theorem dX5_init_376 : decode cX5_init 376 = .ok (.aload_n 0, 1) := dk_42 (dk_at dksX5_init_16 6 rfl rfl)
theorem dX5_init_377 : decode cX5_init 377 = .ok (.getfield 47, 3) := dk_180 0 47 (dk_at dksX5_init_16 7 rfl rfl)
theorem dX5_init_380 : decode cX5_init 380 = .ok (.bipush 17, 2) := dk_16 17 (dk_at dksX5_init_16 10 rfl rfl)
theorem dX5_init_382 : decode cX5_init 382 = .ok (.ldc2_w 148, 3) := dk_20 0 148 (dk_at dksX5_init_16 12 rfl rfl)
theorem dX5_init_385 : decode cX5_init 385 = .ok (.lastore, 1) := dk_80 (dk_at dksX5_init_16 15 rfl rfl)
theorem dX5_init_386 : decode cX5_init 386 = .ok (.aload_n 0, 1) := dk_42 (dk_at dksX5_init_16 16 rfl rfl)
theorem dX5_init_387 : decode cX5_init 387 = .ok (.getfield 47, 3) := dk_180 0 47 (dk_at dksX5_init_16 17 rfl rfl)
theorem dX5_init_390 : decode cX5_init 390 = .ok (.bipush 18, 2) := dk_16 18 (dk_at dksX5_init_16 20 rfl rfl)
theorem dX5_init_392 : decode cX5_init 392 = .ok (.ldc2_w 150, 3) := dk_20 0 150 (dk_at dksX5_init_17 0 rfl rfl)
theorem dX5_init_395 : decode cX5_init 395 = .ok (.lastore, 1) := dk_80 (dk_at dksX5_init_17 3 rfl rfl)
theorem dX5_init_396 : decode cX5_init 396 = .ok (.aload_n 0, 1) := dk_42 (dk_at dksX5_init_17 4 rfl rfl)
theorem dX5_init_397 : decode cX5_init 397 = .ok (.getfield 47, 3) := dk_180 0 47 (dk_at dksX5_init_17 5 rfl rfl)
theorem dX5_init_400 : decode cX5_init 400 = .ok (.bipush 19, 2) := dk_16 19 (dk_at dksX5_init_17 8 rfl rfl)
theorem dX5_init_402 : decode cX5_init 402 = .ok (.ldc2_w 152, 3) := dk_20 0 152 (dk_at dksX5_init_17 10 rfl rfl)
theorem dX5_init_405 : decode cX5_init 405 = .ok (.lastore, 1) := dk_80 (dk_at dksX5_init_17 13 rfl rfl)
theorem dX5_init_406 : decode cX5_init 406 = .ok (.aload_n 0, 1) := dk_42 (dk_at dksX5_init_17 14 rfl rfl)
theorem dX5_init_407 : decode cX5_init 407 = .ok (.getfield 47, 3) := dk_180 0 47 (dk_at dksX5_init_17 15 rfl rfl)
theorem dX5_init_410 : decode cX5_init 410 = .ok (.bipush 20, 2) := dk_16 20 (dk_at dksX5_init_17 18 rfl rfl)
theorem dX5_init_412 : decode cX5_init 412 = .ok (.ldc2_w 154, 3) := dk_20 0 154 (dk_at dksX5_init_17 20 rfl rfl)
theorem dX5_init_415 : decode cX5_init 415 = .ok (.lastore, 1) := dk_80 (dk_at dksX5_init_17 23 rfl rfl)
theorem dX5_init_416 : decode cX5_init 416 = .ok (.aload_n 0, 1) := dk_42 (dk_at dksX5_init_18 0 rfl rfl)
theorem dX5_init_417 : decode cX5_init 417 = .ok (.getfield 47, 3) := dk_180 0 47 (dk_at dksX5_init_18 1 rfl rfl)
theorem dX5_init_420 : decode cX5_init 420 = .ok (.bipush 21, 2) := dk_16 21 (dk_at dksX5_init_18 4 rfl rfl)
theorem dX5_init_422 : decode cX5_init 422 = .ok (.ldc2_w 156, 3) := dk_20 0 156 (dk_at dksX5_init_18 6 rfl rfl)
theorem dX5_init_425 : decode cX5_init 425 = .ok (.lastore, 1) := dk_80 (dk_at dksX5_init_18 9 rfl rfl)
theorem dX5_init_426 : decode cX5_init 426 = .ok (.aload_n 0, 1) := dk_42 (dk_at dksX5_init_18 10 rfl rfl)
theorem dX5_init_427 : decode cX5_init 427 = .ok (.getfield 47, 3) := dk_180 0 47 (dk_at dksX5_init_18 11 rfl rfl)
theorem dX5_init_430 : decode cX5_init 430 = .ok (.bipush 22, 2) := dk_16 22 (dk_at dksX5_init_18 14 rfl rfl)
theorem dX5_init_432 : decode cX5_init 432 = .ok (.ldc2_w 158, 3) := dk_20 0 158 (dk_at dksX5_init_18 16 rfl rfl)
theorem dX5_init_435 : decode cX5_init 435 = .ok (.lastore, 1) := dk_80 (dk_at dksX5_init_18 19 rfl rfl)
theorem dX5_init_436 : decode cX5_init 436 = .ok (.aload_n 0, 1) := dk_42 (dk_at dksX5_init_18 20 rfl rfl)
theorem dX5_init_437 : decode cX5_init 437 = .ok (.getfield 47, 3) := dk_180 0 47 (dk_at dksX5_init_18 21 rfl rfl)
theorem dX5_init_440 : decode cX5_init 440 = .ok (.bipush 23, 2) := dk_16 23 (dk_at dksX5_init_19 0 rfl rfl)
theorem dX5_init_442 : decode cX5_init 442 = .ok (.ldc2_w 160, 3) := dk_20 0 160 (dk_at dksX5_init_19 2 rfl rfl)
theorem dX5_init_445 : decode cX5_init 445 = .ok (.lastore, 1) := dk_80 (dk_at dksX5_init_19 5 rfl rfl)
theorem dX5_init_446 : decode cX5_init 446 = .ok (.aload_n 0, 1) := dk_42 (dk_at dksX5_init_19 6 rfl rfl)
theorem dX5_init_447 : decode cX5_init 447 = .ok (.invokevirtual 162, 3) := dk_182 0 162 (dk_at dksX5_init_19 7 rfl rfl)
theorem dX5_init_450 : decode cX5_init 450 = .ok (.iconst 0, 1) := dk_3 (dk_at dksX5_init_19 10 rfl rfl)
theorem dX5_init_451 : decode cX5_init 451 = .ok (.istore_n 1, 1) := dk_60 (dk_at dksX5_init_19 11 rfl rfl)
theorem dX5_init_452 : decode cX5_init 452 = .ok (.iload_n 1, 1) := dk_27 (dk_at dksX5_init_19 12 rfl rfl)
theorem dX5_init_453 : decode cX5_init 453 = .ok (.bipush 91, 2) := dk_16 91 (dk_at dksX5_init_19 13 rfl rfl)
theorem dX5_init_455 : decode cX5_init 455 = .ok (.if_icmp .ge 21, 3) := dk_162 0 21 (dk_at dksX5_init_19 15 rfl rfl)
theorem dX5_init_458 : decode cX5_init 458 = .ok (.aload_n 0, 1) := dk_42 (dk_at dksX5_init_19 18 rfl rfl)
theorem dX5_init_459 : decode cX5_init 459 = .ok (.getfield 33, 3) := dk_180 0 33 (dk_at dksX5_init_19 19 rfl rfl)
theorem dX5_init_462 : decode cX5_init 462 = .ok (.iload_n 1, 1) := dk_27 (dk_at dksX5_init_19 22 rfl rfl)
theorem dX5_init_463 : decode cX5_init 463 = .ok (.aload_n 0, 1) := dk_42 (dk_at dksX5_init_19 23 rfl rfl)
theorem dX5_init_464 : decode cX5_init 464 = .ok (.getfield 37, 3) := dk_180 0 37 (dk_at dksX5_init_20 0 rfl rfl)
theorem dX5_init_467 : decode cX5_init 467 = .ok (.iload_n 1, 1) := dk_27 (dk_at dksX5_init_20 3 rfl rfl)
theorem dX5_init_468 : decode cX5_init 468 = .ok (.iaload, 1) := dk_46 (dk_at dksX5_init_20 4 rfl rfl)
theorem dX5_init_469 : decode cX5_init 469 = .ok (.iastore, 1) := dk_79 (dk_at dksX5_init_20 5 rfl rfl)
theorem dX5_init_470 : decode cX5_init 470 = .ok (.iinc 1 1, 3) := dk_132 1 1 (dk_at dksX5_init_20 6 rfl rfl)
theorem dX5_init_473 : decode cX5_init 473 = .ok (.goto (-21), 3) := dk_167 255 235 (dk_at dksX5_init_20 9 rfl rfl)
theorem dX5_init_476 : decode cX5_init 476 = .ok (.return_, 1) := dk_177 (dk_at dksX5_init_20 12 rfl rfl)
abbrev cX5_clears : ByteArray := prog_32_method_14_code
def yX5_clears : MethodName := ⟨RX5, "clears", "()V"⟩
def dkwX5_clears_0 : List UInt8 := [3, 60, 27, 16, 91, 162, 0, 16, 42, 180, 0, 37, 27, 3, 79, 132, 1, 1, 167, 255, 240, 177]
abbrev dktX5_clears_0 : List UInt8 := dkwX5_clears_0 ++ []
theorem dksX5_clears_0 : cX5_clears.data.toList.drop 0 = dktX5_clears_0 := by decide +kernel
theorem dX5_clears_0 : decode cX5_clears 0 = .ok (.iconst 0, 1) := dk_3 (dk_at dksX5_clears_0 0 rfl rfl)
theorem dX5_clears_1 : decode cX5_clears 1 = .ok (.istore_n 1, 1) := dk_60 (dk_at dksX5_clears_0 1 rfl rfl)
theorem dX5_clears_2 : decode cX5_clears 2 = .ok (.iload_n 1, 1) := dk_27 (dk_at dksX5_clears_0 2 rfl rfl)
theorem dX5_clears_3 : decode cX5_clears 3 = .ok (.bipush 91, 2) := dk_16 91 (dk_at dksX5_clears_0 3 rfl rfl)
theorem dX5_clears_5 : decode cX5_clears 5 = .ok (.if_icmp .ge 16, 3) := dk_162 0 16 (dk_at dksX5_clears_0 5 rfl rfl)
theorem dX5_clears_8 : decode cX5_clears 8 = .ok (.aload_n 0, 1) := dk_42 (dk_at dksX5_clears_0 8 rfl rfl)
theorem dX5_clears_9 : decode cX5_clears 9 = .ok (.getfield 37, 3) := dk_180 0 37 (dk_at dksX5_clears_0 9 rfl rfl)
theorem dX5_clears_12 : decode cX5_clears 12 = .ok (.iload_n 1, 1) := dk_27 (dk_at dksX5_clears_0 12 rfl rfl)
theorem dX5_clears_13 : decode cX5_clears 13 = .ok (.iconst 0, 1) := dk_3 (dk_at dksX5_clears_0 13 rfl rfl)
theorem dX5_clears_14 : decode cX5_clears 14 = .ok (.iastore, 1) := dk_79 (dk_at dksX5_clears_0 14 rfl rfl)
theorem dX5_clears_15 : decode cX5_clears 15 = .ok (.iinc 1 1, 3) := dk_132 1 1 (dk_at dksX5_clears_0 15 rfl rfl)
theorem dX5_clears_18 : decode cX5_clears 18 = .ok (.goto (-16), 3) := dk_167 255 240 (dk_at dksX5_clears_0 18 rfl rfl)
theorem dX5_clears_21 : decode cX5_clears 21 = .ok (.return_, 1) := dk_177 (dk_at dksX5_clears_0 21 rfl rfl)
abbrev cX5_map : ByteArray := prog_32_method_36_code
def yX5_map : MethodName := ⟨RX5, "map", "()I"⟩
def dkwX5_map_10 : List UInt8 := [96, 46, 79, 132, 1, 1, 167, 255, 211, 42, 3, 181, 1, 19, 42, 180, 1, 10, 172]
abbrev dktX5_map_10 : List UInt8 := dkwX5_map_10 ++ []
def dkwX5_map_9 : List UInt8 := [180, 0, 33, 16, 79, 27, 96, 46, 79, 42, 180, 0, 33, 16, 114, 27, 96, 42, 180, 0, 33, 16, 85, 27]
abbrev dktX5_map_9 : List UInt8 := dkwX5_map_9 ++ dktX5_map_10
def dkwX5_map_8 : List UInt8 := [132, 1, 1, 167, 255, 211, 3, 60, 27, 16, 6, 162, 0, 45, 42, 180, 0, 33, 16, 108, 27, 96, 42]
abbrev dktX5_map_8 : List UInt8 := dkwX5_map_8 ++ dktX5_map_9
def dkwX5_map_7 : List UInt8 := [16, 17, 27, 96, 46, 79, 42, 180, 0, 33, 16, 101, 27, 96, 42, 180, 0, 33, 16, 72, 27, 96, 46, 79]
abbrev dktX5_map_7 : List UInt8 := dkwX5_map_7 ++ dktX5_map_8
def dkwX5_map_6 : List UInt8 := [167, 255, 232, 3, 60, 27, 16, 7, 162, 0, 45, 42, 180, 0, 33, 16, 94, 27, 96, 42, 180, 0, 33]
abbrev dktX5_map_6 : List UInt8 := dkwX5_map_6 ++ dktX5_map_7
def dkwX5_map_5 : List UInt8 := [27, 16, 13, 162, 0, 24, 42, 180, 0, 43, 27, 42, 180, 0, 43, 16, 13, 27, 96, 47, 80, 132, 1, 1]
abbrev dktX5_map_5 : List UInt8 := dkwX5_map_5 ++ dktX5_map_6
def dkwX5_map_4 : List UInt8 := [16, 91, 162, 0, 12, 42, 180, 0, 37, 27, 46, 167, 0, 4, 3, 79, 132, 1, 1, 167, 255, 224, 3, 60]
abbrev dktX5_map_4 : List UInt8 := dkwX5_map_4 ++ dktX5_map_5
def dkwX5_map_3 : List UInt8 := [4, 96, 181, 1, 10, 167, 255, 216, 3, 60, 27, 17, 1, 63, 162, 0, 31, 42, 180, 0, 33, 27, 27]
abbrev dktX5_map_3 : List UInt8 := dkwX5_map_3 ++ dktX5_map_4
def dkwX5_map_2 : List UInt8 := [153, 0, 12, 42, 16, 59, 182, 1, 16, 154, 0, 10, 2, 42, 180, 0, 195, 100, 172, 42, 89, 180, 1, 10]
abbrev dktX5_map_2 : List UInt8 := dkwX5_map_2 ++ dktX5_map_3
def dkwX5_map_1 : List UInt8 := [181, 0, 254, 42, 182, 0, 162, 42, 182, 0, 204, 42, 180, 0, 175, 153, 0, 39, 42, 182, 1, 13]
abbrev dktX5_map_1 : List UInt8 := dkwX5_map_1 ++ dktX5_map_2
def dkwX5_map_0 : List UInt8 := [42, 3, 181, 0, 1, 42, 17, 3, 132, 182, 1, 7, 42, 3, 181, 0, 192, 42, 3, 181, 1, 10, 42, 3]
abbrev dktX5_map_0 : List UInt8 := dkwX5_map_0 ++ dktX5_map_1
theorem dksX5_map_0 : cX5_map.data.toList.drop 0 = dktX5_map_0 := by decide +kernel
theorem dksX5_map_1 : cX5_map.data.toList.drop 24 = dktX5_map_1 := dk_seg dksX5_map_0 24 rfl rfl
theorem dksX5_map_2 : cX5_map.data.toList.drop 46 = dktX5_map_2 := dk_seg dksX5_map_1 22 rfl rfl
theorem dksX5_map_3 : cX5_map.data.toList.drop 70 = dktX5_map_3 := dk_seg dksX5_map_2 24 rfl rfl
theorem dksX5_map_4 : cX5_map.data.toList.drop 93 = dktX5_map_4 := dk_seg dksX5_map_3 23 rfl rfl
theorem dksX5_map_5 : cX5_map.data.toList.drop 117 = dktX5_map_5 := dk_seg dksX5_map_4 24 rfl rfl
theorem dksX5_map_6 : cX5_map.data.toList.drop 141 = dktX5_map_6 := dk_seg dksX5_map_5 24 rfl rfl
theorem dksX5_map_7 : cX5_map.data.toList.drop 164 = dktX5_map_7 := dk_seg dksX5_map_6 23 rfl rfl
theorem dksX5_map_8 : cX5_map.data.toList.drop 188 = dktX5_map_8 := dk_seg dksX5_map_7 24 rfl rfl
theorem dksX5_map_9 : cX5_map.data.toList.drop 211 = dktX5_map_9 := dk_seg dksX5_map_8 23 rfl rfl
theorem dksX5_map_10 : cX5_map.data.toList.drop 235 = dktX5_map_10 := dk_seg dksX5_map_9 24 rfl rfl
theorem dX5_map_0 : decode cX5_map 0 = .ok (.aload_n 0, 1) := dk_42 (dk_at dksX5_map_0 0 rfl rfl)
theorem dX5_map_1 : decode cX5_map 1 = .ok (.iconst 0, 1) := dk_3 (dk_at dksX5_map_0 1 rfl rfl)
theorem dX5_map_2 : decode cX5_map 2 = .ok (.putfield 1, 3) := dk_181 0 1 (dk_at dksX5_map_0 2 rfl rfl)
theorem dX5_map_5 : decode cX5_map 5 = .ok (.aload_n 0, 1) := dk_42 (dk_at dksX5_map_0 5 rfl rfl)
theorem dX5_map_6 : decode cX5_map 6 = .ok (.sipush 900, 3) := dk_17 3 132 (dk_at dksX5_map_0 6 rfl rfl)
theorem dX5_map_9 : decode cX5_map 9 = .ok (.invokevirtual 263, 3) := dk_182 1 7 (dk_at dksX5_map_0 9 rfl rfl)
theorem dX5_map_12 : decode cX5_map 12 = .ok (.aload_n 0, 1) := dk_42 (dk_at dksX5_map_0 12 rfl rfl)
theorem dX5_map_13 : decode cX5_map 13 = .ok (.iconst 0, 1) := dk_3 (dk_at dksX5_map_0 13 rfl rfl)
theorem dX5_map_14 : decode cX5_map 14 = .ok (.putfield 192, 3) := dk_181 0 192 (dk_at dksX5_map_0 14 rfl rfl)
theorem dX5_map_17 : decode cX5_map 17 = .ok (.aload_n 0, 1) := dk_42 (dk_at dksX5_map_0 17 rfl rfl)
theorem dX5_map_18 : decode cX5_map 18 = .ok (.iconst 0, 1) := dk_3 (dk_at dksX5_map_0 18 rfl rfl)
theorem dX5_map_19 : decode cX5_map 19 = .ok (.putfield 266, 3) := dk_181 1 10 (dk_at dksX5_map_0 19 rfl rfl)
theorem dX5_map_22 : decode cX5_map 22 = .ok (.aload_n 0, 1) := dk_42 (dk_at dksX5_map_0 22 rfl rfl)
theorem dX5_map_23 : decode cX5_map 23 = .ok (.iconst 0, 1) := dk_3 (dk_at dksX5_map_0 23 rfl rfl)
theorem dX5_map_24 : decode cX5_map 24 = .ok (.putfield 254, 3) := dk_181 0 254 (dk_at dksX5_map_1 0 rfl rfl)
theorem dX5_map_27 : decode cX5_map 27 = .ok (.aload_n 0, 1) := dk_42 (dk_at dksX5_map_1 3 rfl rfl)
theorem dX5_map_28 : decode cX5_map 28 = .ok (.invokevirtual 162, 3) := dk_182 0 162 (dk_at dksX5_map_1 4 rfl rfl)
theorem dX5_map_31 : decode cX5_map 31 = .ok (.aload_n 0, 1) := dk_42 (dk_at dksX5_map_1 7 rfl rfl)
theorem dX5_map_32 : decode cX5_map 32 = .ok (.invokevirtual 204, 3) := dk_182 0 204 (dk_at dksX5_map_1 8 rfl rfl)
theorem dX5_map_35 : decode cX5_map 35 = .ok (.aload_n 0, 1) := dk_42 (dk_at dksX5_map_1 11 rfl rfl)
theorem dX5_map_36 : decode cX5_map 36 = .ok (.getfield 175, 3) := dk_180 0 175 (dk_at dksX5_map_1 12 rfl rfl)
theorem dX5_map_39 : decode cX5_map 39 = .ok (.ifCond .eq 39, 3) := dk_153 0 39 (dk_at dksX5_map_1 15 rfl rfl)
theorem dX5_map_42 : decode cX5_map 42 = .ok (.aload_n 0, 1) := dk_42 (dk_at dksX5_map_1 18 rfl rfl)
theorem dX5_map_43 : decode cX5_map 43 = .ok (.invokevirtual 269, 3) := dk_182 1 13 (dk_at dksX5_map_1 19 rfl rfl)
theorem dX5_map_46 : decode cX5_map 46 = .ok (.ifCond .eq 12, 3) := dk_153 0 12 (dk_at dksX5_map_2 0 rfl rfl)
theorem dX5_map_49 : decode cX5_map 49 = .ok (.aload_n 0, 1) := dk_42 (dk_at dksX5_map_2 3 rfl rfl)
theorem dX5_map_50 : decode cX5_map 50 = .ok (.bipush 59, 2) := dk_16 59 (dk_at dksX5_map_2 4 rfl rfl)
theorem dX5_map_52 : decode cX5_map 52 = .ok (.invokevirtual 272, 3) := dk_182 1 16 (dk_at dksX5_map_2 6 rfl rfl)
theorem dX5_map_55 : decode cX5_map 55 = .ok (.ifCond .ne 10, 3) := dk_154 0 10 (dk_at dksX5_map_2 9 rfl rfl)
theorem dX5_map_58 : decode cX5_map 58 = .ok (.iconst (-1), 1) := dk_2 (dk_at dksX5_map_2 12 rfl rfl)
theorem dX5_map_59 : decode cX5_map 59 = .ok (.aload_n 0, 1) := dk_42 (dk_at dksX5_map_2 13 rfl rfl)
theorem dX5_map_60 : decode cX5_map 60 = .ok (.getfield 195, 3) := dk_180 0 195 (dk_at dksX5_map_2 14 rfl rfl)
theorem dX5_map_63 : decode cX5_map 63 = .ok (.isub, 1) := dk_100 (dk_at dksX5_map_2 17 rfl rfl)
theorem dX5_map_64 : decode cX5_map 64 = .ok (.ireturn, 1) := dk_172 (dk_at dksX5_map_2 18 rfl rfl)
theorem dX5_map_65 : decode cX5_map 65 = .ok (.aload_n 0, 1) := dk_42 (dk_at dksX5_map_2 19 rfl rfl)
theorem dX5_map_66 : decode cX5_map 66 = .ok (.dup, 1) := dk_89 (dk_at dksX5_map_2 20 rfl rfl)
theorem dX5_map_67 : decode cX5_map 67 = .ok (.getfield 266, 3) := dk_180 1 10 (dk_at dksX5_map_2 21 rfl rfl)
theorem dX5_map_70 : decode cX5_map 70 = .ok (.iconst 1, 1) := dk_4 (dk_at dksX5_map_3 0 rfl rfl)
theorem dX5_map_71 : decode cX5_map 71 = .ok (.iadd, 1) := dk_96 (dk_at dksX5_map_3 1 rfl rfl)
theorem dX5_map_72 : decode cX5_map 72 = .ok (.putfield 266, 3) := dk_181 1 10 (dk_at dksX5_map_3 2 rfl rfl)
theorem dX5_map_75 : decode cX5_map 75 = .ok (.goto (-40), 3) := dk_167 255 216 (dk_at dksX5_map_3 5 rfl rfl)
theorem dX5_map_78 : decode cX5_map 78 = .ok (.iconst 0, 1) := dk_3 (dk_at dksX5_map_3 8 rfl rfl)
theorem dX5_map_79 : decode cX5_map 79 = .ok (.istore_n 1, 1) := dk_60 (dk_at dksX5_map_3 9 rfl rfl)
theorem dX5_map_80 : decode cX5_map 80 = .ok (.iload_n 1, 1) := dk_27 (dk_at dksX5_map_3 10 rfl rfl)
theorem dX5_map_81 : decode cX5_map 81 = .ok (.sipush 319, 3) := dk_17 1 63 (dk_at dksX5_map_3 11 rfl rfl)
theorem dX5_map_84 : decode cX5_map 84 = .ok (.if_icmp .ge 31, 3) := dk_162 0 31 (dk_at dksX5_map_3 14 rfl rfl)
theorem dX5_map_87 : decode cX5_map 87 = .ok (.aload_n 0, 1) := dk_42 (dk_at dksX5_map_3 17 rfl rfl)
theorem dX5_map_88 : decode cX5_map 88 = .ok (.getfield 33, 3) := dk_180 0 33 (dk_at dksX5_map_3 18 rfl rfl)
theorem dX5_map_91 : decode cX5_map 91 = .ok (.iload_n 1, 1) := dk_27 (dk_at dksX5_map_3 21 rfl rfl)
theorem dX5_map_92 : decode cX5_map 92 = .ok (.iload_n 1, 1) := dk_27 (dk_at dksX5_map_3 22 rfl rfl)
theorem dX5_map_93 : decode cX5_map 93 = .ok (.bipush 91, 2) := dk_16 91 (dk_at dksX5_map_4 0 rfl rfl)
theorem dX5_map_95 : decode cX5_map 95 = .ok (.if_icmp .ge 12, 3) := dk_162 0 12 (dk_at dksX5_map_4 2 rfl rfl)
theorem dX5_map_98 : decode cX5_map 98 = .ok (.aload_n 0, 1) := dk_42 (dk_at dksX5_map_4 5 rfl rfl)
theorem dX5_map_99 : decode cX5_map 99 = .ok (.getfield 37, 3) := dk_180 0 37 (dk_at dksX5_map_4 6 rfl rfl)
theorem dX5_map_102 : decode cX5_map 102 = .ok (.iload_n 1, 1) := dk_27 (dk_at dksX5_map_4 9 rfl rfl)
theorem dX5_map_103 : decode cX5_map 103 = .ok (.iaload, 1) := dk_46 (dk_at dksX5_map_4 10 rfl rfl)
theorem dX5_map_104 : decode cX5_map 104 = .ok (.goto 4, 3) := dk_167 0 4 (dk_at dksX5_map_4 11 rfl rfl)
theorem dX5_map_107 : decode cX5_map 107 = .ok (.iconst 0, 1) := dk_3 (dk_at dksX5_map_4 14 rfl rfl)
theorem dX5_map_108 : decode cX5_map 108 = .ok (.iastore, 1) := dk_79 (dk_at dksX5_map_4 15 rfl rfl)
theorem dX5_map_109 : decode cX5_map 109 = .ok (.iinc 1 1, 3) := dk_132 1 1 (dk_at dksX5_map_4 16 rfl rfl)
theorem dX5_map_112 : decode cX5_map 112 = .ok (.goto (-32), 3) := dk_167 255 224 (dk_at dksX5_map_4 19 rfl rfl)
theorem dX5_map_115 : decode cX5_map 115 = .ok (.iconst 0, 1) := dk_3 (dk_at dksX5_map_4 22 rfl rfl)
theorem dX5_map_116 : decode cX5_map 116 = .ok (.istore_n 1, 1) := dk_60 (dk_at dksX5_map_4 23 rfl rfl)
theorem dX5_map_117 : decode cX5_map 117 = .ok (.iload_n 1, 1) := dk_27 (dk_at dksX5_map_5 0 rfl rfl)
theorem dX5_map_118 : decode cX5_map 118 = .ok (.bipush 13, 2) := dk_16 13 (dk_at dksX5_map_5 1 rfl rfl)
theorem dX5_map_120 : decode cX5_map 120 = .ok (.if_icmp .ge 24, 3) := dk_162 0 24 (dk_at dksX5_map_5 3 rfl rfl)
theorem dX5_map_123 : decode cX5_map 123 = .ok (.aload_n 0, 1) := dk_42 (dk_at dksX5_map_5 6 rfl rfl)
theorem dX5_map_124 : decode cX5_map 124 = .ok (.getfield 43, 3) := dk_180 0 43 (dk_at dksX5_map_5 7 rfl rfl)
theorem dX5_map_127 : decode cX5_map 127 = .ok (.iload_n 1, 1) := dk_27 (dk_at dksX5_map_5 10 rfl rfl)
theorem dX5_map_128 : decode cX5_map 128 = .ok (.aload_n 0, 1) := dk_42 (dk_at dksX5_map_5 11 rfl rfl)
theorem dX5_map_129 : decode cX5_map 129 = .ok (.getfield 43, 3) := dk_180 0 43 (dk_at dksX5_map_5 12 rfl rfl)
theorem dX5_map_132 : decode cX5_map 132 = .ok (.bipush 13, 2) := dk_16 13 (dk_at dksX5_map_5 15 rfl rfl)
theorem dX5_map_134 : decode cX5_map 134 = .ok (.iload_n 1, 1) := dk_27 (dk_at dksX5_map_5 17 rfl rfl)
theorem dX5_map_135 : decode cX5_map 135 = .ok (.iadd, 1) := dk_96 (dk_at dksX5_map_5 18 rfl rfl)
theorem dX5_map_136 : decode cX5_map 136 = .ok (.laload, 1) := dk_47 (dk_at dksX5_map_5 19 rfl rfl)
theorem dX5_map_137 : decode cX5_map 137 = .ok (.lastore, 1) := dk_80 (dk_at dksX5_map_5 20 rfl rfl)
theorem dX5_map_138 : decode cX5_map 138 = .ok (.iinc 1 1, 3) := dk_132 1 1 (dk_at dksX5_map_5 21 rfl rfl)
theorem dX5_map_141 : decode cX5_map 141 = .ok (.goto (-24), 3) := dk_167 255 232 (dk_at dksX5_map_6 0 rfl rfl)
theorem dX5_map_144 : decode cX5_map 144 = .ok (.iconst 0, 1) := dk_3 (dk_at dksX5_map_6 3 rfl rfl)
theorem dX5_map_145 : decode cX5_map 145 = .ok (.istore_n 1, 1) := dk_60 (dk_at dksX5_map_6 4 rfl rfl)
theorem dX5_map_146 : decode cX5_map 146 = .ok (.iload_n 1, 1) := dk_27 (dk_at dksX5_map_6 5 rfl rfl)
theorem dX5_map_147 : decode cX5_map 147 = .ok (.bipush 7, 2) := dk_16 7 (dk_at dksX5_map_6 6 rfl rfl)
theorem dX5_map_149 : decode cX5_map 149 = .ok (.if_icmp .ge 45, 3) := dk_162 0 45 (dk_at dksX5_map_6 8 rfl rfl)
theorem dX5_map_152 : decode cX5_map 152 = .ok (.aload_n 0, 1) := dk_42 (dk_at dksX5_map_6 11 rfl rfl)
theorem dX5_map_153 : decode cX5_map 153 = .ok (.getfield 33, 3) := dk_180 0 33 (dk_at dksX5_map_6 12 rfl rfl)
theorem dX5_map_156 : decode cX5_map 156 = .ok (.bipush 94, 2) := dk_16 94 (dk_at dksX5_map_6 15 rfl rfl)
theorem dX5_map_158 : decode cX5_map 158 = .ok (.iload_n 1, 1) := dk_27 (dk_at dksX5_map_6 17 rfl rfl)
theorem dX5_map_159 : decode cX5_map 159 = .ok (.iadd, 1) := dk_96 (dk_at dksX5_map_6 18 rfl rfl)
theorem dX5_map_160 : decode cX5_map 160 = .ok (.aload_n 0, 1) := dk_42 (dk_at dksX5_map_6 19 rfl rfl)
theorem dX5_map_161 : decode cX5_map 161 = .ok (.getfield 33, 3) := dk_180 0 33 (dk_at dksX5_map_6 20 rfl rfl)
theorem dX5_map_164 : decode cX5_map 164 = .ok (.bipush 17, 2) := dk_16 17 (dk_at dksX5_map_7 0 rfl rfl)
theorem dX5_map_166 : decode cX5_map 166 = .ok (.iload_n 1, 1) := dk_27 (dk_at dksX5_map_7 2 rfl rfl)
theorem dX5_map_167 : decode cX5_map 167 = .ok (.iadd, 1) := dk_96 (dk_at dksX5_map_7 3 rfl rfl)
theorem dX5_map_168 : decode cX5_map 168 = .ok (.iaload, 1) := dk_46 (dk_at dksX5_map_7 4 rfl rfl)
theorem dX5_map_169 : decode cX5_map 169 = .ok (.iastore, 1) := dk_79 (dk_at dksX5_map_7 5 rfl rfl)
theorem dX5_map_170 : decode cX5_map 170 = .ok (.aload_n 0, 1) := dk_42 (dk_at dksX5_map_7 6 rfl rfl)
theorem dX5_map_171 : decode cX5_map 171 = .ok (.getfield 33, 3) := dk_180 0 33 (dk_at dksX5_map_7 7 rfl rfl)
theorem dX5_map_174 : decode cX5_map 174 = .ok (.bipush 101, 2) := dk_16 101 (dk_at dksX5_map_7 10 rfl rfl)
theorem dX5_map_176 : decode cX5_map 176 = .ok (.iload_n 1, 1) := dk_27 (dk_at dksX5_map_7 12 rfl rfl)
theorem dX5_map_177 : decode cX5_map 177 = .ok (.iadd, 1) := dk_96 (dk_at dksX5_map_7 13 rfl rfl)
theorem dX5_map_178 : decode cX5_map 178 = .ok (.aload_n 0, 1) := dk_42 (dk_at dksX5_map_7 14 rfl rfl)
theorem dX5_map_179 : decode cX5_map 179 = .ok (.getfield 33, 3) := dk_180 0 33 (dk_at dksX5_map_7 15 rfl rfl)
theorem dX5_map_182 : decode cX5_map 182 = .ok (.bipush 72, 2) := dk_16 72 (dk_at dksX5_map_7 18 rfl rfl)
theorem dX5_map_184 : decode cX5_map 184 = .ok (.iload_n 1, 1) := dk_27 (dk_at dksX5_map_7 20 rfl rfl)
theorem dX5_map_185 : decode cX5_map 185 = .ok (.iadd, 1) := dk_96 (dk_at dksX5_map_7 21 rfl rfl)
theorem dX5_map_186 : decode cX5_map 186 = .ok (.iaload, 1) := dk_46 (dk_at dksX5_map_7 22 rfl rfl)
theorem dX5_map_187 : decode cX5_map 187 = .ok (.iastore, 1) := dk_79 (dk_at dksX5_map_7 23 rfl rfl)
theorem dX5_map_188 : decode cX5_map 188 = .ok (.iinc 1 1, 3) := dk_132 1 1 (dk_at dksX5_map_8 0 rfl rfl)
theorem dX5_map_191 : decode cX5_map 191 = .ok (.goto (-45), 3) := dk_167 255 211 (dk_at dksX5_map_8 3 rfl rfl)
theorem dX5_map_194 : decode cX5_map 194 = .ok (.iconst 0, 1) := dk_3 (dk_at dksX5_map_8 6 rfl rfl)
theorem dX5_map_195 : decode cX5_map 195 = .ok (.istore_n 1, 1) := dk_60 (dk_at dksX5_map_8 7 rfl rfl)
theorem dX5_map_196 : decode cX5_map 196 = .ok (.iload_n 1, 1) := dk_27 (dk_at dksX5_map_8 8 rfl rfl)
theorem dX5_map_197 : decode cX5_map 197 = .ok (.bipush 6, 2) := dk_16 6 (dk_at dksX5_map_8 9 rfl rfl)
theorem dX5_map_199 : decode cX5_map 199 = .ok (.if_icmp .ge 45, 3) := dk_162 0 45 (dk_at dksX5_map_8 11 rfl rfl)
theorem dX5_map_202 : decode cX5_map 202 = .ok (.aload_n 0, 1) := dk_42 (dk_at dksX5_map_8 14 rfl rfl)
theorem dX5_map_203 : decode cX5_map 203 = .ok (.getfield 33, 3) := dk_180 0 33 (dk_at dksX5_map_8 15 rfl rfl)
theorem dX5_map_206 : decode cX5_map 206 = .ok (.bipush 108, 2) := dk_16 108 (dk_at dksX5_map_8 18 rfl rfl)
theorem dX5_map_208 : decode cX5_map 208 = .ok (.iload_n 1, 1) := dk_27 (dk_at dksX5_map_8 20 rfl rfl)
theorem dX5_map_209 : decode cX5_map 209 = .ok (.iadd, 1) := dk_96 (dk_at dksX5_map_8 21 rfl rfl)
theorem dX5_map_210 : decode cX5_map 210 = .ok (.aload_n 0, 1) := dk_42 (dk_at dksX5_map_8 22 rfl rfl)
theorem dX5_map_211 : decode cX5_map 211 = .ok (.getfield 33, 3) := dk_180 0 33 (dk_at dksX5_map_9 0 rfl rfl)
theorem dX5_map_214 : decode cX5_map 214 = .ok (.bipush 79, 2) := dk_16 79 (dk_at dksX5_map_9 3 rfl rfl)
theorem dX5_map_216 : decode cX5_map 216 = .ok (.iload_n 1, 1) := dk_27 (dk_at dksX5_map_9 5 rfl rfl)
theorem dX5_map_217 : decode cX5_map 217 = .ok (.iadd, 1) := dk_96 (dk_at dksX5_map_9 6 rfl rfl)
theorem dX5_map_218 : decode cX5_map 218 = .ok (.iaload, 1) := dk_46 (dk_at dksX5_map_9 7 rfl rfl)
theorem dX5_map_219 : decode cX5_map 219 = .ok (.iastore, 1) := dk_79 (dk_at dksX5_map_9 8 rfl rfl)
theorem dX5_map_220 : decode cX5_map 220 = .ok (.aload_n 0, 1) := dk_42 (dk_at dksX5_map_9 9 rfl rfl)
theorem dX5_map_221 : decode cX5_map 221 = .ok (.getfield 33, 3) := dk_180 0 33 (dk_at dksX5_map_9 10 rfl rfl)
theorem dX5_map_224 : decode cX5_map 224 = .ok (.bipush 114, 2) := dk_16 114 (dk_at dksX5_map_9 13 rfl rfl)
theorem dX5_map_226 : decode cX5_map 226 = .ok (.iload_n 1, 1) := dk_27 (dk_at dksX5_map_9 15 rfl rfl)
theorem dX5_map_227 : decode cX5_map 227 = .ok (.iadd, 1) := dk_96 (dk_at dksX5_map_9 16 rfl rfl)
theorem dX5_map_228 : decode cX5_map 228 = .ok (.aload_n 0, 1) := dk_42 (dk_at dksX5_map_9 17 rfl rfl)
theorem dX5_map_229 : decode cX5_map 229 = .ok (.getfield 33, 3) := dk_180 0 33 (dk_at dksX5_map_9 18 rfl rfl)
theorem dX5_map_232 : decode cX5_map 232 = .ok (.bipush 85, 2) := dk_16 85 (dk_at dksX5_map_9 21 rfl rfl)
theorem dX5_map_234 : decode cX5_map 234 = .ok (.iload_n 1, 1) := dk_27 (dk_at dksX5_map_9 23 rfl rfl)
theorem dX5_map_235 : decode cX5_map 235 = .ok (.iadd, 1) := dk_96 (dk_at dksX5_map_10 0 rfl rfl)
theorem dX5_map_236 : decode cX5_map 236 = .ok (.iaload, 1) := dk_46 (dk_at dksX5_map_10 1 rfl rfl)
theorem dX5_map_237 : decode cX5_map 237 = .ok (.iastore, 1) := dk_79 (dk_at dksX5_map_10 2 rfl rfl)
theorem dX5_map_238 : decode cX5_map 238 = .ok (.iinc 1 1, 3) := dk_132 1 1 (dk_at dksX5_map_10 3 rfl rfl)
theorem dX5_map_241 : decode cX5_map 241 = .ok (.goto (-45), 3) := dk_167 255 211 (dk_at dksX5_map_10 6 rfl rfl)
theorem dX5_map_244 : decode cX5_map 244 = .ok (.aload_n 0, 1) := dk_42 (dk_at dksX5_map_10 9 rfl rfl)
theorem dX5_map_245 : decode cX5_map 245 = .ok (.iconst 0, 1) := dk_3 (dk_at dksX5_map_10 10 rfl rfl)
theorem dX5_map_246 : decode cX5_map 246 = .ok (.putfield 275, 3) := dk_181 1 19 (dk_at dksX5_map_10 11 rfl rfl)
theorem dX5_map_249 : decode cX5_map 249 = .ok (.aload_n 0, 1) := dk_42 (dk_at dksX5_map_10 14 rfl rfl)
theorem dX5_map_250 : decode cX5_map 250 = .ok (.getfield 266, 3) := dk_180 1 10 (dk_at dksX5_map_10 15 rfl rfl)
theorem dX5_map_253 : decode cX5_map 253 = .ok (.ireturn, 1) := dk_172 (dk_at dksX5_map_10 18 rfl rfl)
abbrev cX5_taken : ByteArray := prog_32_method_6_code
def yX5_taken : MethodName := ⟨RX5, "taken", "(I)V"⟩
def dkwX5_taken_0 : List UInt8 := [42, 42, 180, 0, 7, 181, 0, 18, 42, 3, 181, 0, 7, 42, 3, 181, 0, 21, 42, 27, 181, 0, 24, 177]
abbrev dktX5_taken_0 : List UInt8 := dkwX5_taken_0 ++ []
theorem dksX5_taken_0 : cX5_taken.data.toList.drop 0 = dktX5_taken_0 := by decide +kernel
theorem dX5_taken_0 : decode cX5_taken 0 = .ok (.aload_n 0, 1) := dk_42 (dk_at dksX5_taken_0 0 rfl rfl)
theorem dX5_taken_1 : decode cX5_taken 1 = .ok (.aload_n 0, 1) := dk_42 (dk_at dksX5_taken_0 1 rfl rfl)
theorem dX5_taken_2 : decode cX5_taken 2 = .ok (.getfield 7, 3) := dk_180 0 7 (dk_at dksX5_taken_0 2 rfl rfl)
theorem dX5_taken_5 : decode cX5_taken 5 = .ok (.putfield 18, 3) := dk_181 0 18 (dk_at dksX5_taken_0 5 rfl rfl)
theorem dX5_taken_8 : decode cX5_taken 8 = .ok (.aload_n 0, 1) := dk_42 (dk_at dksX5_taken_0 8 rfl rfl)
theorem dX5_taken_9 : decode cX5_taken 9 = .ok (.iconst 0, 1) := dk_3 (dk_at dksX5_taken_0 9 rfl rfl)
theorem dX5_taken_10 : decode cX5_taken 10 = .ok (.putfield 7, 3) := dk_181 0 7 (dk_at dksX5_taken_0 10 rfl rfl)
theorem dX5_taken_13 : decode cX5_taken 13 = .ok (.aload_n 0, 1) := dk_42 (dk_at dksX5_taken_0 13 rfl rfl)
theorem dX5_taken_14 : decode cX5_taken 14 = .ok (.iconst 0, 1) := dk_3 (dk_at dksX5_taken_0 14 rfl rfl)
theorem dX5_taken_15 : decode cX5_taken 15 = .ok (.putfield 21, 3) := dk_181 0 21 (dk_at dksX5_taken_0 15 rfl rfl)
theorem dX5_taken_18 : decode cX5_taken 18 = .ok (.aload_n 0, 1) := dk_42 (dk_at dksX5_taken_0 18 rfl rfl)
theorem dX5_taken_19 : decode cX5_taken 19 = .ok (.iload_n 1, 1) := dk_27 (dk_at dksX5_taken_0 19 rfl rfl)
theorem dX5_taken_20 : decode cX5_taken 20 = .ok (.putfield 24, 3) := dk_181 0 24 (dk_at dksX5_taken_0 20 rfl rfl)
theorem dX5_taken_23 : decode cX5_taken 23 = .ok (.return_, 1) := dk_177 (dk_at dksX5_taken_0 23 rfl rfl)
abbrev cX5_next : ByteArray := prog_32_method_18_code
def yX5_next : MethodName := ⟨RX5, "next", "()V"⟩
def dkwX5_next_14 : List UInt8 := [4, 167, 0, 4, 5, 181, 0, 175, 177]
abbrev dktX5_next_14 : List UInt8 := dkwX5_next_14 ++ []
def dkwX5_next_13 : List UInt8 := [180, 0, 172, 28, 153, 0, 8, 16, 7, 167, 0, 4, 6, 164, 0, 7, 7, 167, 0, 12, 28, 153, 0, 7]
abbrev dktX5_next_13 : List UInt8 := dkwX5_next_13 ++ dktX5_next_14
def dkwX5_next_12 : List UInt8 := [181, 0, 172, 42, 89, 180, 0, 21, 4, 96, 181, 0, 21, 167, 255, 142, 42, 29, 153, 0, 20, 42]
abbrev dktX5_next_12 : List UInt8 := dkwX5_next_12 ++ dktX5_next_13
def dkwX5_next_11 : List UInt8 := [180, 0, 185, 104, 42, 182, 0, 165, 96, 16, 48, 100, 181, 0, 185, 42, 89, 180, 0, 172, 4, 96]
abbrev dktX5_next_11 : List UInt8 := dkwX5_next_11 ++ dktX5_next_12
def dkwX5_next_10 : List UInt8 := [16, 8, 121, 42, 182, 0, 165, 133, 129, 181, 0, 188, 42, 180, 0, 172, 6, 162, 0, 22, 42, 16, 10, 42]
abbrev dktX5_next_10 : List UInt8 := dkwX5_next_10 ++ dktX5_next_11
def dkwX5_next_9 : List UInt8 := [28, 160, 0, 7, 4, 167, 0, 4, 3, 62, 42, 180, 0, 172, 16, 7, 162, 0, 20, 42, 42, 180, 0, 188]
abbrev dktX5_next_9 : List UInt8 := dkwX5_next_9 ++ dktX5_next_10
def dkwX5_next_8 : List UInt8 := [154, 0, 13, 42, 182, 0, 165, 184, 0, 182, 153, 0, 100, 29, 153, 0, 18, 42, 182, 0, 165, 184, 0, 178]
abbrev dktX5_next_8 : List UInt8 := dkwX5_next_8 ++ dktX5_next_9
def dkwX5_next_7 : List UInt8 := [184, 0, 178, 61, 4, 62, 42, 9, 181, 0, 188, 42, 3, 181, 0, 185, 42, 182, 0, 165, 184, 0, 178]
abbrev dktX5_next_7 : List UInt8 := dkwX5_next_7 ++ dktX5_next_8
def dkwX5_next_6 : List UInt8 := [167, 0, 4, 7, 181, 0, 175, 42, 27, 181, 0, 185, 42, 89, 180, 0, 21, 4, 96, 181, 0, 21, 177, 27]
abbrev dktX5_next_6 : List UInt8 := dkwX5_next_6 ++ dktX5_next_7
def dkwX5_next_5 : List UInt8 := [159, 0, 21, 27, 16, 41, 159, 0, 15, 27, 16, 60, 161, 0, 13, 27, 16, 62, 163, 0, 7, 6]
abbrev dktX5_next_5 : List UInt8 := dkwX5_next_5 ++ dktX5_next_6
def dkwX5_next_4 : List UInt8 := [27, 184, 0, 178, 154, 0, 65, 27, 184, 0, 182, 154, 0, 58, 42, 27, 16, 59, 159, 0, 27, 27, 16, 40]
abbrev dktX5_next_4 : List UInt8 := dkwX5_next_4 ++ dktX5_next_5
def dkwX5_next_3 : List UInt8 := [181, 0, 169, 42, 7, 181, 0, 175, 177, 42, 182, 0, 165, 60, 27, 156, 0, 9, 42, 3, 181, 0, 175, 177]
abbrev dktX5_next_3 : List UInt8 := dkwX5_next_3 ++ dktX5_next_4
def dkwX5_next_2 : List UInt8 := [42, 180, 0, 24, 164, 0, 28, 42, 180, 0, 21, 42, 180, 0, 24, 161, 0, 17, 42, 42, 180, 0, 24]
abbrev dktX5_next_2 : List UInt8 := dkwX5_next_2 ++ dktX5_next_3
def dkwX5_next_1 : List UInt8 := [96, 181, 0, 21, 167, 255, 228, 42, 42, 180, 0, 21, 181, 0, 169, 42, 3, 181, 0, 172, 42, 180, 0, 18]
abbrev dktX5_next_1 : List UInt8 := dkwX5_next_1 ++ dktX5_next_2
def dkwX5_next_0 : List UInt8 := [42, 182, 0, 165, 16, 32, 159, 0, 12, 42, 182, 0, 165, 16, 10, 160, 0, 16, 42, 89, 180, 0, 21, 4]
abbrev dktX5_next_0 : List UInt8 := dkwX5_next_0 ++ dktX5_next_1
theorem dksX5_next_0 : cX5_next.data.toList.drop 0 = dktX5_next_0 := by decide +kernel
theorem dksX5_next_1 : cX5_next.data.toList.drop 24 = dktX5_next_1 := dk_seg dksX5_next_0 24 rfl rfl
theorem dksX5_next_2 : cX5_next.data.toList.drop 48 = dktX5_next_2 := dk_seg dksX5_next_1 24 rfl rfl
theorem dksX5_next_3 : cX5_next.data.toList.drop 71 = dktX5_next_3 := dk_seg dksX5_next_2 23 rfl rfl
theorem dksX5_next_4 : cX5_next.data.toList.drop 95 = dktX5_next_4 := dk_seg dksX5_next_3 24 rfl rfl
theorem dksX5_next_5 : cX5_next.data.toList.drop 119 = dktX5_next_5 := dk_seg dksX5_next_4 24 rfl rfl
theorem dksX5_next_6 : cX5_next.data.toList.drop 141 = dktX5_next_6 := dk_seg dksX5_next_5 22 rfl rfl
theorem dksX5_next_7 : cX5_next.data.toList.drop 165 = dktX5_next_7 := dk_seg dksX5_next_6 24 rfl rfl
theorem dksX5_next_8 : cX5_next.data.toList.drop 188 = dktX5_next_8 := dk_seg dksX5_next_7 23 rfl rfl
theorem dksX5_next_9 : cX5_next.data.toList.drop 212 = dktX5_next_9 := dk_seg dksX5_next_8 24 rfl rfl
theorem dksX5_next_10 : cX5_next.data.toList.drop 236 = dktX5_next_10 := dk_seg dksX5_next_9 24 rfl rfl
theorem dksX5_next_11 : cX5_next.data.toList.drop 260 = dktX5_next_11 := dk_seg dksX5_next_10 24 rfl rfl
theorem dksX5_next_12 : cX5_next.data.toList.drop 282 = dktX5_next_12 := dk_seg dksX5_next_11 22 rfl rfl
theorem dksX5_next_13 : cX5_next.data.toList.drop 304 = dktX5_next_13 := dk_seg dksX5_next_12 22 rfl rfl
theorem dksX5_next_14 : cX5_next.data.toList.drop 328 = dktX5_next_14 := dk_seg dksX5_next_13 24 rfl rfl
theorem dX5_next_0 : decode cX5_next 0 = .ok (.aload_n 0, 1) := dk_42 (dk_at dksX5_next_0 0 rfl rfl)
theorem dX5_next_1 : decode cX5_next 1 = .ok (.invokevirtual 165, 3) := dk_182 0 165 (dk_at dksX5_next_0 1 rfl rfl)
theorem dX5_next_4 : decode cX5_next 4 = .ok (.bipush 32, 2) := dk_16 32 (dk_at dksX5_next_0 4 rfl rfl)
theorem dX5_next_6 : decode cX5_next 6 = .ok (.if_icmp .eq 12, 3) := dk_159 0 12 (dk_at dksX5_next_0 6 rfl rfl)
theorem dX5_next_9 : decode cX5_next 9 = .ok (.aload_n 0, 1) := dk_42 (dk_at dksX5_next_0 9 rfl rfl)
theorem dX5_next_10 : decode cX5_next 10 = .ok (.invokevirtual 165, 3) := dk_182 0 165 (dk_at dksX5_next_0 10 rfl rfl)
theorem dX5_next_13 : decode cX5_next 13 = .ok (.bipush 10, 2) := dk_16 10 (dk_at dksX5_next_0 13 rfl rfl)
theorem dX5_next_15 : decode cX5_next 15 = .ok (.if_icmp .ne 16, 3) := dk_160 0 16 (dk_at dksX5_next_0 15 rfl rfl)
theorem dX5_next_18 : decode cX5_next 18 = .ok (.aload_n 0, 1) := dk_42 (dk_at dksX5_next_0 18 rfl rfl)
theorem dX5_next_19 : decode cX5_next 19 = .ok (.dup, 1) := dk_89 (dk_at dksX5_next_0 19 rfl rfl)
theorem dX5_next_20 : decode cX5_next 20 = .ok (.getfield 21, 3) := dk_180 0 21 (dk_at dksX5_next_0 20 rfl rfl)
theorem dX5_next_23 : decode cX5_next 23 = .ok (.iconst 1, 1) := dk_4 (dk_at dksX5_next_0 23 rfl rfl)
theorem dX5_next_24 : decode cX5_next 24 = .ok (.iadd, 1) := dk_96 (dk_at dksX5_next_1 0 rfl rfl)
theorem dX5_next_25 : decode cX5_next 25 = .ok (.putfield 21, 3) := dk_181 0 21 (dk_at dksX5_next_1 1 rfl rfl)
theorem dX5_next_28 : decode cX5_next 28 = .ok (.goto (-28), 3) := dk_167 255 228 (dk_at dksX5_next_1 4 rfl rfl)
theorem dX5_next_31 : decode cX5_next 31 = .ok (.aload_n 0, 1) := dk_42 (dk_at dksX5_next_1 7 rfl rfl)
theorem dX5_next_32 : decode cX5_next 32 = .ok (.aload_n 0, 1) := dk_42 (dk_at dksX5_next_1 8 rfl rfl)
theorem dX5_next_33 : decode cX5_next 33 = .ok (.getfield 21, 3) := dk_180 0 21 (dk_at dksX5_next_1 9 rfl rfl)
theorem dX5_next_36 : decode cX5_next 36 = .ok (.putfield 169, 3) := dk_181 0 169 (dk_at dksX5_next_1 12 rfl rfl)
theorem dX5_next_39 : decode cX5_next 39 = .ok (.aload_n 0, 1) := dk_42 (dk_at dksX5_next_1 15 rfl rfl)
theorem dX5_next_40 : decode cX5_next 40 = .ok (.iconst 0, 1) := dk_3 (dk_at dksX5_next_1 16 rfl rfl)
theorem dX5_next_41 : decode cX5_next 41 = .ok (.putfield 172, 3) := dk_181 0 172 (dk_at dksX5_next_1 17 rfl rfl)
theorem dX5_next_44 : decode cX5_next 44 = .ok (.aload_n 0, 1) := dk_42 (dk_at dksX5_next_1 20 rfl rfl)
theorem dX5_next_45 : decode cX5_next 45 = .ok (.getfield 18, 3) := dk_180 0 18 (dk_at dksX5_next_1 21 rfl rfl)
theorem dX5_next_48 : decode cX5_next 48 = .ok (.aload_n 0, 1) := dk_42 (dk_at dksX5_next_2 0 rfl rfl)
theorem dX5_next_49 : decode cX5_next 49 = .ok (.getfield 24, 3) := dk_180 0 24 (dk_at dksX5_next_2 1 rfl rfl)
theorem dX5_next_52 : decode cX5_next 52 = .ok (.if_icmp .le 28, 3) := dk_164 0 28 (dk_at dksX5_next_2 4 rfl rfl)
theorem dX5_next_55 : decode cX5_next 55 = .ok (.aload_n 0, 1) := dk_42 (dk_at dksX5_next_2 7 rfl rfl)
theorem dX5_next_56 : decode cX5_next 56 = .ok (.getfield 21, 3) := dk_180 0 21 (dk_at dksX5_next_2 8 rfl rfl)
theorem dX5_next_59 : decode cX5_next 59 = .ok (.aload_n 0, 1) := dk_42 (dk_at dksX5_next_2 11 rfl rfl)
theorem dX5_next_60 : decode cX5_next 60 = .ok (.getfield 24, 3) := dk_180 0 24 (dk_at dksX5_next_2 12 rfl rfl)
theorem dX5_next_63 : decode cX5_next 63 = .ok (.if_icmp .lt 17, 3) := dk_161 0 17 (dk_at dksX5_next_2 15 rfl rfl)
theorem dX5_next_66 : decode cX5_next 66 = .ok (.aload_n 0, 1) := dk_42 (dk_at dksX5_next_2 18 rfl rfl)
theorem dX5_next_67 : decode cX5_next 67 = .ok (.aload_n 0, 1) := dk_42 (dk_at dksX5_next_2 19 rfl rfl)
theorem dX5_next_68 : decode cX5_next 68 = .ok (.getfield 24, 3) := dk_180 0 24 (dk_at dksX5_next_2 20 rfl rfl)
theorem dX5_next_71 : decode cX5_next 71 = .ok (.putfield 169, 3) := dk_181 0 169 (dk_at dksX5_next_3 0 rfl rfl)
theorem dX5_next_74 : decode cX5_next 74 = .ok (.aload_n 0, 1) := dk_42 (dk_at dksX5_next_3 3 rfl rfl)
theorem dX5_next_75 : decode cX5_next 75 = .ok (.iconst 4, 1) := dk_7 (dk_at dksX5_next_3 4 rfl rfl)
theorem dX5_next_76 : decode cX5_next 76 = .ok (.putfield 175, 3) := dk_181 0 175 (dk_at dksX5_next_3 5 rfl rfl)
theorem dX5_next_79 : decode cX5_next 79 = .ok (.return_, 1) := dk_177 (dk_at dksX5_next_3 8 rfl rfl)
theorem dX5_next_80 : decode cX5_next 80 = .ok (.aload_n 0, 1) := dk_42 (dk_at dksX5_next_3 9 rfl rfl)
theorem dX5_next_81 : decode cX5_next 81 = .ok (.invokevirtual 165, 3) := dk_182 0 165 (dk_at dksX5_next_3 10 rfl rfl)
theorem dX5_next_84 : decode cX5_next 84 = .ok (.istore_n 1, 1) := dk_60 (dk_at dksX5_next_3 13 rfl rfl)
theorem dX5_next_85 : decode cX5_next 85 = .ok (.iload_n 1, 1) := dk_27 (dk_at dksX5_next_3 14 rfl rfl)
theorem dX5_next_86 : decode cX5_next 86 = .ok (.ifCond .ge 9, 3) := dk_156 0 9 (dk_at dksX5_next_3 15 rfl rfl)
theorem dX5_next_89 : decode cX5_next 89 = .ok (.aload_n 0, 1) := dk_42 (dk_at dksX5_next_3 18 rfl rfl)
theorem dX5_next_90 : decode cX5_next 90 = .ok (.iconst 0, 1) := dk_3 (dk_at dksX5_next_3 19 rfl rfl)
theorem dX5_next_91 : decode cX5_next 91 = .ok (.putfield 175, 3) := dk_181 0 175 (dk_at dksX5_next_3 20 rfl rfl)
theorem dX5_next_94 : decode cX5_next 94 = .ok (.return_, 1) := dk_177 (dk_at dksX5_next_3 23 rfl rfl)
theorem dX5_next_95 : decode cX5_next 95 = .ok (.iload_n 1, 1) := dk_27 (dk_at dksX5_next_4 0 rfl rfl)
theorem dX5_next_96 : decode cX5_next 96 = .ok (.invokestatic 178, 3) := dk_184 0 178 (dk_at dksX5_next_4 1 rfl rfl)
theorem dX5_next_99 : decode cX5_next 99 = .ok (.ifCond .ne 65, 3) := dk_154 0 65 (dk_at dksX5_next_4 4 rfl rfl)
theorem dX5_next_102 : decode cX5_next 102 = .ok (.iload_n 1, 1) := dk_27 (dk_at dksX5_next_4 7 rfl rfl)
theorem dX5_next_103 : decode cX5_next 103 = .ok (.invokestatic 182, 3) := dk_184 0 182 (dk_at dksX5_next_4 8 rfl rfl)
theorem dX5_next_106 : decode cX5_next 106 = .ok (.ifCond .ne 58, 3) := dk_154 0 58 (dk_at dksX5_next_4 11 rfl rfl)
theorem dX5_next_109 : decode cX5_next 109 = .ok (.aload_n 0, 1) := dk_42 (dk_at dksX5_next_4 14 rfl rfl)
theorem dX5_next_110 : decode cX5_next 110 = .ok (.iload_n 1, 1) := dk_27 (dk_at dksX5_next_4 15 rfl rfl)
theorem dX5_next_111 : decode cX5_next 111 = .ok (.bipush 59, 2) := dk_16 59 (dk_at dksX5_next_4 16 rfl rfl)
theorem dX5_next_113 : decode cX5_next 113 = .ok (.if_icmp .eq 27, 3) := dk_159 0 27 (dk_at dksX5_next_4 18 rfl rfl)
theorem dX5_next_116 : decode cX5_next 116 = .ok (.iload_n 1, 1) := dk_27 (dk_at dksX5_next_4 21 rfl rfl)
theorem dX5_next_117 : decode cX5_next 117 = .ok (.bipush 40, 2) := dk_16 40 (dk_at dksX5_next_4 22 rfl rfl)
theorem dX5_next_119 : decode cX5_next 119 = .ok (.if_icmp .eq 21, 3) := dk_159 0 21 (dk_at dksX5_next_5 0 rfl rfl)
theorem dX5_next_122 : decode cX5_next 122 = .ok (.iload_n 1, 1) := dk_27 (dk_at dksX5_next_5 3 rfl rfl)
theorem dX5_next_123 : decode cX5_next 123 = .ok (.bipush 41, 2) := dk_16 41 (dk_at dksX5_next_5 4 rfl rfl)
theorem dX5_next_125 : decode cX5_next 125 = .ok (.if_icmp .eq 15, 3) := dk_159 0 15 (dk_at dksX5_next_5 6 rfl rfl)
theorem dX5_next_128 : decode cX5_next 128 = .ok (.iload_n 1, 1) := dk_27 (dk_at dksX5_next_5 9 rfl rfl)
theorem dX5_next_129 : decode cX5_next 129 = .ok (.bipush 60, 2) := dk_16 60 (dk_at dksX5_next_5 10 rfl rfl)
theorem dX5_next_131 : decode cX5_next 131 = .ok (.if_icmp .lt 13, 3) := dk_161 0 13 (dk_at dksX5_next_5 12 rfl rfl)
theorem dX5_next_134 : decode cX5_next 134 = .ok (.iload_n 1, 1) := dk_27 (dk_at dksX5_next_5 15 rfl rfl)
theorem dX5_next_135 : decode cX5_next 135 = .ok (.bipush 62, 2) := dk_16 62 (dk_at dksX5_next_5 16 rfl rfl)
theorem dX5_next_137 : decode cX5_next 137 = .ok (.if_icmp .gt 7, 3) := dk_163 0 7 (dk_at dksX5_next_5 18 rfl rfl)
theorem dX5_next_140 : decode cX5_next 140 = .ok (.iconst 3, 1) := dk_6 (dk_at dksX5_next_5 21 rfl rfl)
theorem dX5_next_141 : decode cX5_next 141 = .ok (.goto 4, 3) := dk_167 0 4 (dk_at dksX5_next_6 0 rfl rfl)
theorem dX5_next_144 : decode cX5_next 144 = .ok (.iconst 4, 1) := dk_7 (dk_at dksX5_next_6 3 rfl rfl)
theorem dX5_next_145 : decode cX5_next 145 = .ok (.putfield 175, 3) := dk_181 0 175 (dk_at dksX5_next_6 4 rfl rfl)
theorem dX5_next_148 : decode cX5_next 148 = .ok (.aload_n 0, 1) := dk_42 (dk_at dksX5_next_6 7 rfl rfl)
theorem dX5_next_149 : decode cX5_next 149 = .ok (.iload_n 1, 1) := dk_27 (dk_at dksX5_next_6 8 rfl rfl)
theorem dX5_next_150 : decode cX5_next 150 = .ok (.putfield 185, 3) := dk_181 0 185 (dk_at dksX5_next_6 9 rfl rfl)
theorem dX5_next_153 : decode cX5_next 153 = .ok (.aload_n 0, 1) := dk_42 (dk_at dksX5_next_6 12 rfl rfl)
theorem dX5_next_154 : decode cX5_next 154 = .ok (.dup, 1) := dk_89 (dk_at dksX5_next_6 13 rfl rfl)
theorem dX5_next_155 : decode cX5_next 155 = .ok (.getfield 21, 3) := dk_180 0 21 (dk_at dksX5_next_6 14 rfl rfl)
theorem dX5_next_158 : decode cX5_next 158 = .ok (.iconst 1, 1) := dk_4 (dk_at dksX5_next_6 17 rfl rfl)
theorem dX5_next_159 : decode cX5_next 159 = .ok (.iadd, 1) := dk_96 (dk_at dksX5_next_6 18 rfl rfl)
theorem dX5_next_160 : decode cX5_next 160 = .ok (.putfield 21, 3) := dk_181 0 21 (dk_at dksX5_next_6 19 rfl rfl)
theorem dX5_next_163 : decode cX5_next 163 = .ok (.return_, 1) := dk_177 (dk_at dksX5_next_6 22 rfl rfl)
theorem dX5_next_164 : decode cX5_next 164 = .ok (.iload_n 1, 1) := dk_27 (dk_at dksX5_next_6 23 rfl rfl)
theorem dX5_next_165 : decode cX5_next 165 = .ok (.invokestatic 178, 3) := dk_184 0 178 (dk_at dksX5_next_7 0 rfl rfl)
theorem dX5_next_168 : decode cX5_next 168 = .ok (.istore_n 2, 1) := dk_61 (dk_at dksX5_next_7 3 rfl rfl)
theorem dX5_next_169 : decode cX5_next 169 = .ok (.iconst 1, 1) := dk_4 (dk_at dksX5_next_7 4 rfl rfl)
theorem dX5_next_170 : decode cX5_next 170 = .ok (.istore_n 3, 1) := dk_62 (dk_at dksX5_next_7 5 rfl rfl)
theorem dX5_next_171 : decode cX5_next 171 = .ok (.aload_n 0, 1) := dk_42 (dk_at dksX5_next_7 6 rfl rfl)
theorem dX5_next_172 : decode cX5_next 172 = .ok (.lconst 0, 1) := dk_9 (dk_at dksX5_next_7 7 rfl rfl)
theorem dX5_next_173 : decode cX5_next 173 = .ok (.putfield 188, 3) := dk_181 0 188 (dk_at dksX5_next_7 8 rfl rfl)
theorem dX5_next_176 : decode cX5_next 176 = .ok (.aload_n 0, 1) := dk_42 (dk_at dksX5_next_7 11 rfl rfl)
theorem dX5_next_177 : decode cX5_next 177 = .ok (.iconst 0, 1) := dk_3 (dk_at dksX5_next_7 12 rfl rfl)
theorem dX5_next_178 : decode cX5_next 178 = .ok (.putfield 185, 3) := dk_181 0 185 (dk_at dksX5_next_7 13 rfl rfl)
theorem dX5_next_181 : decode cX5_next 181 = .ok (.aload_n 0, 1) := dk_42 (dk_at dksX5_next_7 16 rfl rfl)
theorem dX5_next_182 : decode cX5_next 182 = .ok (.invokevirtual 165, 3) := dk_182 0 165 (dk_at dksX5_next_7 17 rfl rfl)
theorem dX5_next_185 : decode cX5_next 185 = .ok (.invokestatic 178, 3) := dk_184 0 178 (dk_at dksX5_next_7 20 rfl rfl)
theorem dX5_next_188 : decode cX5_next 188 = .ok (.ifCond .ne 13, 3) := dk_154 0 13 (dk_at dksX5_next_8 0 rfl rfl)
theorem dX5_next_191 : decode cX5_next 191 = .ok (.aload_n 0, 1) := dk_42 (dk_at dksX5_next_8 3 rfl rfl)
theorem dX5_next_192 : decode cX5_next 192 = .ok (.invokevirtual 165, 3) := dk_182 0 165 (dk_at dksX5_next_8 4 rfl rfl)
theorem dX5_next_195 : decode cX5_next 195 = .ok (.invokestatic 182, 3) := dk_184 0 182 (dk_at dksX5_next_8 7 rfl rfl)
theorem dX5_next_198 : decode cX5_next 198 = .ok (.ifCond .eq 100, 3) := dk_153 0 100 (dk_at dksX5_next_8 10 rfl rfl)
theorem dX5_next_201 : decode cX5_next 201 = .ok (.iload_n 3, 1) := dk_29 (dk_at dksX5_next_8 13 rfl rfl)
theorem dX5_next_202 : decode cX5_next 202 = .ok (.ifCond .eq 18, 3) := dk_153 0 18 (dk_at dksX5_next_8 14 rfl rfl)
theorem dX5_next_205 : decode cX5_next 205 = .ok (.aload_n 0, 1) := dk_42 (dk_at dksX5_next_8 17 rfl rfl)
theorem dX5_next_206 : decode cX5_next 206 = .ok (.invokevirtual 165, 3) := dk_182 0 165 (dk_at dksX5_next_8 18 rfl rfl)
theorem dX5_next_209 : decode cX5_next 209 = .ok (.invokestatic 178, 3) := dk_184 0 178 (dk_at dksX5_next_8 21 rfl rfl)
theorem dX5_next_212 : decode cX5_next 212 = .ok (.iload_n 2, 1) := dk_28 (dk_at dksX5_next_9 0 rfl rfl)
theorem dX5_next_213 : decode cX5_next 213 = .ok (.if_icmp .ne 7, 3) := dk_160 0 7 (dk_at dksX5_next_9 1 rfl rfl)
theorem dX5_next_216 : decode cX5_next 216 = .ok (.iconst 1, 1) := dk_4 (dk_at dksX5_next_9 4 rfl rfl)
theorem dX5_next_217 : decode cX5_next 217 = .ok (.goto 4, 3) := dk_167 0 4 (dk_at dksX5_next_9 5 rfl rfl)
theorem dX5_next_220 : decode cX5_next 220 = .ok (.iconst 0, 1) := dk_3 (dk_at dksX5_next_9 8 rfl rfl)
theorem dX5_next_221 : decode cX5_next 221 = .ok (.istore_n 3, 1) := dk_62 (dk_at dksX5_next_9 9 rfl rfl)
theorem dX5_next_222 : decode cX5_next 222 = .ok (.aload_n 0, 1) := dk_42 (dk_at dksX5_next_9 10 rfl rfl)
theorem dX5_next_223 : decode cX5_next 223 = .ok (.getfield 172, 3) := dk_180 0 172 (dk_at dksX5_next_9 11 rfl rfl)
theorem dX5_next_226 : decode cX5_next 226 = .ok (.bipush 7, 2) := dk_16 7 (dk_at dksX5_next_9 14 rfl rfl)
theorem dX5_next_228 : decode cX5_next 228 = .ok (.if_icmp .ge 20, 3) := dk_162 0 20 (dk_at dksX5_next_9 16 rfl rfl)
theorem dX5_next_231 : decode cX5_next 231 = .ok (.aload_n 0, 1) := dk_42 (dk_at dksX5_next_9 19 rfl rfl)
theorem dX5_next_232 : decode cX5_next 232 = .ok (.aload_n 0, 1) := dk_42 (dk_at dksX5_next_9 20 rfl rfl)
theorem dX5_next_233 : decode cX5_next 233 = .ok (.getfield 188, 3) := dk_180 0 188 (dk_at dksX5_next_9 21 rfl rfl)
theorem dX5_next_236 : decode cX5_next 236 = .ok (.bipush 8, 2) := dk_16 8 (dk_at dksX5_next_10 0 rfl rfl)
theorem dX5_next_238 : decode cX5_next 238 = .ok (.lshl, 1) := dk_121 (dk_at dksX5_next_10 2 rfl rfl)
theorem dX5_next_239 : decode cX5_next 239 = .ok (.aload_n 0, 1) := dk_42 (dk_at dksX5_next_10 3 rfl rfl)
theorem dX5_next_240 : decode cX5_next 240 = .ok (.invokevirtual 165, 3) := dk_182 0 165 (dk_at dksX5_next_10 4 rfl rfl)
theorem dX5_next_243 : decode cX5_next 243 = .ok (.i2l, 1) := dk_133 (dk_at dksX5_next_10 7 rfl rfl)
theorem dX5_next_244 : decode cX5_next 244 = .ok (.lor, 1) := dk_129 (dk_at dksX5_next_10 8 rfl rfl)
theorem dX5_next_245 : decode cX5_next 245 = .ok (.putfield 188, 3) := dk_181 0 188 (dk_at dksX5_next_10 9 rfl rfl)
theorem dX5_next_248 : decode cX5_next 248 = .ok (.aload_n 0, 1) := dk_42 (dk_at dksX5_next_10 12 rfl rfl)
theorem dX5_next_249 : decode cX5_next 249 = .ok (.getfield 172, 3) := dk_180 0 172 (dk_at dksX5_next_10 13 rfl rfl)
theorem dX5_next_252 : decode cX5_next 252 = .ok (.iconst 3, 1) := dk_6 (dk_at dksX5_next_10 16 rfl rfl)
theorem dX5_next_253 : decode cX5_next 253 = .ok (.if_icmp .ge 22, 3) := dk_162 0 22 (dk_at dksX5_next_10 17 rfl rfl)
theorem dX5_next_256 : decode cX5_next 256 = .ok (.aload_n 0, 1) := dk_42 (dk_at dksX5_next_10 20 rfl rfl)
theorem dX5_next_257 : decode cX5_next 257 = .ok (.bipush 10, 2) := dk_16 10 (dk_at dksX5_next_10 21 rfl rfl)
theorem dX5_next_259 : decode cX5_next 259 = .ok (.aload_n 0, 1) := dk_42 (dk_at dksX5_next_10 23 rfl rfl)
theorem dX5_next_260 : decode cX5_next 260 = .ok (.getfield 185, 3) := dk_180 0 185 (dk_at dksX5_next_11 0 rfl rfl)
theorem dX5_next_263 : decode cX5_next 263 = .ok (.imul, 1) := dk_104 (dk_at dksX5_next_11 3 rfl rfl)
theorem dX5_next_264 : decode cX5_next 264 = .ok (.aload_n 0, 1) := dk_42 (dk_at dksX5_next_11 4 rfl rfl)
theorem dX5_next_265 : decode cX5_next 265 = .ok (.invokevirtual 165, 3) := dk_182 0 165 (dk_at dksX5_next_11 5 rfl rfl)
theorem dX5_next_268 : decode cX5_next 268 = .ok (.iadd, 1) := dk_96 (dk_at dksX5_next_11 8 rfl rfl)
theorem dX5_next_269 : decode cX5_next 269 = .ok (.bipush 48, 2) := dk_16 48 (dk_at dksX5_next_11 9 rfl rfl)
theorem dX5_next_271 : decode cX5_next 271 = .ok (.isub, 1) := dk_100 (dk_at dksX5_next_11 11 rfl rfl)
theorem dX5_next_272 : decode cX5_next 272 = .ok (.putfield 185, 3) := dk_181 0 185 (dk_at dksX5_next_11 12 rfl rfl)
theorem dX5_next_275 : decode cX5_next 275 = .ok (.aload_n 0, 1) := dk_42 (dk_at dksX5_next_11 15 rfl rfl)
theorem dX5_next_276 : decode cX5_next 276 = .ok (.dup, 1) := dk_89 (dk_at dksX5_next_11 16 rfl rfl)
theorem dX5_next_277 : decode cX5_next 277 = .ok (.getfield 172, 3) := dk_180 0 172 (dk_at dksX5_next_11 17 rfl rfl)
theorem dX5_next_280 : decode cX5_next 280 = .ok (.iconst 1, 1) := dk_4 (dk_at dksX5_next_11 20 rfl rfl)
theorem dX5_next_281 : decode cX5_next 281 = .ok (.iadd, 1) := dk_96 (dk_at dksX5_next_11 21 rfl rfl)
theorem dX5_next_282 : decode cX5_next 282 = .ok (.putfield 172, 3) := dk_181 0 172 (dk_at dksX5_next_12 0 rfl rfl)
theorem dX5_next_285 : decode cX5_next 285 = .ok (.aload_n 0, 1) := dk_42 (dk_at dksX5_next_12 3 rfl rfl)
theorem dX5_next_286 : decode cX5_next 286 = .ok (.dup, 1) := dk_89 (dk_at dksX5_next_12 4 rfl rfl)
theorem dX5_next_287 : decode cX5_next 287 = .ok (.getfield 21, 3) := dk_180 0 21 (dk_at dksX5_next_12 5 rfl rfl)
theorem dX5_next_290 : decode cX5_next 290 = .ok (.iconst 1, 1) := dk_4 (dk_at dksX5_next_12 8 rfl rfl)
theorem dX5_next_291 : decode cX5_next 291 = .ok (.iadd, 1) := dk_96 (dk_at dksX5_next_12 9 rfl rfl)
theorem dX5_next_292 : decode cX5_next 292 = .ok (.putfield 21, 3) := dk_181 0 21 (dk_at dksX5_next_12 10 rfl rfl)
theorem dX5_next_295 : decode cX5_next 295 = .ok (.goto (-114), 3) := dk_167 255 142 (dk_at dksX5_next_12 13 rfl rfl)
theorem dX5_next_298 : decode cX5_next 298 = .ok (.aload_n 0, 1) := dk_42 (dk_at dksX5_next_12 16 rfl rfl)
theorem dX5_next_299 : decode cX5_next 299 = .ok (.iload_n 3, 1) := dk_29 (dk_at dksX5_next_12 17 rfl rfl)
theorem dX5_next_300 : decode cX5_next 300 = .ok (.ifCond .eq 20, 3) := dk_153 0 20 (dk_at dksX5_next_12 18 rfl rfl)
theorem dX5_next_303 : decode cX5_next 303 = .ok (.aload_n 0, 1) := dk_42 (dk_at dksX5_next_12 21 rfl rfl)
theorem dX5_next_304 : decode cX5_next 304 = .ok (.getfield 172, 3) := dk_180 0 172 (dk_at dksX5_next_13 0 rfl rfl)
theorem dX5_next_307 : decode cX5_next 307 = .ok (.iload_n 2, 1) := dk_28 (dk_at dksX5_next_13 3 rfl rfl)
theorem dX5_next_308 : decode cX5_next 308 = .ok (.ifCond .eq 8, 3) := dk_153 0 8 (dk_at dksX5_next_13 4 rfl rfl)
theorem dX5_next_311 : decode cX5_next 311 = .ok (.bipush 7, 2) := dk_16 7 (dk_at dksX5_next_13 7 rfl rfl)
theorem dX5_next_313 : decode cX5_next 313 = .ok (.goto 4, 3) := dk_167 0 4 (dk_at dksX5_next_13 9 rfl rfl)
theorem dX5_next_316 : decode cX5_next 316 = .ok (.iconst 3, 1) := dk_6 (dk_at dksX5_next_13 12 rfl rfl)
theorem dX5_next_317 : decode cX5_next 317 = .ok (.if_icmp .le 7, 3) := dk_164 0 7 (dk_at dksX5_next_13 13 rfl rfl)
theorem dX5_next_320 : decode cX5_next 320 = .ok (.iconst 4, 1) := dk_7 (dk_at dksX5_next_13 16 rfl rfl)
theorem dX5_next_321 : decode cX5_next 321 = .ok (.goto 12, 3) := dk_167 0 12 (dk_at dksX5_next_13 17 rfl rfl)
theorem dX5_next_324 : decode cX5_next 324 = .ok (.iload_n 2, 1) := dk_28 (dk_at dksX5_next_13 20 rfl rfl)
theorem dX5_next_325 : decode cX5_next 325 = .ok (.ifCond .eq 7, 3) := dk_153 0 7 (dk_at dksX5_next_13 21 rfl rfl)
theorem dX5_next_328 : decode cX5_next 328 = .ok (.iconst 1, 1) := dk_4 (dk_at dksX5_next_14 0 rfl rfl)
theorem dX5_next_329 : decode cX5_next 329 = .ok (.goto 4, 3) := dk_167 0 4 (dk_at dksX5_next_14 1 rfl rfl)
theorem dX5_next_332 : decode cX5_next 332 = .ok (.iconst 2, 1) := dk_5 (dk_at dksX5_next_14 4 rfl rfl)
theorem dX5_next_333 : decode cX5_next 333 = .ok (.putfield 175, 3) := dk_181 0 175 (dk_at dksX5_next_14 5 rfl rfl)
theorem dX5_next_336 : decode cX5_next 336 = .ok (.return_, 1) := dk_177 (dk_at dksX5_next_14 8 rfl rfl)
abbrev cX5_peek : ByteArray := prog_32_method_15_code
def yX5_peek : MethodName := ⟨RX5, "peek", "()I"⟩
def dkwX5_peek_1 : List UInt8 := [167, 0, 4, 2, 172]
abbrev dktX5_peek_1 : List UInt8 := dkwX5_peek_1 ++ []
def dkwX5_peek_0 : List UInt8 := [42, 180, 0, 21, 42, 180, 0, 18, 162, 0, 19, 42, 180, 0, 14, 42, 180, 0, 21, 51, 17, 0, 255, 126]
abbrev dktX5_peek_0 : List UInt8 := dkwX5_peek_0 ++ dktX5_peek_1
theorem dksX5_peek_0 : cX5_peek.data.toList.drop 0 = dktX5_peek_0 := by decide +kernel
theorem dksX5_peek_1 : cX5_peek.data.toList.drop 24 = dktX5_peek_1 := dk_seg dksX5_peek_0 24 rfl rfl
theorem dX5_peek_0 : decode cX5_peek 0 = .ok (.aload_n 0, 1) := dk_42 (dk_at dksX5_peek_0 0 rfl rfl)
theorem dX5_peek_1 : decode cX5_peek 1 = .ok (.getfield 21, 3) := dk_180 0 21 (dk_at dksX5_peek_0 1 rfl rfl)
theorem dX5_peek_4 : decode cX5_peek 4 = .ok (.aload_n 0, 1) := dk_42 (dk_at dksX5_peek_0 4 rfl rfl)
theorem dX5_peek_5 : decode cX5_peek 5 = .ok (.getfield 18, 3) := dk_180 0 18 (dk_at dksX5_peek_0 5 rfl rfl)
theorem dX5_peek_8 : decode cX5_peek 8 = .ok (.if_icmp .ge 19, 3) := dk_162 0 19 (dk_at dksX5_peek_0 8 rfl rfl)
theorem dX5_peek_11 : decode cX5_peek 11 = .ok (.aload_n 0, 1) := dk_42 (dk_at dksX5_peek_0 11 rfl rfl)
theorem dX5_peek_12 : decode cX5_peek 12 = .ok (.getfield 14, 3) := dk_180 0 14 (dk_at dksX5_peek_0 12 rfl rfl)
theorem dX5_peek_15 : decode cX5_peek 15 = .ok (.aload_n 0, 1) := dk_42 (dk_at dksX5_peek_0 15 rfl rfl)
theorem dX5_peek_16 : decode cX5_peek 16 = .ok (.getfield 21, 3) := dk_180 0 21 (dk_at dksX5_peek_0 16 rfl rfl)
theorem dX5_peek_19 : decode cX5_peek 19 = .ok (.baload, 1) := dk_51 (dk_at dksX5_peek_0 19 rfl rfl)
theorem dX5_peek_20 : decode cX5_peek 20 = .ok (.sipush 255, 3) := dk_17 0 255 (dk_at dksX5_peek_0 20 rfl rfl)
theorem dX5_peek_23 : decode cX5_peek 23 = .ok (.iand, 1) := dk_126 (dk_at dksX5_peek_0 23 rfl rfl)
theorem dX5_peek_24 : decode cX5_peek 24 = .ok (.goto 4, 3) := dk_167 0 4 (dk_at dksX5_peek_1 0 rfl rfl)
theorem dX5_peek_27 : decode cX5_peek 27 = .ok (.iconst (-1), 1) := dk_2 (dk_at dksX5_peek_1 3 rfl rfl)
theorem dX5_peek_28 : decode cX5_peek 28 = .ok (.ireturn, 1) := dk_172 (dk_at dksX5_peek_1 4 rfl rfl)
abbrev cX5_isSmall : ByteArray := prog_32_method_16_code
def yX5_isSmall : MethodName := ⟨RX5, "isSmall", "(I)Z"⟩
def dkwX5_isSmall_0 : List UInt8 := [26, 16, 97, 161, 0, 13, 26, 16, 122, 163, 0, 7, 4, 167, 0, 4, 3, 172]
abbrev dktX5_isSmall_0 : List UInt8 := dkwX5_isSmall_0 ++ []
theorem dksX5_isSmall_0 : cX5_isSmall.data.toList.drop 0 = dktX5_isSmall_0 := by decide +kernel
theorem dX5_isSmall_0 : decode cX5_isSmall 0 = .ok (.iload_n 0, 1) := dk_26 (dk_at dksX5_isSmall_0 0 rfl rfl)
theorem dX5_isSmall_1 : decode cX5_isSmall 1 = .ok (.bipush 97, 2) := dk_16 97 (dk_at dksX5_isSmall_0 1 rfl rfl)
theorem dX5_isSmall_3 : decode cX5_isSmall 3 = .ok (.if_icmp .lt 13, 3) := dk_161 0 13 (dk_at dksX5_isSmall_0 3 rfl rfl)
theorem dX5_isSmall_6 : decode cX5_isSmall 6 = .ok (.iload_n 0, 1) := dk_26 (dk_at dksX5_isSmall_0 6 rfl rfl)
theorem dX5_isSmall_7 : decode cX5_isSmall 7 = .ok (.bipush 122, 2) := dk_16 122 (dk_at dksX5_isSmall_0 7 rfl rfl)
theorem dX5_isSmall_9 : decode cX5_isSmall 9 = .ok (.if_icmp .gt 7, 3) := dk_163 0 7 (dk_at dksX5_isSmall_0 9 rfl rfl)
theorem dX5_isSmall_12 : decode cX5_isSmall 12 = .ok (.iconst 1, 1) := dk_4 (dk_at dksX5_isSmall_0 12 rfl rfl)
theorem dX5_isSmall_13 : decode cX5_isSmall 13 = .ok (.goto 4, 3) := dk_167 0 4 (dk_at dksX5_isSmall_0 13 rfl rfl)
theorem dX5_isSmall_16 : decode cX5_isSmall 16 = .ok (.iconst 0, 1) := dk_3 (dk_at dksX5_isSmall_0 16 rfl rfl)
theorem dX5_isSmall_17 : decode cX5_isSmall 17 = .ok (.ireturn, 1) := dk_172 (dk_at dksX5_isSmall_0 17 rfl rfl)
abbrev cX5_isDigit : ByteArray := prog_32_method_17_code
def yX5_isDigit : MethodName := ⟨RX5, "isDigit", "(I)Z"⟩
def dkwX5_isDigit_0 : List UInt8 := [26, 16, 48, 161, 0, 13, 26, 16, 57, 163, 0, 7, 4, 167, 0, 4, 3, 172]
abbrev dktX5_isDigit_0 : List UInt8 := dkwX5_isDigit_0 ++ []
theorem dksX5_isDigit_0 : cX5_isDigit.data.toList.drop 0 = dktX5_isDigit_0 := by decide +kernel
theorem dX5_isDigit_0 : decode cX5_isDigit 0 = .ok (.iload_n 0, 1) := dk_26 (dk_at dksX5_isDigit_0 0 rfl rfl)
theorem dX5_isDigit_1 : decode cX5_isDigit 1 = .ok (.bipush 48, 2) := dk_16 48 (dk_at dksX5_isDigit_0 1 rfl rfl)
theorem dX5_isDigit_3 : decode cX5_isDigit 3 = .ok (.if_icmp .lt 13, 3) := dk_161 0 13 (dk_at dksX5_isDigit_0 3 rfl rfl)
theorem dX5_isDigit_6 : decode cX5_isDigit 6 = .ok (.iload_n 0, 1) := dk_26 (dk_at dksX5_isDigit_0 6 rfl rfl)
theorem dX5_isDigit_7 : decode cX5_isDigit 7 = .ok (.bipush 57, 2) := dk_16 57 (dk_at dksX5_isDigit_0 7 rfl rfl)
theorem dX5_isDigit_9 : decode cX5_isDigit 9 = .ok (.if_icmp .gt 7, 3) := dk_163 0 7 (dk_at dksX5_isDigit_0 9 rfl rfl)
theorem dX5_isDigit_12 : decode cX5_isDigit 12 = .ok (.iconst 1, 1) := dk_4 (dk_at dksX5_isDigit_0 12 rfl rfl)
theorem dX5_isDigit_13 : decode cX5_isDigit 13 = .ok (.goto 4, 3) := dk_167 0 4 (dk_at dksX5_isDigit_0 13 rfl rfl)
theorem dX5_isDigit_16 : decode cX5_isDigit 16 = .ok (.iconst 0, 1) := dk_3 (dk_at dksX5_isDigit_0 16 rfl rfl)
theorem dX5_isDigit_17 : decode cX5_isDigit 17 = .ok (.ireturn, 1) := dk_172 (dk_at dksX5_isDigit_0 17 rfl rfl)
abbrev cX5_line : ByteArray := prog_32_method_30_code
def yX5_line : MethodName := ⟨RX5, "line", "()Z"⟩
def dkwX5_line_3 : List UInt8 := [42, 182, 0, 245, 167, 0, 8, 42, 4, 182, 0, 201, 172]
abbrev dktX5_line_3 : List UInt8 := dkwX5_line_3 ++ []
def dkwX5_line_2 : List UInt8 := [20, 0, 120, 182, 0, 229, 153, 0, 8, 42, 182, 0, 242, 172, 42, 20, 0, 122, 182, 0, 229, 153, 0, 10]
abbrev dktX5_line_2 : List UInt8 := dkwX5_line_2 ++ dktX5_line_3
def dkwX5_line_1 : List UInt8 := [153, 0, 8, 42, 182, 0, 236, 172, 42, 20, 0, 118, 182, 0, 229, 153, 0, 8, 42, 182, 0, 239, 172, 42]
abbrev dktX5_line_1 : List UInt8 := dkwX5_line_1 ++ dktX5_line_2
def dkwX5_line_0 : List UInt8 := [42, 20, 0, 114, 182, 0, 229, 153, 0, 8, 42, 182, 0, 233, 172, 42, 20, 0, 116, 182, 0, 229]
abbrev dktX5_line_0 : List UInt8 := dkwX5_line_0 ++ dktX5_line_1
theorem dksX5_line_0 : cX5_line.data.toList.drop 0 = dktX5_line_0 := by decide +kernel
theorem dksX5_line_1 : cX5_line.data.toList.drop 22 = dktX5_line_1 := dk_seg dksX5_line_0 22 rfl rfl
theorem dksX5_line_2 : cX5_line.data.toList.drop 46 = dktX5_line_2 := dk_seg dksX5_line_1 24 rfl rfl
theorem dksX5_line_3 : cX5_line.data.toList.drop 70 = dktX5_line_3 := dk_seg dksX5_line_2 24 rfl rfl
theorem dX5_line_0 : decode cX5_line 0 = .ok (.aload_n 0, 1) := dk_42 (dk_at dksX5_line_0 0 rfl rfl)
theorem dX5_line_1 : decode cX5_line 1 = .ok (.ldc2_w 114, 3) := dk_20 0 114 (dk_at dksX5_line_0 1 rfl rfl)
theorem dX5_line_4 : decode cX5_line 4 = .ok (.invokevirtual 229, 3) := dk_182 0 229 (dk_at dksX5_line_0 4 rfl rfl)
theorem dX5_line_7 : decode cX5_line 7 = .ok (.ifCond .eq 8, 3) := dk_153 0 8 (dk_at dksX5_line_0 7 rfl rfl)
theorem dX5_line_10 : decode cX5_line 10 = .ok (.aload_n 0, 1) := dk_42 (dk_at dksX5_line_0 10 rfl rfl)
theorem dX5_line_11 : decode cX5_line 11 = .ok (.invokevirtual 233, 3) := dk_182 0 233 (dk_at dksX5_line_0 11 rfl rfl)
theorem dX5_line_14 : decode cX5_line 14 = .ok (.ireturn, 1) := dk_172 (dk_at dksX5_line_0 14 rfl rfl)
theorem dX5_line_15 : decode cX5_line 15 = .ok (.aload_n 0, 1) := dk_42 (dk_at dksX5_line_0 15 rfl rfl)
theorem dX5_line_16 : decode cX5_line 16 = .ok (.ldc2_w 116, 3) := dk_20 0 116 (dk_at dksX5_line_0 16 rfl rfl)
theorem dX5_line_19 : decode cX5_line 19 = .ok (.invokevirtual 229, 3) := dk_182 0 229 (dk_at dksX5_line_0 19 rfl rfl)
theorem dX5_line_22 : decode cX5_line 22 = .ok (.ifCond .eq 8, 3) := dk_153 0 8 (dk_at dksX5_line_1 0 rfl rfl)
theorem dX5_line_25 : decode cX5_line 25 = .ok (.aload_n 0, 1) := dk_42 (dk_at dksX5_line_1 3 rfl rfl)
theorem dX5_line_26 : decode cX5_line 26 = .ok (.invokevirtual 236, 3) := dk_182 0 236 (dk_at dksX5_line_1 4 rfl rfl)
theorem dX5_line_29 : decode cX5_line 29 = .ok (.ireturn, 1) := dk_172 (dk_at dksX5_line_1 7 rfl rfl)
theorem dX5_line_30 : decode cX5_line 30 = .ok (.aload_n 0, 1) := dk_42 (dk_at dksX5_line_1 8 rfl rfl)
theorem dX5_line_31 : decode cX5_line 31 = .ok (.ldc2_w 118, 3) := dk_20 0 118 (dk_at dksX5_line_1 9 rfl rfl)
theorem dX5_line_34 : decode cX5_line 34 = .ok (.invokevirtual 229, 3) := dk_182 0 229 (dk_at dksX5_line_1 12 rfl rfl)
theorem dX5_line_37 : decode cX5_line 37 = .ok (.ifCond .eq 8, 3) := dk_153 0 8 (dk_at dksX5_line_1 15 rfl rfl)
theorem dX5_line_40 : decode cX5_line 40 = .ok (.aload_n 0, 1) := dk_42 (dk_at dksX5_line_1 18 rfl rfl)
theorem dX5_line_41 : decode cX5_line 41 = .ok (.invokevirtual 239, 3) := dk_182 0 239 (dk_at dksX5_line_1 19 rfl rfl)
theorem dX5_line_44 : decode cX5_line 44 = .ok (.ireturn, 1) := dk_172 (dk_at dksX5_line_1 22 rfl rfl)
theorem dX5_line_45 : decode cX5_line 45 = .ok (.aload_n 0, 1) := dk_42 (dk_at dksX5_line_1 23 rfl rfl)
theorem dX5_line_46 : decode cX5_line 46 = .ok (.ldc2_w 120, 3) := dk_20 0 120 (dk_at dksX5_line_2 0 rfl rfl)
theorem dX5_line_49 : decode cX5_line 49 = .ok (.invokevirtual 229, 3) := dk_182 0 229 (dk_at dksX5_line_2 3 rfl rfl)
theorem dX5_line_52 : decode cX5_line 52 = .ok (.ifCond .eq 8, 3) := dk_153 0 8 (dk_at dksX5_line_2 6 rfl rfl)
theorem dX5_line_55 : decode cX5_line 55 = .ok (.aload_n 0, 1) := dk_42 (dk_at dksX5_line_2 9 rfl rfl)
theorem dX5_line_56 : decode cX5_line 56 = .ok (.invokevirtual 242, 3) := dk_182 0 242 (dk_at dksX5_line_2 10 rfl rfl)
theorem dX5_line_59 : decode cX5_line 59 = .ok (.ireturn, 1) := dk_172 (dk_at dksX5_line_2 13 rfl rfl)
theorem dX5_line_60 : decode cX5_line 60 = .ok (.aload_n 0, 1) := dk_42 (dk_at dksX5_line_2 14 rfl rfl)
theorem dX5_line_61 : decode cX5_line 61 = .ok (.ldc2_w 122, 3) := dk_20 0 122 (dk_at dksX5_line_2 15 rfl rfl)
theorem dX5_line_64 : decode cX5_line 64 = .ok (.invokevirtual 229, 3) := dk_182 0 229 (dk_at dksX5_line_2 18 rfl rfl)
theorem dX5_line_67 : decode cX5_line 67 = .ok (.ifCond .eq 10, 3) := dk_153 0 10 (dk_at dksX5_line_2 21 rfl rfl)
theorem dX5_line_70 : decode cX5_line 70 = .ok (.aload_n 0, 1) := dk_42 (dk_at dksX5_line_3 0 rfl rfl)
theorem dX5_line_71 : decode cX5_line 71 = .ok (.invokevirtual 245, 3) := dk_182 0 245 (dk_at dksX5_line_3 1 rfl rfl)
theorem dX5_line_74 : decode cX5_line 74 = .ok (.goto 8, 3) := dk_167 0 8 (dk_at dksX5_line_3 4 rfl rfl)
theorem dX5_line_77 : decode cX5_line 77 = .ok (.aload_n 0, 1) := dk_42 (dk_at dksX5_line_3 7 rfl rfl)
theorem dX5_line_78 : decode cX5_line 78 = .ok (.iconst 1, 1) := dk_4 (dk_at dksX5_line_3 8 rfl rfl)
theorem dX5_line_79 : decode cX5_line 79 = .ok (.invokevirtual 201, 3) := dk_182 0 201 (dk_at dksX5_line_3 9 rfl rfl)
theorem dX5_line_82 : decode cX5_line 82 = .ok (.ireturn, 1) := dk_172 (dk_at dksX5_line_3 12 rfl rfl)
abbrev cX5_isWord : ByteArray := prog_32_method_20_code
def yX5_isWord : MethodName := ⟨RX5, "isWord", "(J)Z"⟩
def dkwX5_isWord_0 : List UInt8 := [42, 180, 0, 175, 4, 160, 0, 16, 42, 180, 0, 188, 31, 148, 154, 0, 7, 4, 167, 0, 4, 3, 172]
abbrev dktX5_isWord_0 : List UInt8 := dkwX5_isWord_0 ++ []
theorem dksX5_isWord_0 : cX5_isWord.data.toList.drop 0 = dktX5_isWord_0 := by decide +kernel
theorem dX5_isWord_0 : decode cX5_isWord 0 = .ok (.aload_n 0, 1) := dk_42 (dk_at dksX5_isWord_0 0 rfl rfl)
theorem dX5_isWord_1 : decode cX5_isWord 1 = .ok (.getfield 175, 3) := dk_180 0 175 (dk_at dksX5_isWord_0 1 rfl rfl)
theorem dX5_isWord_4 : decode cX5_isWord 4 = .ok (.iconst 1, 1) := dk_4 (dk_at dksX5_isWord_0 4 rfl rfl)
theorem dX5_isWord_5 : decode cX5_isWord 5 = .ok (.if_icmp .ne 16, 3) := dk_160 0 16 (dk_at dksX5_isWord_0 5 rfl rfl)
theorem dX5_isWord_8 : decode cX5_isWord 8 = .ok (.aload_n 0, 1) := dk_42 (dk_at dksX5_isWord_0 8 rfl rfl)
theorem dX5_isWord_9 : decode cX5_isWord 9 = .ok (.getfield 188, 3) := dk_180 0 188 (dk_at dksX5_isWord_0 9 rfl rfl)
theorem dX5_isWord_12 : decode cX5_isWord 12 = .ok (.lload_n 1, 1) := dk_31 (dk_at dksX5_isWord_0 12 rfl rfl)
theorem dX5_isWord_13 : decode cX5_isWord 13 = .ok (.lcmp, 1) := dk_148 (dk_at dksX5_isWord_0 13 rfl rfl)
theorem dX5_isWord_14 : decode cX5_isWord 14 = .ok (.ifCond .ne 7, 3) := dk_154 0 7 (dk_at dksX5_isWord_0 14 rfl rfl)
theorem dX5_isWord_17 : decode cX5_isWord 17 = .ok (.iconst 1, 1) := dk_4 (dk_at dksX5_isWord_0 17 rfl rfl)
theorem dX5_isWord_18 : decode cX5_isWord 18 = .ok (.goto 4, 3) := dk_167 0 4 (dk_at dksX5_isWord_0 18 rfl rfl)
theorem dX5_isWord_21 : decode cX5_isWord 21 = .ok (.iconst 0, 1) := dk_3 (dk_at dksX5_isWord_0 21 rfl rfl)
theorem dX5_isWord_22 : decode cX5_isWord 22 = .ok (.ireturn, 1) := dk_172 (dk_at dksX5_isWord_0 22 rfl rfl)
abbrev cX5_readLand : ByteArray := prog_32_method_31_code
def yX5_readLand : MethodName := ⟨RX5, "readLand", "()Z"⟩
def dkwX5_readLand_3 : List UInt8 := [79, 4, 172]
abbrev dktX5_readLand_3 : List UInt8 := dkwX5_readLand_3 ++ []
def dkwX5_readLand_2 : List UInt8 := [16, 10, 27, 96, 3, 16, 20, 182, 0, 251, 154, 0, 5, 3, 172, 42, 180, 0, 37, 3, 92, 46, 4, 96]
abbrev dktX5_readLand_2 : List UInt8 := dkwX5_readLand_2 ++ dktX5_readLand_3
def dkwX5_readLand_1 : List UInt8 := [16, 13, 27, 96, 182, 0, 248, 153, 0, 30, 42, 6, 27, 96, 3, 16, 20, 182, 0, 251, 153, 0, 17, 42]
abbrev dktX5_readLand_1 : List UInt8 := dkwX5_readLand_1 ++ dktX5_readLand_2
def dkwX5_readLand_0 : List UInt8 := [42, 180, 0, 37, 3, 46, 60, 27, 16, 7, 160, 0, 9, 42, 7, 182, 0, 201, 172, 42, 182, 0, 204, 42]
abbrev dktX5_readLand_0 : List UInt8 := dkwX5_readLand_0 ++ dktX5_readLand_1
theorem dksX5_readLand_0 : cX5_readLand.data.toList.drop 0 = dktX5_readLand_0 := by decide +kernel
theorem dksX5_readLand_1 : cX5_readLand.data.toList.drop 24 = dktX5_readLand_1 := dk_seg dksX5_readLand_0 24 rfl rfl
theorem dksX5_readLand_2 : cX5_readLand.data.toList.drop 48 = dktX5_readLand_2 := dk_seg dksX5_readLand_1 24 rfl rfl
theorem dksX5_readLand_3 : cX5_readLand.data.toList.drop 72 = dktX5_readLand_3 := dk_seg dksX5_readLand_2 24 rfl rfl
theorem dX5_readLand_0 : decode cX5_readLand 0 = .ok (.aload_n 0, 1) := dk_42 (dk_at dksX5_readLand_0 0 rfl rfl)
theorem dX5_readLand_1 : decode cX5_readLand 1 = .ok (.getfield 37, 3) := dk_180 0 37 (dk_at dksX5_readLand_0 1 rfl rfl)
theorem dX5_readLand_4 : decode cX5_readLand 4 = .ok (.iconst 0, 1) := dk_3 (dk_at dksX5_readLand_0 4 rfl rfl)
theorem dX5_readLand_5 : decode cX5_readLand 5 = .ok (.iaload, 1) := dk_46 (dk_at dksX5_readLand_0 5 rfl rfl)
theorem dX5_readLand_6 : decode cX5_readLand 6 = .ok (.istore_n 1, 1) := dk_60 (dk_at dksX5_readLand_0 6 rfl rfl)
theorem dX5_readLand_7 : decode cX5_readLand 7 = .ok (.iload_n 1, 1) := dk_27 (dk_at dksX5_readLand_0 7 rfl rfl)
theorem dX5_readLand_8 : decode cX5_readLand 8 = .ok (.bipush 7, 2) := dk_16 7 (dk_at dksX5_readLand_0 8 rfl rfl)
theorem dX5_readLand_10 : decode cX5_readLand 10 = .ok (.if_icmp .ne 9, 3) := dk_160 0 9 (dk_at dksX5_readLand_0 10 rfl rfl)
theorem dX5_readLand_13 : decode cX5_readLand 13 = .ok (.aload_n 0, 1) := dk_42 (dk_at dksX5_readLand_0 13 rfl rfl)
theorem dX5_readLand_14 : decode cX5_readLand 14 = .ok (.iconst 4, 1) := dk_7 (dk_at dksX5_readLand_0 14 rfl rfl)
theorem dX5_readLand_15 : decode cX5_readLand 15 = .ok (.invokevirtual 201, 3) := dk_182 0 201 (dk_at dksX5_readLand_0 15 rfl rfl)
theorem dX5_readLand_18 : decode cX5_readLand 18 = .ok (.ireturn, 1) := dk_172 (dk_at dksX5_readLand_0 18 rfl rfl)
theorem dX5_readLand_19 : decode cX5_readLand 19 = .ok (.aload_n 0, 1) := dk_42 (dk_at dksX5_readLand_0 19 rfl rfl)
theorem dX5_readLand_20 : decode cX5_readLand 20 = .ok (.invokevirtual 204, 3) := dk_182 0 204 (dk_at dksX5_readLand_0 20 rfl rfl)
theorem dX5_readLand_23 : decode cX5_readLand 23 = .ok (.aload_n 0, 1) := dk_42 (dk_at dksX5_readLand_0 23 rfl rfl)
theorem dX5_readLand_24 : decode cX5_readLand 24 = .ok (.bipush 13, 2) := dk_16 13 (dk_at dksX5_readLand_1 0 rfl rfl)
theorem dX5_readLand_26 : decode cX5_readLand 26 = .ok (.iload_n 1, 1) := dk_27 (dk_at dksX5_readLand_1 2 rfl rfl)
theorem dX5_readLand_27 : decode cX5_readLand 27 = .ok (.iadd, 1) := dk_96 (dk_at dksX5_readLand_1 3 rfl rfl)
theorem dX5_readLand_28 : decode cX5_readLand 28 = .ok (.invokevirtual 248, 3) := dk_182 0 248 (dk_at dksX5_readLand_1 4 rfl rfl)
theorem dX5_readLand_31 : decode cX5_readLand 31 = .ok (.ifCond .eq 30, 3) := dk_153 0 30 (dk_at dksX5_readLand_1 7 rfl rfl)
theorem dX5_readLand_34 : decode cX5_readLand 34 = .ok (.aload_n 0, 1) := dk_42 (dk_at dksX5_readLand_1 10 rfl rfl)
theorem dX5_readLand_35 : decode cX5_readLand 35 = .ok (.iconst 3, 1) := dk_6 (dk_at dksX5_readLand_1 11 rfl rfl)
theorem dX5_readLand_36 : decode cX5_readLand 36 = .ok (.iload_n 1, 1) := dk_27 (dk_at dksX5_readLand_1 12 rfl rfl)
theorem dX5_readLand_37 : decode cX5_readLand 37 = .ok (.iadd, 1) := dk_96 (dk_at dksX5_readLand_1 13 rfl rfl)
theorem dX5_readLand_38 : decode cX5_readLand 38 = .ok (.iconst 0, 1) := dk_3 (dk_at dksX5_readLand_1 14 rfl rfl)
theorem dX5_readLand_39 : decode cX5_readLand 39 = .ok (.bipush 20, 2) := dk_16 20 (dk_at dksX5_readLand_1 15 rfl rfl)
theorem dX5_readLand_41 : decode cX5_readLand 41 = .ok (.invokevirtual 251, 3) := dk_182 0 251 (dk_at dksX5_readLand_1 17 rfl rfl)
theorem dX5_readLand_44 : decode cX5_readLand 44 = .ok (.ifCond .eq 17, 3) := dk_153 0 17 (dk_at dksX5_readLand_1 20 rfl rfl)
theorem dX5_readLand_47 : decode cX5_readLand 47 = .ok (.aload_n 0, 1) := dk_42 (dk_at dksX5_readLand_1 23 rfl rfl)
theorem dX5_readLand_48 : decode cX5_readLand 48 = .ok (.bipush 10, 2) := dk_16 10 (dk_at dksX5_readLand_2 0 rfl rfl)
theorem dX5_readLand_50 : decode cX5_readLand 50 = .ok (.iload_n 1, 1) := dk_27 (dk_at dksX5_readLand_2 2 rfl rfl)
theorem dX5_readLand_51 : decode cX5_readLand 51 = .ok (.iadd, 1) := dk_96 (dk_at dksX5_readLand_2 3 rfl rfl)
theorem dX5_readLand_52 : decode cX5_readLand 52 = .ok (.iconst 0, 1) := dk_3 (dk_at dksX5_readLand_2 4 rfl rfl)
theorem dX5_readLand_53 : decode cX5_readLand 53 = .ok (.bipush 20, 2) := dk_16 20 (dk_at dksX5_readLand_2 5 rfl rfl)
theorem dX5_readLand_55 : decode cX5_readLand 55 = .ok (.invokevirtual 251, 3) := dk_182 0 251 (dk_at dksX5_readLand_2 7 rfl rfl)
theorem dX5_readLand_58 : decode cX5_readLand 58 = .ok (.ifCond .ne 5, 3) := dk_154 0 5 (dk_at dksX5_readLand_2 10 rfl rfl)
theorem dX5_readLand_61 : decode cX5_readLand 61 = .ok (.iconst 0, 1) := dk_3 (dk_at dksX5_readLand_2 13 rfl rfl)
theorem dX5_readLand_62 : decode cX5_readLand 62 = .ok (.ireturn, 1) := dk_172 (dk_at dksX5_readLand_2 14 rfl rfl)
theorem dX5_readLand_63 : decode cX5_readLand 63 = .ok (.aload_n 0, 1) := dk_42 (dk_at dksX5_readLand_2 15 rfl rfl)
theorem dX5_readLand_64 : decode cX5_readLand 64 = .ok (.getfield 37, 3) := dk_180 0 37 (dk_at dksX5_readLand_2 16 rfl rfl)
theorem dX5_readLand_67 : decode cX5_readLand 67 = .ok (.iconst 0, 1) := dk_3 (dk_at dksX5_readLand_2 19 rfl rfl)
theorem dX5_readLand_68 : decode cX5_readLand 68 = .ok (.dup2, 1) := dk_92 (dk_at dksX5_readLand_2 20 rfl rfl)
theorem dX5_readLand_69 : decode cX5_readLand 69 = .ok (.iaload, 1) := dk_46 (dk_at dksX5_readLand_2 21 rfl rfl)
theorem dX5_readLand_70 : decode cX5_readLand 70 = .ok (.iconst 1, 1) := dk_4 (dk_at dksX5_readLand_2 22 rfl rfl)
theorem dX5_readLand_71 : decode cX5_readLand 71 = .ok (.iadd, 1) := dk_96 (dk_at dksX5_readLand_2 23 rfl rfl)
theorem dX5_readLand_72 : decode cX5_readLand 72 = .ok (.iastore, 1) := dk_79 (dk_at dksX5_readLand_3 0 rfl rfl)
theorem dX5_readLand_73 : decode cX5_readLand 73 = .ok (.iconst 1, 1) := dk_4 (dk_at dksX5_readLand_3 1 rfl rfl)
theorem dX5_readLand_74 : decode cX5_readLand 74 = .ok (.ireturn, 1) := dk_172 (dk_at dksX5_readLand_3 2 rfl rfl)
abbrev cX5_bad : ByteArray := prog_32_method_19_code
def yX5_bad : MethodName := ⟨RX5, "bad", "(I)Z"⟩
def dkwX5_bad_0 : List UInt8 := [42, 27, 181, 0, 192, 42, 42, 180, 0, 169, 181, 0, 195, 3, 172]
abbrev dktX5_bad_0 : List UInt8 := dkwX5_bad_0 ++ []
theorem dksX5_bad_0 : cX5_bad.data.toList.drop 0 = dktX5_bad_0 := by decide +kernel
theorem dX5_bad_0 : decode cX5_bad 0 = .ok (.aload_n 0, 1) := dk_42 (dk_at dksX5_bad_0 0 rfl rfl)
theorem dX5_bad_1 : decode cX5_bad 1 = .ok (.iload_n 1, 1) := dk_27 (dk_at dksX5_bad_0 1 rfl rfl)
theorem dX5_bad_2 : decode cX5_bad 2 = .ok (.putfield 192, 3) := dk_181 0 192 (dk_at dksX5_bad_0 2 rfl rfl)
theorem dX5_bad_5 : decode cX5_bad 5 = .ok (.aload_n 0, 1) := dk_42 (dk_at dksX5_bad_0 5 rfl rfl)
theorem dX5_bad_6 : decode cX5_bad 6 = .ok (.aload_n 0, 1) := dk_42 (dk_at dksX5_bad_0 6 rfl rfl)
theorem dX5_bad_7 : decode cX5_bad 7 = .ok (.getfield 169, 3) := dk_180 0 169 (dk_at dksX5_bad_0 7 rfl rfl)
theorem dX5_bad_10 : decode cX5_bad 10 = .ok (.putfield 195, 3) := dk_181 0 195 (dk_at dksX5_bad_0 10 rfl rfl)
theorem dX5_bad_13 : decode cX5_bad 13 = .ok (.iconst 0, 1) := dk_3 (dk_at dksX5_bad_0 13 rfl rfl)
theorem dX5_bad_14 : decode cX5_bad 14 = .ok (.ireturn, 1) := dk_172 (dk_at dksX5_bad_0 14 rfl rfl)
abbrev cX5_fresh : ByteArray := prog_32_method_27_code
def yX5_fresh : MethodName := ⟨RX5, "fresh", "(I)Z"⟩
def dkwX5_fresh_2 : List UInt8 := [182, 0, 201, 172, 42, 180, 0, 43, 27, 42, 180, 0, 188, 80, 42, 182, 0, 204, 4, 172]
abbrev dktX5_fresh_2 : List UInt8 := dkwX5_fresh_2 ++ []
def dkwX5_fresh_1 : List UInt8 := [182, 0, 222, 156, 0, 18, 42, 16, 20, 42, 180, 0, 37, 5, 46, 182, 0, 222, 155, 0, 9, 42, 6]
abbrev dktX5_fresh_1 : List UInt8 := dkwX5_fresh_1 ++ dktX5_fresh_2
def dkwX5_fresh_0 : List UInt8 := [42, 182, 0, 218, 154, 0, 9, 42, 4, 182, 0, 201, 172, 42, 16, 13, 42, 180, 0, 37, 3, 46]
abbrev dktX5_fresh_0 : List UInt8 := dkwX5_fresh_0 ++ dktX5_fresh_1
theorem dksX5_fresh_0 : cX5_fresh.data.toList.drop 0 = dktX5_fresh_0 := by decide +kernel
theorem dksX5_fresh_1 : cX5_fresh.data.toList.drop 22 = dktX5_fresh_1 := dk_seg dksX5_fresh_0 22 rfl rfl
theorem dksX5_fresh_2 : cX5_fresh.data.toList.drop 45 = dktX5_fresh_2 := dk_seg dksX5_fresh_1 23 rfl rfl
theorem dX5_fresh_0 : decode cX5_fresh 0 = .ok (.aload_n 0, 1) := dk_42 (dk_at dksX5_fresh_0 0 rfl rfl)
theorem dX5_fresh_1 : decode cX5_fresh 1 = .ok (.invokevirtual 218, 3) := dk_182 0 218 (dk_at dksX5_fresh_0 1 rfl rfl)
theorem dX5_fresh_4 : decode cX5_fresh 4 = .ok (.ifCond .ne 9, 3) := dk_154 0 9 (dk_at dksX5_fresh_0 4 rfl rfl)
theorem dX5_fresh_7 : decode cX5_fresh 7 = .ok (.aload_n 0, 1) := dk_42 (dk_at dksX5_fresh_0 7 rfl rfl)
theorem dX5_fresh_8 : decode cX5_fresh 8 = .ok (.iconst 1, 1) := dk_4 (dk_at dksX5_fresh_0 8 rfl rfl)
theorem dX5_fresh_9 : decode cX5_fresh 9 = .ok (.invokevirtual 201, 3) := dk_182 0 201 (dk_at dksX5_fresh_0 9 rfl rfl)
theorem dX5_fresh_12 : decode cX5_fresh 12 = .ok (.ireturn, 1) := dk_172 (dk_at dksX5_fresh_0 12 rfl rfl)
theorem dX5_fresh_13 : decode cX5_fresh 13 = .ok (.aload_n 0, 1) := dk_42 (dk_at dksX5_fresh_0 13 rfl rfl)
theorem dX5_fresh_14 : decode cX5_fresh 14 = .ok (.bipush 13, 2) := dk_16 13 (dk_at dksX5_fresh_0 14 rfl rfl)
theorem dX5_fresh_16 : decode cX5_fresh 16 = .ok (.aload_n 0, 1) := dk_42 (dk_at dksX5_fresh_0 16 rfl rfl)
theorem dX5_fresh_17 : decode cX5_fresh 17 = .ok (.getfield 37, 3) := dk_180 0 37 (dk_at dksX5_fresh_0 17 rfl rfl)
theorem dX5_fresh_20 : decode cX5_fresh 20 = .ok (.iconst 0, 1) := dk_3 (dk_at dksX5_fresh_0 20 rfl rfl)
theorem dX5_fresh_21 : decode cX5_fresh 21 = .ok (.iaload, 1) := dk_46 (dk_at dksX5_fresh_0 21 rfl rfl)
theorem dX5_fresh_22 : decode cX5_fresh 22 = .ok (.invokevirtual 222, 3) := dk_182 0 222 (dk_at dksX5_fresh_1 0 rfl rfl)
theorem dX5_fresh_25 : decode cX5_fresh 25 = .ok (.ifCond .ge 18, 3) := dk_156 0 18 (dk_at dksX5_fresh_1 3 rfl rfl)
theorem dX5_fresh_28 : decode cX5_fresh 28 = .ok (.aload_n 0, 1) := dk_42 (dk_at dksX5_fresh_1 6 rfl rfl)
theorem dX5_fresh_29 : decode cX5_fresh 29 = .ok (.bipush 20, 2) := dk_16 20 (dk_at dksX5_fresh_1 7 rfl rfl)
theorem dX5_fresh_31 : decode cX5_fresh 31 = .ok (.aload_n 0, 1) := dk_42 (dk_at dksX5_fresh_1 9 rfl rfl)
theorem dX5_fresh_32 : decode cX5_fresh 32 = .ok (.getfield 37, 3) := dk_180 0 37 (dk_at dksX5_fresh_1 10 rfl rfl)
theorem dX5_fresh_35 : decode cX5_fresh 35 = .ok (.iconst 2, 1) := dk_5 (dk_at dksX5_fresh_1 13 rfl rfl)
theorem dX5_fresh_36 : decode cX5_fresh 36 = .ok (.iaload, 1) := dk_46 (dk_at dksX5_fresh_1 14 rfl rfl)
theorem dX5_fresh_37 : decode cX5_fresh 37 = .ok (.invokevirtual 222, 3) := dk_182 0 222 (dk_at dksX5_fresh_1 15 rfl rfl)
theorem dX5_fresh_40 : decode cX5_fresh 40 = .ok (.ifCond .lt 9, 3) := dk_155 0 9 (dk_at dksX5_fresh_1 18 rfl rfl)
theorem dX5_fresh_43 : decode cX5_fresh 43 = .ok (.aload_n 0, 1) := dk_42 (dk_at dksX5_fresh_1 21 rfl rfl)
theorem dX5_fresh_44 : decode cX5_fresh 44 = .ok (.iconst 3, 1) := dk_6 (dk_at dksX5_fresh_1 22 rfl rfl)
theorem dX5_fresh_45 : decode cX5_fresh 45 = .ok (.invokevirtual 201, 3) := dk_182 0 201 (dk_at dksX5_fresh_2 0 rfl rfl)
theorem dX5_fresh_48 : decode cX5_fresh 48 = .ok (.ireturn, 1) := dk_172 (dk_at dksX5_fresh_2 3 rfl rfl)
theorem dX5_fresh_49 : decode cX5_fresh 49 = .ok (.aload_n 0, 1) := dk_42 (dk_at dksX5_fresh_2 4 rfl rfl)
theorem dX5_fresh_50 : decode cX5_fresh 50 = .ok (.getfield 43, 3) := dk_180 0 43 (dk_at dksX5_fresh_2 5 rfl rfl)
theorem dX5_fresh_53 : decode cX5_fresh 53 = .ok (.iload_n 1, 1) := dk_27 (dk_at dksX5_fresh_2 8 rfl rfl)
theorem dX5_fresh_54 : decode cX5_fresh 54 = .ok (.aload_n 0, 1) := dk_42 (dk_at dksX5_fresh_2 9 rfl rfl)
theorem dX5_fresh_55 : decode cX5_fresh 55 = .ok (.getfield 188, 3) := dk_180 0 188 (dk_at dksX5_fresh_2 10 rfl rfl)
theorem dX5_fresh_58 : decode cX5_fresh 58 = .ok (.lastore, 1) := dk_80 (dk_at dksX5_fresh_2 13 rfl rfl)
theorem dX5_fresh_59 : decode cX5_fresh 59 = .ok (.aload_n 0, 1) := dk_42 (dk_at dksX5_fresh_2 14 rfl rfl)
theorem dX5_fresh_60 : decode cX5_fresh 60 = .ok (.invokevirtual 204, 3) := dk_182 0 204 (dk_at dksX5_fresh_2 15 rfl rfl)
theorem dX5_fresh_63 : decode cX5_fresh 63 = .ok (.iconst 1, 1) := dk_4 (dk_at dksX5_fresh_2 18 rfl rfl)
theorem dX5_fresh_64 : decode cX5_fresh 64 = .ok (.ireturn, 1) := dk_172 (dk_at dksX5_fresh_2 19 rfl rfl)
abbrev cX5_isName : ByteArray := prog_32_method_23_code
def yX5_isName : MethodName := ⟨RX5, "isName", "()Z"⟩
def dkwX5_isName_2 : List UInt8 := [132, 2, 1, 167, 255, 223, 27, 172]
abbrev dktX5_isName_2 : List UInt8 := dkwX5_isName_2 ++ []
def dkwX5_isName_1 : List UInt8 := [153, 0, 21, 42, 180, 0, 188, 42, 180, 0, 47, 28, 47, 148, 153, 0, 7, 4, 167, 0, 4, 3, 60]
abbrev dktX5_isName_1 : List UInt8 := dkwX5_isName_1 ++ dktX5_isName_2
def dkwX5_isName_0 : List UInt8 := [42, 180, 0, 175, 4, 160, 0, 7, 4, 167, 0, 4, 3, 60, 3, 61, 28, 16, 24, 162, 0, 33, 27]
abbrev dktX5_isName_0 : List UInt8 := dkwX5_isName_0 ++ dktX5_isName_1
theorem dksX5_isName_0 : cX5_isName.data.toList.drop 0 = dktX5_isName_0 := by decide +kernel
theorem dksX5_isName_1 : cX5_isName.data.toList.drop 23 = dktX5_isName_1 := dk_seg dksX5_isName_0 23 rfl rfl
theorem dksX5_isName_2 : cX5_isName.data.toList.drop 46 = dktX5_isName_2 := dk_seg dksX5_isName_1 23 rfl rfl
theorem dX5_isName_0 : decode cX5_isName 0 = .ok (.aload_n 0, 1) := dk_42 (dk_at dksX5_isName_0 0 rfl rfl)
theorem dX5_isName_1 : decode cX5_isName 1 = .ok (.getfield 175, 3) := dk_180 0 175 (dk_at dksX5_isName_0 1 rfl rfl)
theorem dX5_isName_4 : decode cX5_isName 4 = .ok (.iconst 1, 1) := dk_4 (dk_at dksX5_isName_0 4 rfl rfl)
theorem dX5_isName_5 : decode cX5_isName 5 = .ok (.if_icmp .ne 7, 3) := dk_160 0 7 (dk_at dksX5_isName_0 5 rfl rfl)
theorem dX5_isName_8 : decode cX5_isName 8 = .ok (.iconst 1, 1) := dk_4 (dk_at dksX5_isName_0 8 rfl rfl)
theorem dX5_isName_9 : decode cX5_isName 9 = .ok (.goto 4, 3) := dk_167 0 4 (dk_at dksX5_isName_0 9 rfl rfl)
theorem dX5_isName_12 : decode cX5_isName 12 = .ok (.iconst 0, 1) := dk_3 (dk_at dksX5_isName_0 12 rfl rfl)
theorem dX5_isName_13 : decode cX5_isName 13 = .ok (.istore_n 1, 1) := dk_60 (dk_at dksX5_isName_0 13 rfl rfl)
theorem dX5_isName_14 : decode cX5_isName 14 = .ok (.iconst 0, 1) := dk_3 (dk_at dksX5_isName_0 14 rfl rfl)
theorem dX5_isName_15 : decode cX5_isName 15 = .ok (.istore_n 2, 1) := dk_61 (dk_at dksX5_isName_0 15 rfl rfl)
theorem dX5_isName_16 : decode cX5_isName 16 = .ok (.iload_n 2, 1) := dk_28 (dk_at dksX5_isName_0 16 rfl rfl)
theorem dX5_isName_17 : decode cX5_isName 17 = .ok (.bipush 24, 2) := dk_16 24 (dk_at dksX5_isName_0 17 rfl rfl)
theorem dX5_isName_19 : decode cX5_isName 19 = .ok (.if_icmp .ge 33, 3) := dk_162 0 33 (dk_at dksX5_isName_0 19 rfl rfl)
theorem dX5_isName_22 : decode cX5_isName 22 = .ok (.iload_n 1, 1) := dk_27 (dk_at dksX5_isName_0 22 rfl rfl)
theorem dX5_isName_23 : decode cX5_isName 23 = .ok (.ifCond .eq 21, 3) := dk_153 0 21 (dk_at dksX5_isName_1 0 rfl rfl)
theorem dX5_isName_26 : decode cX5_isName 26 = .ok (.aload_n 0, 1) := dk_42 (dk_at dksX5_isName_1 3 rfl rfl)
theorem dX5_isName_27 : decode cX5_isName 27 = .ok (.getfield 188, 3) := dk_180 0 188 (dk_at dksX5_isName_1 4 rfl rfl)
theorem dX5_isName_30 : decode cX5_isName 30 = .ok (.aload_n 0, 1) := dk_42 (dk_at dksX5_isName_1 7 rfl rfl)
theorem dX5_isName_31 : decode cX5_isName 31 = .ok (.getfield 47, 3) := dk_180 0 47 (dk_at dksX5_isName_1 8 rfl rfl)
theorem dX5_isName_34 : decode cX5_isName 34 = .ok (.iload_n 2, 1) := dk_28 (dk_at dksX5_isName_1 11 rfl rfl)
theorem dX5_isName_35 : decode cX5_isName 35 = .ok (.laload, 1) := dk_47 (dk_at dksX5_isName_1 12 rfl rfl)
theorem dX5_isName_36 : decode cX5_isName 36 = .ok (.lcmp, 1) := dk_148 (dk_at dksX5_isName_1 13 rfl rfl)
theorem dX5_isName_37 : decode cX5_isName 37 = .ok (.ifCond .eq 7, 3) := dk_153 0 7 (dk_at dksX5_isName_1 14 rfl rfl)
theorem dX5_isName_40 : decode cX5_isName 40 = .ok (.iconst 1, 1) := dk_4 (dk_at dksX5_isName_1 17 rfl rfl)
theorem dX5_isName_41 : decode cX5_isName 41 = .ok (.goto 4, 3) := dk_167 0 4 (dk_at dksX5_isName_1 18 rfl rfl)
theorem dX5_isName_44 : decode cX5_isName 44 = .ok (.iconst 0, 1) := dk_3 (dk_at dksX5_isName_1 21 rfl rfl)
theorem dX5_isName_45 : decode cX5_isName 45 = .ok (.istore_n 1, 1) := dk_60 (dk_at dksX5_isName_1 22 rfl rfl)
theorem dX5_isName_46 : decode cX5_isName 46 = .ok (.iinc 2 1, 3) := dk_132 2 1 (dk_at dksX5_isName_2 0 rfl rfl)
theorem dX5_isName_49 : decode cX5_isName 49 = .ok (.goto (-33), 3) := dk_167 255 223 (dk_at dksX5_isName_2 3 rfl rfl)
theorem dX5_isName_52 : decode cX5_isName 52 = .ok (.iload_n 1, 1) := dk_27 (dk_at dksX5_isName_2 6 rfl rfl)
theorem dX5_isName_53 : decode cX5_isName 53 = .ok (.ireturn, 1) := dk_172 (dk_at dksX5_isName_2 7 rfl rfl)
abbrev cX5_find : ByteArray := prog_32_method_26_code
def yX5_find : MethodName := ⟨RX5, "find", "(II)I"⟩
def dkwX5_find_1 : List UInt8 := [172, 132, 3, 1, 167, 255, 230, 2, 172]
abbrev dktX5_find_1 : List UInt8 := dkwX5_find_1 ++ []
def dkwX5_find_0 : List UInt8 := [3, 62, 29, 28, 162, 0, 27, 42, 180, 0, 43, 27, 29, 96, 47, 42, 180, 0, 188, 148, 154, 0, 5, 29]
abbrev dktX5_find_0 : List UInt8 := dkwX5_find_0 ++ dktX5_find_1
theorem dksX5_find_0 : cX5_find.data.toList.drop 0 = dktX5_find_0 := by decide +kernel
theorem dksX5_find_1 : cX5_find.data.toList.drop 24 = dktX5_find_1 := dk_seg dksX5_find_0 24 rfl rfl
theorem dX5_find_0 : decode cX5_find 0 = .ok (.iconst 0, 1) := dk_3 (dk_at dksX5_find_0 0 rfl rfl)
theorem dX5_find_1 : decode cX5_find 1 = .ok (.istore_n 3, 1) := dk_62 (dk_at dksX5_find_0 1 rfl rfl)
theorem dX5_find_2 : decode cX5_find 2 = .ok (.iload_n 3, 1) := dk_29 (dk_at dksX5_find_0 2 rfl rfl)
theorem dX5_find_3 : decode cX5_find 3 = .ok (.iload_n 2, 1) := dk_28 (dk_at dksX5_find_0 3 rfl rfl)
theorem dX5_find_4 : decode cX5_find 4 = .ok (.if_icmp .ge 27, 3) := dk_162 0 27 (dk_at dksX5_find_0 4 rfl rfl)
theorem dX5_find_7 : decode cX5_find 7 = .ok (.aload_n 0, 1) := dk_42 (dk_at dksX5_find_0 7 rfl rfl)
theorem dX5_find_8 : decode cX5_find 8 = .ok (.getfield 43, 3) := dk_180 0 43 (dk_at dksX5_find_0 8 rfl rfl)
theorem dX5_find_11 : decode cX5_find 11 = .ok (.iload_n 1, 1) := dk_27 (dk_at dksX5_find_0 11 rfl rfl)
theorem dX5_find_12 : decode cX5_find 12 = .ok (.iload_n 3, 1) := dk_29 (dk_at dksX5_find_0 12 rfl rfl)
theorem dX5_find_13 : decode cX5_find 13 = .ok (.iadd, 1) := dk_96 (dk_at dksX5_find_0 13 rfl rfl)
theorem dX5_find_14 : decode cX5_find 14 = .ok (.laload, 1) := dk_47 (dk_at dksX5_find_0 14 rfl rfl)
theorem dX5_find_15 : decode cX5_find 15 = .ok (.aload_n 0, 1) := dk_42 (dk_at dksX5_find_0 15 rfl rfl)
theorem dX5_find_16 : decode cX5_find 16 = .ok (.getfield 188, 3) := dk_180 0 188 (dk_at dksX5_find_0 16 rfl rfl)
theorem dX5_find_19 : decode cX5_find 19 = .ok (.lcmp, 1) := dk_148 (dk_at dksX5_find_0 19 rfl rfl)
theorem dX5_find_20 : decode cX5_find 20 = .ok (.ifCond .ne 5, 3) := dk_154 0 5 (dk_at dksX5_find_0 20 rfl rfl)
theorem dX5_find_23 : decode cX5_find 23 = .ok (.iload_n 3, 1) := dk_29 (dk_at dksX5_find_0 23 rfl rfl)
theorem dX5_find_24 : decode cX5_find 24 = .ok (.ireturn, 1) := dk_172 (dk_at dksX5_find_1 0 rfl rfl)
theorem dX5_find_25 : decode cX5_find 25 = .ok (.iinc 3 1, 3) := dk_132 3 1 (dk_at dksX5_find_1 1 rfl rfl)
theorem dX5_find_28 : decode cX5_find 28 = .ok (.goto (-26), 3) := dk_167 255 230 (dk_at dksX5_find_1 4 rfl rfl)
theorem dX5_find_31 : decode cX5_find 31 = .ok (.iconst (-1), 1) := dk_2 (dk_at dksX5_find_1 7 rfl rfl)
theorem dX5_find_32 : decode cX5_find 32 = .ok (.ireturn, 1) := dk_172 (dk_at dksX5_find_1 8 rfl rfl)
abbrev cX5_puts : ByteArray := prog_32_method_25_code
def yX5_puts : MethodName := ⟨RX5, "puts", "(III)Z"⟩
def dkwX5_puts_0 : List UInt8 := [42, 28, 29, 182, 0, 214, 154, 0, 5, 3, 172, 42, 180, 0, 37, 27, 42, 180, 0, 211, 79, 4, 172]
abbrev dktX5_puts_0 : List UInt8 := dkwX5_puts_0 ++ []
theorem dksX5_puts_0 : cX5_puts.data.toList.drop 0 = dktX5_puts_0 := by decide +kernel
theorem dX5_puts_0 : decode cX5_puts 0 = .ok (.aload_n 0, 1) := dk_42 (dk_at dksX5_puts_0 0 rfl rfl)
theorem dX5_puts_1 : decode cX5_puts 1 = .ok (.iload_n 2, 1) := dk_28 (dk_at dksX5_puts_0 1 rfl rfl)
theorem dX5_puts_2 : decode cX5_puts 2 = .ok (.iload_n 3, 1) := dk_29 (dk_at dksX5_puts_0 2 rfl rfl)
theorem dX5_puts_3 : decode cX5_puts 3 = .ok (.invokevirtual 214, 3) := dk_182 0 214 (dk_at dksX5_puts_0 3 rfl rfl)
theorem dX5_puts_6 : decode cX5_puts 6 = .ok (.ifCond .ne 5, 3) := dk_154 0 5 (dk_at dksX5_puts_0 6 rfl rfl)
theorem dX5_puts_9 : decode cX5_puts 9 = .ok (.iconst 0, 1) := dk_3 (dk_at dksX5_puts_0 9 rfl rfl)
theorem dX5_puts_10 : decode cX5_puts 10 = .ok (.ireturn, 1) := dk_172 (dk_at dksX5_puts_0 10 rfl rfl)
theorem dX5_puts_11 : decode cX5_puts 11 = .ok (.aload_n 0, 1) := dk_42 (dk_at dksX5_puts_0 11 rfl rfl)
theorem dX5_puts_12 : decode cX5_puts 12 = .ok (.getfield 37, 3) := dk_180 0 37 (dk_at dksX5_puts_0 12 rfl rfl)
theorem dX5_puts_15 : decode cX5_puts 15 = .ok (.iload_n 1, 1) := dk_27 (dk_at dksX5_puts_0 15 rfl rfl)
theorem dX5_puts_16 : decode cX5_puts 16 = .ok (.aload_n 0, 1) := dk_42 (dk_at dksX5_puts_0 16 rfl rfl)
theorem dX5_puts_17 : decode cX5_puts 17 = .ok (.getfield 211, 3) := dk_180 0 211 (dk_at dksX5_puts_0 17 rfl rfl)
theorem dX5_puts_20 : decode cX5_puts 20 = .ok (.iastore, 1) := dk_79 (dk_at dksX5_puts_0 20 rfl rfl)
theorem dX5_puts_21 : decode cX5_puts 21 = .ok (.iconst 1, 1) := dk_4 (dk_at dksX5_puts_0 21 rfl rfl)
theorem dX5_puts_22 : decode cX5_puts 22 = .ok (.ireturn, 1) := dk_172 (dk_at dksX5_puts_0 22 rfl rfl)
abbrev cX5_takes : ByteArray := prog_32_method_24_code
def yX5_takes : MethodName := ⟨RX5, "takes", "(II)Z"⟩
def dkwX5_takes_1 : List UInt8 := [154, 0, 9, 42, 5, 182, 0, 201, 172, 42, 42, 180, 0, 185, 181, 0, 211, 42, 182, 0, 204, 4, 172]
abbrev dktX5_takes_1 : List UInt8 := dkwX5_takes_1 ++ []
def dkwX5_takes_0 : List UInt8 := [42, 180, 0, 175, 5, 159, 0, 9, 42, 4, 182, 0, 201, 172, 42, 180, 0, 185, 27, 28, 184, 0, 207]
abbrev dktX5_takes_0 : List UInt8 := dkwX5_takes_0 ++ dktX5_takes_1
theorem dksX5_takes_0 : cX5_takes.data.toList.drop 0 = dktX5_takes_0 := by decide +kernel
theorem dksX5_takes_1 : cX5_takes.data.toList.drop 23 = dktX5_takes_1 := dk_seg dksX5_takes_0 23 rfl rfl
theorem dX5_takes_0 : decode cX5_takes 0 = .ok (.aload_n 0, 1) := dk_42 (dk_at dksX5_takes_0 0 rfl rfl)
theorem dX5_takes_1 : decode cX5_takes 1 = .ok (.getfield 175, 3) := dk_180 0 175 (dk_at dksX5_takes_0 1 rfl rfl)
theorem dX5_takes_4 : decode cX5_takes 4 = .ok (.iconst 2, 1) := dk_5 (dk_at dksX5_takes_0 4 rfl rfl)
theorem dX5_takes_5 : decode cX5_takes 5 = .ok (.if_icmp .eq 9, 3) := dk_159 0 9 (dk_at dksX5_takes_0 5 rfl rfl)
theorem dX5_takes_8 : decode cX5_takes 8 = .ok (.aload_n 0, 1) := dk_42 (dk_at dksX5_takes_0 8 rfl rfl)
theorem dX5_takes_9 : decode cX5_takes 9 = .ok (.iconst 1, 1) := dk_4 (dk_at dksX5_takes_0 9 rfl rfl)
theorem dX5_takes_10 : decode cX5_takes 10 = .ok (.invokevirtual 201, 3) := dk_182 0 201 (dk_at dksX5_takes_0 10 rfl rfl)
theorem dX5_takes_13 : decode cX5_takes 13 = .ok (.ireturn, 1) := dk_172 (dk_at dksX5_takes_0 13 rfl rfl)
theorem dX5_takes_14 : decode cX5_takes 14 = .ok (.aload_n 0, 1) := dk_42 (dk_at dksX5_takes_0 14 rfl rfl)
theorem dX5_takes_15 : decode cX5_takes 15 = .ok (.getfield 185, 3) := dk_180 0 185 (dk_at dksX5_takes_0 15 rfl rfl)
theorem dX5_takes_18 : decode cX5_takes 18 = .ok (.iload_n 1, 1) := dk_27 (dk_at dksX5_takes_0 18 rfl rfl)
theorem dX5_takes_19 : decode cX5_takes 19 = .ok (.iload_n 2, 1) := dk_28 (dk_at dksX5_takes_0 19 rfl rfl)
theorem dX5_takes_20 : decode cX5_takes 20 = .ok (.invokestatic 207, 3) := dk_184 0 207 (dk_at dksX5_takes_0 20 rfl rfl)
theorem dX5_takes_23 : decode cX5_takes 23 = .ok (.ifCond .ne 9, 3) := dk_154 0 9 (dk_at dksX5_takes_1 0 rfl rfl)
theorem dX5_takes_26 : decode cX5_takes 26 = .ok (.aload_n 0, 1) := dk_42 (dk_at dksX5_takes_1 3 rfl rfl)
theorem dX5_takes_27 : decode cX5_takes 27 = .ok (.iconst 2, 1) := dk_5 (dk_at dksX5_takes_1 4 rfl rfl)
theorem dX5_takes_28 : decode cX5_takes 28 = .ok (.invokevirtual 201, 3) := dk_182 0 201 (dk_at dksX5_takes_1 5 rfl rfl)
theorem dX5_takes_31 : decode cX5_takes 31 = .ok (.ireturn, 1) := dk_172 (dk_at dksX5_takes_1 8 rfl rfl)
theorem dX5_takes_32 : decode cX5_takes 32 = .ok (.aload_n 0, 1) := dk_42 (dk_at dksX5_takes_1 9 rfl rfl)
theorem dX5_takes_33 : decode cX5_takes 33 = .ok (.aload_n 0, 1) := dk_42 (dk_at dksX5_takes_1 10 rfl rfl)
theorem dX5_takes_34 : decode cX5_takes 34 = .ok (.getfield 185, 3) := dk_180 0 185 (dk_at dksX5_takes_1 11 rfl rfl)
theorem dX5_takes_37 : decode cX5_takes 37 = .ok (.putfield 211, 3) := dk_181 0 211 (dk_at dksX5_takes_1 14 rfl rfl)
theorem dX5_takes_40 : decode cX5_takes 40 = .ok (.aload_n 0, 1) := dk_42 (dk_at dksX5_takes_1 17 rfl rfl)
theorem dX5_takes_41 : decode cX5_takes 41 = .ok (.invokevirtual 204, 3) := dk_182 0 204 (dk_at dksX5_takes_1 18 rfl rfl)
theorem dX5_takes_44 : decode cX5_takes 44 = .ok (.iconst 1, 1) := dk_4 (dk_at dksX5_takes_1 21 rfl rfl)
theorem dX5_takes_45 : decode cX5_takes 45 = .ok (.ireturn, 1) := dk_172 (dk_at dksX5_takes_1 22 rfl rfl)
abbrev cX5_isIn : ByteArray := prog_32_method_7_code
def yX5_isIn : MethodName := ⟨RX5, "isIn", "(III)Z"⟩
def dkwX5_isIn_0 : List UInt8 := [26, 27, 161, 0, 12, 26, 28, 163, 0, 7, 4, 167, 0, 4, 3, 172]
abbrev dktX5_isIn_0 : List UInt8 := dkwX5_isIn_0 ++ []
theorem dksX5_isIn_0 : cX5_isIn.data.toList.drop 0 = dktX5_isIn_0 := by decide +kernel
theorem dX5_isIn_0 : decode cX5_isIn 0 = .ok (.iload_n 0, 1) := dk_26 (dk_at dksX5_isIn_0 0 rfl rfl)
theorem dX5_isIn_1 : decode cX5_isIn 1 = .ok (.iload_n 1, 1) := dk_27 (dk_at dksX5_isIn_0 1 rfl rfl)
theorem dX5_isIn_2 : decode cX5_isIn 2 = .ok (.if_icmp .lt 12, 3) := dk_161 0 12 (dk_at dksX5_isIn_0 2 rfl rfl)
theorem dX5_isIn_5 : decode cX5_isIn 5 = .ok (.iload_n 0, 1) := dk_26 (dk_at dksX5_isIn_0 5 rfl rfl)
theorem dX5_isIn_6 : decode cX5_isIn 6 = .ok (.iload_n 2, 1) := dk_28 (dk_at dksX5_isIn_0 6 rfl rfl)
theorem dX5_isIn_7 : decode cX5_isIn 7 = .ok (.if_icmp .gt 7, 3) := dk_163 0 7 (dk_at dksX5_isIn_0 7 rfl rfl)
theorem dX5_isIn_10 : decode cX5_isIn 10 = .ok (.iconst 1, 1) := dk_4 (dk_at dksX5_isIn_0 10 rfl rfl)
theorem dX5_isIn_11 : decode cX5_isIn 11 = .ok (.goto 4, 3) := dk_167 0 4 (dk_at dksX5_isIn_0 11 rfl rfl)
theorem dX5_isIn_14 : decode cX5_isIn 14 = .ok (.iconst 0, 1) := dk_3 (dk_at dksX5_isIn_0 14 rfl rfl)
theorem dX5_isIn_15 : decode cX5_isIn 15 = .ok (.ireturn, 1) := dk_172 (dk_at dksX5_isIn_0 15 rfl rfl)
abbrev cX5_readStore : ByteArray := prog_32_method_32_code
def yX5_readStore : MethodName := ⟨RX5, "readStore", "()Z"⟩
def dkwX5_readStore_3 : List UInt8 := [182, 0, 251, 172]
abbrev dktX5_readStore_3 : List UInt8 := dkwX5_readStore_3 ++ []
def dkwX5_readStore_2 : List UInt8 := [180, 0, 254, 4, 27, 120, 128, 181, 0, 254, 42, 182, 0, 204, 42, 16, 17, 27, 96, 3, 16, 99]
abbrev dktX5_readStore_2 : List UInt8 := dkwX5_readStore_2 ++ dktX5_readStore_3
def dkwX5_readStore_1 : List UInt8 := [180, 0, 211, 60, 42, 180, 0, 254, 27, 184, 1, 1, 153, 0, 9, 42, 6, 182, 0, 201, 172, 42, 89]
abbrev dktX5_readStore_1 : List UInt8 := dkwX5_readStore_1 ++ dktX5_readStore_2
def dkwX5_readStore_0 : List UInt8 := [42, 182, 0, 204, 42, 16, 13, 42, 180, 0, 37, 3, 46, 182, 0, 226, 154, 0, 5, 3, 172, 42]
abbrev dktX5_readStore_0 : List UInt8 := dkwX5_readStore_0 ++ dktX5_readStore_1
theorem dksX5_readStore_0 : cX5_readStore.data.toList.drop 0 = dktX5_readStore_0 := by decide +kernel
theorem dksX5_readStore_1 : cX5_readStore.data.toList.drop 22 = dktX5_readStore_1 := dk_seg dksX5_readStore_0 22 rfl rfl
theorem dksX5_readStore_2 : cX5_readStore.data.toList.drop 45 = dktX5_readStore_2 := dk_seg dksX5_readStore_1 23 rfl rfl
theorem dksX5_readStore_3 : cX5_readStore.data.toList.drop 67 = dktX5_readStore_3 := dk_seg dksX5_readStore_2 22 rfl rfl
theorem dX5_readStore_0 : decode cX5_readStore 0 = .ok (.aload_n 0, 1) := dk_42 (dk_at dksX5_readStore_0 0 rfl rfl)
theorem dX5_readStore_1 : decode cX5_readStore 1 = .ok (.invokevirtual 204, 3) := dk_182 0 204 (dk_at dksX5_readStore_0 1 rfl rfl)
theorem dX5_readStore_4 : decode cX5_readStore 4 = .ok (.aload_n 0, 1) := dk_42 (dk_at dksX5_readStore_0 4 rfl rfl)
theorem dX5_readStore_5 : decode cX5_readStore 5 = .ok (.bipush 13, 2) := dk_16 13 (dk_at dksX5_readStore_0 5 rfl rfl)
theorem dX5_readStore_7 : decode cX5_readStore 7 = .ok (.aload_n 0, 1) := dk_42 (dk_at dksX5_readStore_0 7 rfl rfl)
theorem dX5_readStore_8 : decode cX5_readStore 8 = .ok (.getfield 37, 3) := dk_180 0 37 (dk_at dksX5_readStore_0 8 rfl rfl)
theorem dX5_readStore_11 : decode cX5_readStore 11 = .ok (.iconst 0, 1) := dk_3 (dk_at dksX5_readStore_0 11 rfl rfl)
theorem dX5_readStore_12 : decode cX5_readStore 12 = .ok (.iaload, 1) := dk_46 (dk_at dksX5_readStore_0 12 rfl rfl)
theorem dX5_readStore_13 : decode cX5_readStore 13 = .ok (.invokevirtual 226, 3) := dk_182 0 226 (dk_at dksX5_readStore_0 13 rfl rfl)
theorem dX5_readStore_16 : decode cX5_readStore 16 = .ok (.ifCond .ne 5, 3) := dk_154 0 5 (dk_at dksX5_readStore_0 16 rfl rfl)
theorem dX5_readStore_19 : decode cX5_readStore 19 = .ok (.iconst 0, 1) := dk_3 (dk_at dksX5_readStore_0 19 rfl rfl)
theorem dX5_readStore_20 : decode cX5_readStore 20 = .ok (.ireturn, 1) := dk_172 (dk_at dksX5_readStore_0 20 rfl rfl)
theorem dX5_readStore_21 : decode cX5_readStore 21 = .ok (.aload_n 0, 1) := dk_42 (dk_at dksX5_readStore_0 21 rfl rfl)
theorem dX5_readStore_22 : decode cX5_readStore 22 = .ok (.getfield 211, 3) := dk_180 0 211 (dk_at dksX5_readStore_1 0 rfl rfl)
theorem dX5_readStore_25 : decode cX5_readStore 25 = .ok (.istore_n 1, 1) := dk_60 (dk_at dksX5_readStore_1 3 rfl rfl)
theorem dX5_readStore_26 : decode cX5_readStore 26 = .ok (.aload_n 0, 1) := dk_42 (dk_at dksX5_readStore_1 4 rfl rfl)
theorem dX5_readStore_27 : decode cX5_readStore 27 = .ok (.getfield 254, 3) := dk_180 0 254 (dk_at dksX5_readStore_1 5 rfl rfl)
theorem dX5_readStore_30 : decode cX5_readStore 30 = .ok (.iload_n 1, 1) := dk_27 (dk_at dksX5_readStore_1 8 rfl rfl)
theorem dX5_readStore_31 : decode cX5_readStore 31 = .ok (.invokestatic 257, 3) := dk_184 1 1 (dk_at dksX5_readStore_1 9 rfl rfl)
theorem dX5_readStore_34 : decode cX5_readStore 34 = .ok (.ifCond .eq 9, 3) := dk_153 0 9 (dk_at dksX5_readStore_1 12 rfl rfl)
theorem dX5_readStore_37 : decode cX5_readStore 37 = .ok (.aload_n 0, 1) := dk_42 (dk_at dksX5_readStore_1 15 rfl rfl)
theorem dX5_readStore_38 : decode cX5_readStore 38 = .ok (.iconst 3, 1) := dk_6 (dk_at dksX5_readStore_1 16 rfl rfl)
theorem dX5_readStore_39 : decode cX5_readStore 39 = .ok (.invokevirtual 201, 3) := dk_182 0 201 (dk_at dksX5_readStore_1 17 rfl rfl)
theorem dX5_readStore_42 : decode cX5_readStore 42 = .ok (.ireturn, 1) := dk_172 (dk_at dksX5_readStore_1 20 rfl rfl)
theorem dX5_readStore_43 : decode cX5_readStore 43 = .ok (.aload_n 0, 1) := dk_42 (dk_at dksX5_readStore_1 21 rfl rfl)
theorem dX5_readStore_44 : decode cX5_readStore 44 = .ok (.dup, 1) := dk_89 (dk_at dksX5_readStore_1 22 rfl rfl)
theorem dX5_readStore_45 : decode cX5_readStore 45 = .ok (.getfield 254, 3) := dk_180 0 254 (dk_at dksX5_readStore_2 0 rfl rfl)
theorem dX5_readStore_48 : decode cX5_readStore 48 = .ok (.iconst 1, 1) := dk_4 (dk_at dksX5_readStore_2 3 rfl rfl)
theorem dX5_readStore_49 : decode cX5_readStore 49 = .ok (.iload_n 1, 1) := dk_27 (dk_at dksX5_readStore_2 4 rfl rfl)
theorem dX5_readStore_50 : decode cX5_readStore 50 = .ok (.ishl, 1) := dk_120 (dk_at dksX5_readStore_2 5 rfl rfl)
theorem dX5_readStore_51 : decode cX5_readStore 51 = .ok (.ior, 1) := dk_128 (dk_at dksX5_readStore_2 6 rfl rfl)
theorem dX5_readStore_52 : decode cX5_readStore 52 = .ok (.putfield 254, 3) := dk_181 0 254 (dk_at dksX5_readStore_2 7 rfl rfl)
theorem dX5_readStore_55 : decode cX5_readStore 55 = .ok (.aload_n 0, 1) := dk_42 (dk_at dksX5_readStore_2 10 rfl rfl)
theorem dX5_readStore_56 : decode cX5_readStore 56 = .ok (.invokevirtual 204, 3) := dk_182 0 204 (dk_at dksX5_readStore_2 11 rfl rfl)
theorem dX5_readStore_59 : decode cX5_readStore 59 = .ok (.aload_n 0, 1) := dk_42 (dk_at dksX5_readStore_2 14 rfl rfl)
theorem dX5_readStore_60 : decode cX5_readStore 60 = .ok (.bipush 17, 2) := dk_16 17 (dk_at dksX5_readStore_2 15 rfl rfl)
theorem dX5_readStore_62 : decode cX5_readStore 62 = .ok (.iload_n 1, 1) := dk_27 (dk_at dksX5_readStore_2 17 rfl rfl)
theorem dX5_readStore_63 : decode cX5_readStore 63 = .ok (.iadd, 1) := dk_96 (dk_at dksX5_readStore_2 18 rfl rfl)
theorem dX5_readStore_64 : decode cX5_readStore 64 = .ok (.iconst 0, 1) := dk_3 (dk_at dksX5_readStore_2 19 rfl rfl)
theorem dX5_readStore_65 : decode cX5_readStore 65 = .ok (.bipush 99, 2) := dk_16 99 (dk_at dksX5_readStore_2 20 rfl rfl)
theorem dX5_readStore_67 : decode cX5_readStore 67 = .ok (.invokevirtual 251, 3) := dk_182 0 251 (dk_at dksX5_readStore_3 0 rfl rfl)
theorem dX5_readStore_70 : decode cX5_readStore 70 = .ok (.ireturn, 1) := dk_172 (dk_at dksX5_readStore_3 3 rfl rfl)
abbrev cX5_looksAt : ByteArray := prog_32_method_28_code
def yX5_looksAt : MethodName := ⟨RX5, "looksAt", "(II)Z"⟩
def dkwX5_looksAt_1 : List UInt8 := [180, 0, 211, 156, 0, 11, 42, 6, 182, 0, 201, 153, 0, 7, 4, 167, 0, 4, 3, 172]
abbrev dktX5_looksAt_1 : List UInt8 := dkwX5_looksAt_1 ++ []
def dkwX5_looksAt_0 : List UInt8 := [42, 182, 0, 218, 154, 0, 9, 42, 4, 182, 0, 201, 172, 42, 42, 27, 28, 182, 0, 222, 181, 0, 211, 42]
abbrev dktX5_looksAt_0 : List UInt8 := dkwX5_looksAt_0 ++ dktX5_looksAt_1
theorem dksX5_looksAt_0 : cX5_looksAt.data.toList.drop 0 = dktX5_looksAt_0 := by decide +kernel
theorem dksX5_looksAt_1 : cX5_looksAt.data.toList.drop 24 = dktX5_looksAt_1 := dk_seg dksX5_looksAt_0 24 rfl rfl
theorem dX5_looksAt_0 : decode cX5_looksAt 0 = .ok (.aload_n 0, 1) := dk_42 (dk_at dksX5_looksAt_0 0 rfl rfl)
theorem dX5_looksAt_1 : decode cX5_looksAt 1 = .ok (.invokevirtual 218, 3) := dk_182 0 218 (dk_at dksX5_looksAt_0 1 rfl rfl)
theorem dX5_looksAt_4 : decode cX5_looksAt 4 = .ok (.ifCond .ne 9, 3) := dk_154 0 9 (dk_at dksX5_looksAt_0 4 rfl rfl)
theorem dX5_looksAt_7 : decode cX5_looksAt 7 = .ok (.aload_n 0, 1) := dk_42 (dk_at dksX5_looksAt_0 7 rfl rfl)
theorem dX5_looksAt_8 : decode cX5_looksAt 8 = .ok (.iconst 1, 1) := dk_4 (dk_at dksX5_looksAt_0 8 rfl rfl)
theorem dX5_looksAt_9 : decode cX5_looksAt 9 = .ok (.invokevirtual 201, 3) := dk_182 0 201 (dk_at dksX5_looksAt_0 9 rfl rfl)
theorem dX5_looksAt_12 : decode cX5_looksAt 12 = .ok (.ireturn, 1) := dk_172 (dk_at dksX5_looksAt_0 12 rfl rfl)
theorem dX5_looksAt_13 : decode cX5_looksAt 13 = .ok (.aload_n 0, 1) := dk_42 (dk_at dksX5_looksAt_0 13 rfl rfl)
theorem dX5_looksAt_14 : decode cX5_looksAt 14 = .ok (.aload_n 0, 1) := dk_42 (dk_at dksX5_looksAt_0 14 rfl rfl)
theorem dX5_looksAt_15 : decode cX5_looksAt 15 = .ok (.iload_n 1, 1) := dk_27 (dk_at dksX5_looksAt_0 15 rfl rfl)
theorem dX5_looksAt_16 : decode cX5_looksAt 16 = .ok (.iload_n 2, 1) := dk_28 (dk_at dksX5_looksAt_0 16 rfl rfl)
theorem dX5_looksAt_17 : decode cX5_looksAt 17 = .ok (.invokevirtual 222, 3) := dk_182 0 222 (dk_at dksX5_looksAt_0 17 rfl rfl)
theorem dX5_looksAt_20 : decode cX5_looksAt 20 = .ok (.putfield 211, 3) := dk_181 0 211 (dk_at dksX5_looksAt_0 20 rfl rfl)
theorem dX5_looksAt_23 : decode cX5_looksAt 23 = .ok (.aload_n 0, 1) := dk_42 (dk_at dksX5_looksAt_0 23 rfl rfl)
theorem dX5_looksAt_24 : decode cX5_looksAt 24 = .ok (.getfield 211, 3) := dk_180 0 211 (dk_at dksX5_looksAt_1 0 rfl rfl)
theorem dX5_looksAt_27 : decode cX5_looksAt 27 = .ok (.ifCond .ge 11, 3) := dk_156 0 11 (dk_at dksX5_looksAt_1 3 rfl rfl)
theorem dX5_looksAt_30 : decode cX5_looksAt 30 = .ok (.aload_n 0, 1) := dk_42 (dk_at dksX5_looksAt_1 6 rfl rfl)
theorem dX5_looksAt_31 : decode cX5_looksAt 31 = .ok (.iconst 3, 1) := dk_6 (dk_at dksX5_looksAt_1 7 rfl rfl)
theorem dX5_looksAt_32 : decode cX5_looksAt 32 = .ok (.invokevirtual 201, 3) := dk_182 0 201 (dk_at dksX5_looksAt_1 8 rfl rfl)
theorem dX5_looksAt_35 : decode cX5_looksAt 35 = .ok (.ifCond .eq 7, 3) := dk_153 0 7 (dk_at dksX5_looksAt_1 11 rfl rfl)
theorem dX5_looksAt_38 : decode cX5_looksAt 38 = .ok (.iconst 1, 1) := dk_4 (dk_at dksX5_looksAt_1 14 rfl rfl)
theorem dX5_looksAt_39 : decode cX5_looksAt 39 = .ok (.goto 4, 3) := dk_167 0 4 (dk_at dksX5_looksAt_1 15 rfl rfl)
theorem dX5_looksAt_42 : decode cX5_looksAt 42 = .ok (.iconst 0, 1) := dk_3 (dk_at dksX5_looksAt_1 18 rfl rfl)
theorem dX5_looksAt_43 : decode cX5_looksAt 43 = .ok (.ireturn, 1) := dk_172 (dk_at dksX5_looksAt_1 19 rfl rfl)
abbrev cX5_bitOf : ByteArray := prog_32_method_8_code
def yX5_bitOf : MethodName := ⟨RX5, "bitOf", "(II)Z"⟩
def dkwX5_bitOf_0 : List UInt8 := [26, 27, 122, 4, 126, 4, 160, 0, 7, 4, 167, 0, 4, 3, 172]
abbrev dktX5_bitOf_0 : List UInt8 := dkwX5_bitOf_0 ++ []
theorem dksX5_bitOf_0 : cX5_bitOf.data.toList.drop 0 = dktX5_bitOf_0 := by decide +kernel
theorem dX5_bitOf_0 : decode cX5_bitOf 0 = .ok (.iload_n 0, 1) := dk_26 (dk_at dksX5_bitOf_0 0 rfl rfl)
theorem dX5_bitOf_1 : decode cX5_bitOf 1 = .ok (.iload_n 1, 1) := dk_27 (dk_at dksX5_bitOf_0 1 rfl rfl)
theorem dX5_bitOf_2 : decode cX5_bitOf 2 = .ok (.ishr, 1) := dk_122 (dk_at dksX5_bitOf_0 2 rfl rfl)
theorem dX5_bitOf_3 : decode cX5_bitOf 3 = .ok (.iconst 1, 1) := dk_4 (dk_at dksX5_bitOf_0 3 rfl rfl)
theorem dX5_bitOf_4 : decode cX5_bitOf 4 = .ok (.iand, 1) := dk_126 (dk_at dksX5_bitOf_0 4 rfl rfl)
theorem dX5_bitOf_5 : decode cX5_bitOf 5 = .ok (.iconst 1, 1) := dk_4 (dk_at dksX5_bitOf_0 5 rfl rfl)
theorem dX5_bitOf_6 : decode cX5_bitOf 6 = .ok (.if_icmp .ne 7, 3) := dk_160 0 7 (dk_at dksX5_bitOf_0 6 rfl rfl)
theorem dX5_bitOf_9 : decode cX5_bitOf 9 = .ok (.iconst 1, 1) := dk_4 (dk_at dksX5_bitOf_0 9 rfl rfl)
theorem dX5_bitOf_10 : decode cX5_bitOf 10 = .ok (.goto 4, 3) := dk_167 0 4 (dk_at dksX5_bitOf_0 10 rfl rfl)
theorem dX5_bitOf_13 : decode cX5_bitOf 13 = .ok (.iconst 0, 1) := dk_3 (dk_at dksX5_bitOf_0 13 rfl rfl)
theorem dX5_bitOf_14 : decode cX5_bitOf 14 = .ok (.ireturn, 1) := dk_172 (dk_at dksX5_bitOf_0 14 rfl rfl)
abbrev cX5_readRoad : ByteArray := prog_32_method_33_code
def yX5_readRoad : MethodName := ⟨RX5, "readRoad", "()Z"⟩
def dkwX5_readRoad_9 : List UInt8 := [182, 0, 251, 154, 0, 5, 3, 172, 42, 180, 0, 37, 4, 92, 46, 4, 96, 79, 4, 172]
abbrev dktX5_readRoad_9 : List UInt8 := dkwX5_readRoad_9 ++ []
def dkwX5_readRoad_8 : List UInt8 := [182, 0, 251, 153, 0, 26, 42, 16, 60, 27, 96, 42, 180, 0, 37, 16, 48, 27, 96, 46, 17, 0, 240]
abbrev dktX5_readRoad_8 : List UInt8 := dkwX5_readRoad_8 ++ dktX5_readRoad_9
def dkwX5_readRoad_7 : List UInt8 := [16, 36, 27, 96, 42, 180, 0, 211, 79, 42, 182, 0, 204, 42, 16, 48, 27, 96, 3, 17, 0, 240]
abbrev dktX5_readRoad_7 : List UInt8 := dkwX5_readRoad_7 ++ dktX5_readRoad_8
def dkwX5_readRoad_6 : List UInt8 := [182, 0, 201, 172, 132, 3, 1, 167, 255, 184, 42, 180, 0, 37, 16, 24, 27, 96, 28, 79, 42, 180, 0, 37]
abbrev dktX5_readRoad_6 : List UInt8 := dkwX5_readRoad_6 ++ dktX5_readRoad_7
def dkwX5_readRoad_5 : List UInt8 := [46, 42, 180, 0, 211, 160, 0, 22, 42, 180, 0, 37, 16, 36, 29, 96, 46, 28, 160, 0, 9, 42, 6]
abbrev dktX5_readRoad_5 : List UInt8 := dkwX5_readRoad_5 ++ dktX5_readRoad_6
def dkwX5_readRoad_4 : List UInt8 := [42, 180, 0, 37, 16, 36, 29, 96, 46, 42, 180, 0, 211, 159, 0, 32, 42, 180, 0, 37, 16, 24, 29, 96]
abbrev dktX5_readRoad_4 : List UInt8 := dkwX5_readRoad_4 ++ dktX5_readRoad_5
def dkwX5_readRoad_3 : List UInt8 := [182, 0, 201, 172, 3, 62, 29, 27, 162, 0, 73, 42, 180, 0, 37, 16, 24, 29, 96, 46, 28, 160, 0, 19]
abbrev dktX5_readRoad_3 : List UInt8 := dkwX5_readRoad_3 ++ dktX5_readRoad_4
def dkwX5_readRoad_2 : List UInt8 := [42, 180, 0, 37, 3, 46, 182, 0, 226, 154, 0, 5, 3, 172, 42, 180, 0, 211, 28, 160, 0, 9, 42, 6]
abbrev dktX5_readRoad_2 : List UInt8 := dkwX5_readRoad_2 ++ dktX5_readRoad_3
def dkwX5_readRoad_1 : List UInt8 := [16, 13, 42, 180, 0, 37, 3, 46, 182, 1, 4, 154, 0, 5, 3, 172, 42, 180, 0, 211, 61, 42, 16, 13]
abbrev dktX5_readRoad_1 : List UInt8 := dkwX5_readRoad_1 ++ dktX5_readRoad_2
def dkwX5_readRoad_0 : List UInt8 := [42, 180, 0, 37, 4, 46, 60, 27, 16, 12, 160, 0, 9, 42, 7, 182, 0, 201, 172, 42, 182, 0, 204, 42]
abbrev dktX5_readRoad_0 : List UInt8 := dkwX5_readRoad_0 ++ dktX5_readRoad_1
theorem dksX5_readRoad_0 : cX5_readRoad.data.toList.drop 0 = dktX5_readRoad_0 := by decide +kernel
theorem dksX5_readRoad_1 : cX5_readRoad.data.toList.drop 24 = dktX5_readRoad_1 := dk_seg dksX5_readRoad_0 24 rfl rfl
theorem dksX5_readRoad_2 : cX5_readRoad.data.toList.drop 48 = dktX5_readRoad_2 := dk_seg dksX5_readRoad_1 24 rfl rfl
theorem dksX5_readRoad_3 : cX5_readRoad.data.toList.drop 72 = dktX5_readRoad_3 := dk_seg dksX5_readRoad_2 24 rfl rfl
theorem dksX5_readRoad_4 : cX5_readRoad.data.toList.drop 96 = dktX5_readRoad_4 := dk_seg dksX5_readRoad_3 24 rfl rfl
theorem dksX5_readRoad_5 : cX5_readRoad.data.toList.drop 120 = dktX5_readRoad_5 := dk_seg dksX5_readRoad_4 24 rfl rfl
theorem dksX5_readRoad_6 : cX5_readRoad.data.toList.drop 143 = dktX5_readRoad_6 := dk_seg dksX5_readRoad_5 23 rfl rfl
theorem dksX5_readRoad_7 : cX5_readRoad.data.toList.drop 167 = dktX5_readRoad_7 := dk_seg dksX5_readRoad_6 24 rfl rfl
theorem dksX5_readRoad_8 : cX5_readRoad.data.toList.drop 189 = dktX5_readRoad_8 := dk_seg dksX5_readRoad_7 22 rfl rfl
theorem dksX5_readRoad_9 : cX5_readRoad.data.toList.drop 212 = dktX5_readRoad_9 := dk_seg dksX5_readRoad_8 23 rfl rfl
theorem dX5_readRoad_0 : decode cX5_readRoad 0 = .ok (.aload_n 0, 1) := dk_42 (dk_at dksX5_readRoad_0 0 rfl rfl)
theorem dX5_readRoad_1 : decode cX5_readRoad 1 = .ok (.getfield 37, 3) := dk_180 0 37 (dk_at dksX5_readRoad_0 1 rfl rfl)
theorem dX5_readRoad_4 : decode cX5_readRoad 4 = .ok (.iconst 1, 1) := dk_4 (dk_at dksX5_readRoad_0 4 rfl rfl)
theorem dX5_readRoad_5 : decode cX5_readRoad 5 = .ok (.iaload, 1) := dk_46 (dk_at dksX5_readRoad_0 5 rfl rfl)
theorem dX5_readRoad_6 : decode cX5_readRoad 6 = .ok (.istore_n 1, 1) := dk_60 (dk_at dksX5_readRoad_0 6 rfl rfl)
theorem dX5_readRoad_7 : decode cX5_readRoad 7 = .ok (.iload_n 1, 1) := dk_27 (dk_at dksX5_readRoad_0 7 rfl rfl)
theorem dX5_readRoad_8 : decode cX5_readRoad 8 = .ok (.bipush 12, 2) := dk_16 12 (dk_at dksX5_readRoad_0 8 rfl rfl)
theorem dX5_readRoad_10 : decode cX5_readRoad 10 = .ok (.if_icmp .ne 9, 3) := dk_160 0 9 (dk_at dksX5_readRoad_0 10 rfl rfl)
theorem dX5_readRoad_13 : decode cX5_readRoad 13 = .ok (.aload_n 0, 1) := dk_42 (dk_at dksX5_readRoad_0 13 rfl rfl)
theorem dX5_readRoad_14 : decode cX5_readRoad 14 = .ok (.iconst 4, 1) := dk_7 (dk_at dksX5_readRoad_0 14 rfl rfl)
theorem dX5_readRoad_15 : decode cX5_readRoad 15 = .ok (.invokevirtual 201, 3) := dk_182 0 201 (dk_at dksX5_readRoad_0 15 rfl rfl)
theorem dX5_readRoad_18 : decode cX5_readRoad 18 = .ok (.ireturn, 1) := dk_172 (dk_at dksX5_readRoad_0 18 rfl rfl)
theorem dX5_readRoad_19 : decode cX5_readRoad 19 = .ok (.aload_n 0, 1) := dk_42 (dk_at dksX5_readRoad_0 19 rfl rfl)
theorem dX5_readRoad_20 : decode cX5_readRoad 20 = .ok (.invokevirtual 204, 3) := dk_182 0 204 (dk_at dksX5_readRoad_0 20 rfl rfl)
theorem dX5_readRoad_23 : decode cX5_readRoad 23 = .ok (.aload_n 0, 1) := dk_42 (dk_at dksX5_readRoad_0 23 rfl rfl)
theorem dX5_readRoad_24 : decode cX5_readRoad 24 = .ok (.bipush 13, 2) := dk_16 13 (dk_at dksX5_readRoad_1 0 rfl rfl)
theorem dX5_readRoad_26 : decode cX5_readRoad 26 = .ok (.aload_n 0, 1) := dk_42 (dk_at dksX5_readRoad_1 2 rfl rfl)
theorem dX5_readRoad_27 : decode cX5_readRoad 27 = .ok (.getfield 37, 3) := dk_180 0 37 (dk_at dksX5_readRoad_1 3 rfl rfl)
theorem dX5_readRoad_30 : decode cX5_readRoad 30 = .ok (.iconst 0, 1) := dk_3 (dk_at dksX5_readRoad_1 6 rfl rfl)
theorem dX5_readRoad_31 : decode cX5_readRoad 31 = .ok (.iaload, 1) := dk_46 (dk_at dksX5_readRoad_1 7 rfl rfl)
theorem dX5_readRoad_32 : decode cX5_readRoad 32 = .ok (.invokevirtual 260, 3) := dk_182 1 4 (dk_at dksX5_readRoad_1 8 rfl rfl)
theorem dX5_readRoad_35 : decode cX5_readRoad 35 = .ok (.ifCond .ne 5, 3) := dk_154 0 5 (dk_at dksX5_readRoad_1 11 rfl rfl)
theorem dX5_readRoad_38 : decode cX5_readRoad 38 = .ok (.iconst 0, 1) := dk_3 (dk_at dksX5_readRoad_1 14 rfl rfl)
theorem dX5_readRoad_39 : decode cX5_readRoad 39 = .ok (.ireturn, 1) := dk_172 (dk_at dksX5_readRoad_1 15 rfl rfl)
theorem dX5_readRoad_40 : decode cX5_readRoad 40 = .ok (.aload_n 0, 1) := dk_42 (dk_at dksX5_readRoad_1 16 rfl rfl)
theorem dX5_readRoad_41 : decode cX5_readRoad 41 = .ok (.getfield 211, 3) := dk_180 0 211 (dk_at dksX5_readRoad_1 17 rfl rfl)
theorem dX5_readRoad_44 : decode cX5_readRoad 44 = .ok (.istore_n 2, 1) := dk_61 (dk_at dksX5_readRoad_1 20 rfl rfl)
theorem dX5_readRoad_45 : decode cX5_readRoad 45 = .ok (.aload_n 0, 1) := dk_42 (dk_at dksX5_readRoad_1 21 rfl rfl)
theorem dX5_readRoad_46 : decode cX5_readRoad 46 = .ok (.bipush 13, 2) := dk_16 13 (dk_at dksX5_readRoad_1 22 rfl rfl)
theorem dX5_readRoad_48 : decode cX5_readRoad 48 = .ok (.aload_n 0, 1) := dk_42 (dk_at dksX5_readRoad_2 0 rfl rfl)
theorem dX5_readRoad_49 : decode cX5_readRoad 49 = .ok (.getfield 37, 3) := dk_180 0 37 (dk_at dksX5_readRoad_2 1 rfl rfl)
theorem dX5_readRoad_52 : decode cX5_readRoad 52 = .ok (.iconst 0, 1) := dk_3 (dk_at dksX5_readRoad_2 4 rfl rfl)
theorem dX5_readRoad_53 : decode cX5_readRoad 53 = .ok (.iaload, 1) := dk_46 (dk_at dksX5_readRoad_2 5 rfl rfl)
theorem dX5_readRoad_54 : decode cX5_readRoad 54 = .ok (.invokevirtual 226, 3) := dk_182 0 226 (dk_at dksX5_readRoad_2 6 rfl rfl)
theorem dX5_readRoad_57 : decode cX5_readRoad 57 = .ok (.ifCond .ne 5, 3) := dk_154 0 5 (dk_at dksX5_readRoad_2 9 rfl rfl)
theorem dX5_readRoad_60 : decode cX5_readRoad 60 = .ok (.iconst 0, 1) := dk_3 (dk_at dksX5_readRoad_2 12 rfl rfl)
theorem dX5_readRoad_61 : decode cX5_readRoad 61 = .ok (.ireturn, 1) := dk_172 (dk_at dksX5_readRoad_2 13 rfl rfl)
theorem dX5_readRoad_62 : decode cX5_readRoad 62 = .ok (.aload_n 0, 1) := dk_42 (dk_at dksX5_readRoad_2 14 rfl rfl)
theorem dX5_readRoad_63 : decode cX5_readRoad 63 = .ok (.getfield 211, 3) := dk_180 0 211 (dk_at dksX5_readRoad_2 15 rfl rfl)
theorem dX5_readRoad_66 : decode cX5_readRoad 66 = .ok (.iload_n 2, 1) := dk_28 (dk_at dksX5_readRoad_2 18 rfl rfl)
theorem dX5_readRoad_67 : decode cX5_readRoad 67 = .ok (.if_icmp .ne 9, 3) := dk_160 0 9 (dk_at dksX5_readRoad_2 19 rfl rfl)
theorem dX5_readRoad_70 : decode cX5_readRoad 70 = .ok (.aload_n 0, 1) := dk_42 (dk_at dksX5_readRoad_2 22 rfl rfl)
theorem dX5_readRoad_71 : decode cX5_readRoad 71 = .ok (.iconst 3, 1) := dk_6 (dk_at dksX5_readRoad_2 23 rfl rfl)
theorem dX5_readRoad_72 : decode cX5_readRoad 72 = .ok (.invokevirtual 201, 3) := dk_182 0 201 (dk_at dksX5_readRoad_3 0 rfl rfl)
theorem dX5_readRoad_75 : decode cX5_readRoad 75 = .ok (.ireturn, 1) := dk_172 (dk_at dksX5_readRoad_3 3 rfl rfl)
theorem dX5_readRoad_76 : decode cX5_readRoad 76 = .ok (.iconst 0, 1) := dk_3 (dk_at dksX5_readRoad_3 4 rfl rfl)
theorem dX5_readRoad_77 : decode cX5_readRoad 77 = .ok (.istore_n 3, 1) := dk_62 (dk_at dksX5_readRoad_3 5 rfl rfl)
theorem dX5_readRoad_78 : decode cX5_readRoad 78 = .ok (.iload_n 3, 1) := dk_29 (dk_at dksX5_readRoad_3 6 rfl rfl)
theorem dX5_readRoad_79 : decode cX5_readRoad 79 = .ok (.iload_n 1, 1) := dk_27 (dk_at dksX5_readRoad_3 7 rfl rfl)
theorem dX5_readRoad_80 : decode cX5_readRoad 80 = .ok (.if_icmp .ge 73, 3) := dk_162 0 73 (dk_at dksX5_readRoad_3 8 rfl rfl)
theorem dX5_readRoad_83 : decode cX5_readRoad 83 = .ok (.aload_n 0, 1) := dk_42 (dk_at dksX5_readRoad_3 11 rfl rfl)
theorem dX5_readRoad_84 : decode cX5_readRoad 84 = .ok (.getfield 37, 3) := dk_180 0 37 (dk_at dksX5_readRoad_3 12 rfl rfl)
theorem dX5_readRoad_87 : decode cX5_readRoad 87 = .ok (.bipush 24, 2) := dk_16 24 (dk_at dksX5_readRoad_3 15 rfl rfl)
theorem dX5_readRoad_89 : decode cX5_readRoad 89 = .ok (.iload_n 3, 1) := dk_29 (dk_at dksX5_readRoad_3 17 rfl rfl)
theorem dX5_readRoad_90 : decode cX5_readRoad 90 = .ok (.iadd, 1) := dk_96 (dk_at dksX5_readRoad_3 18 rfl rfl)
theorem dX5_readRoad_91 : decode cX5_readRoad 91 = .ok (.iaload, 1) := dk_46 (dk_at dksX5_readRoad_3 19 rfl rfl)
theorem dX5_readRoad_92 : decode cX5_readRoad 92 = .ok (.iload_n 2, 1) := dk_28 (dk_at dksX5_readRoad_3 20 rfl rfl)
theorem dX5_readRoad_93 : decode cX5_readRoad 93 = .ok (.if_icmp .ne 19, 3) := dk_160 0 19 (dk_at dksX5_readRoad_3 21 rfl rfl)
theorem dX5_readRoad_96 : decode cX5_readRoad 96 = .ok (.aload_n 0, 1) := dk_42 (dk_at dksX5_readRoad_4 0 rfl rfl)
theorem dX5_readRoad_97 : decode cX5_readRoad 97 = .ok (.getfield 37, 3) := dk_180 0 37 (dk_at dksX5_readRoad_4 1 rfl rfl)
theorem dX5_readRoad_100 : decode cX5_readRoad 100 = .ok (.bipush 36, 2) := dk_16 36 (dk_at dksX5_readRoad_4 4 rfl rfl)
theorem dX5_readRoad_102 : decode cX5_readRoad 102 = .ok (.iload_n 3, 1) := dk_29 (dk_at dksX5_readRoad_4 6 rfl rfl)
theorem dX5_readRoad_103 : decode cX5_readRoad 103 = .ok (.iadd, 1) := dk_96 (dk_at dksX5_readRoad_4 7 rfl rfl)
theorem dX5_readRoad_104 : decode cX5_readRoad 104 = .ok (.iaload, 1) := dk_46 (dk_at dksX5_readRoad_4 8 rfl rfl)
theorem dX5_readRoad_105 : decode cX5_readRoad 105 = .ok (.aload_n 0, 1) := dk_42 (dk_at dksX5_readRoad_4 9 rfl rfl)
theorem dX5_readRoad_106 : decode cX5_readRoad 106 = .ok (.getfield 211, 3) := dk_180 0 211 (dk_at dksX5_readRoad_4 10 rfl rfl)
theorem dX5_readRoad_109 : decode cX5_readRoad 109 = .ok (.if_icmp .eq 32, 3) := dk_159 0 32 (dk_at dksX5_readRoad_4 13 rfl rfl)
theorem dX5_readRoad_112 : decode cX5_readRoad 112 = .ok (.aload_n 0, 1) := dk_42 (dk_at dksX5_readRoad_4 16 rfl rfl)
theorem dX5_readRoad_113 : decode cX5_readRoad 113 = .ok (.getfield 37, 3) := dk_180 0 37 (dk_at dksX5_readRoad_4 17 rfl rfl)
theorem dX5_readRoad_116 : decode cX5_readRoad 116 = .ok (.bipush 24, 2) := dk_16 24 (dk_at dksX5_readRoad_4 20 rfl rfl)
theorem dX5_readRoad_118 : decode cX5_readRoad 118 = .ok (.iload_n 3, 1) := dk_29 (dk_at dksX5_readRoad_4 22 rfl rfl)
theorem dX5_readRoad_119 : decode cX5_readRoad 119 = .ok (.iadd, 1) := dk_96 (dk_at dksX5_readRoad_4 23 rfl rfl)
theorem dX5_readRoad_120 : decode cX5_readRoad 120 = .ok (.iaload, 1) := dk_46 (dk_at dksX5_readRoad_5 0 rfl rfl)
theorem dX5_readRoad_121 : decode cX5_readRoad 121 = .ok (.aload_n 0, 1) := dk_42 (dk_at dksX5_readRoad_5 1 rfl rfl)
theorem dX5_readRoad_122 : decode cX5_readRoad 122 = .ok (.getfield 211, 3) := dk_180 0 211 (dk_at dksX5_readRoad_5 2 rfl rfl)
theorem dX5_readRoad_125 : decode cX5_readRoad 125 = .ok (.if_icmp .ne 22, 3) := dk_160 0 22 (dk_at dksX5_readRoad_5 5 rfl rfl)
theorem dX5_readRoad_128 : decode cX5_readRoad 128 = .ok (.aload_n 0, 1) := dk_42 (dk_at dksX5_readRoad_5 8 rfl rfl)
theorem dX5_readRoad_129 : decode cX5_readRoad 129 = .ok (.getfield 37, 3) := dk_180 0 37 (dk_at dksX5_readRoad_5 9 rfl rfl)
theorem dX5_readRoad_132 : decode cX5_readRoad 132 = .ok (.bipush 36, 2) := dk_16 36 (dk_at dksX5_readRoad_5 12 rfl rfl)
theorem dX5_readRoad_134 : decode cX5_readRoad 134 = .ok (.iload_n 3, 1) := dk_29 (dk_at dksX5_readRoad_5 14 rfl rfl)
theorem dX5_readRoad_135 : decode cX5_readRoad 135 = .ok (.iadd, 1) := dk_96 (dk_at dksX5_readRoad_5 15 rfl rfl)
theorem dX5_readRoad_136 : decode cX5_readRoad 136 = .ok (.iaload, 1) := dk_46 (dk_at dksX5_readRoad_5 16 rfl rfl)
theorem dX5_readRoad_137 : decode cX5_readRoad 137 = .ok (.iload_n 2, 1) := dk_28 (dk_at dksX5_readRoad_5 17 rfl rfl)
theorem dX5_readRoad_138 : decode cX5_readRoad 138 = .ok (.if_icmp .ne 9, 3) := dk_160 0 9 (dk_at dksX5_readRoad_5 18 rfl rfl)
theorem dX5_readRoad_141 : decode cX5_readRoad 141 = .ok (.aload_n 0, 1) := dk_42 (dk_at dksX5_readRoad_5 21 rfl rfl)
theorem dX5_readRoad_142 : decode cX5_readRoad 142 = .ok (.iconst 3, 1) := dk_6 (dk_at dksX5_readRoad_5 22 rfl rfl)
theorem dX5_readRoad_143 : decode cX5_readRoad 143 = .ok (.invokevirtual 201, 3) := dk_182 0 201 (dk_at dksX5_readRoad_6 0 rfl rfl)
theorem dX5_readRoad_146 : decode cX5_readRoad 146 = .ok (.ireturn, 1) := dk_172 (dk_at dksX5_readRoad_6 3 rfl rfl)
theorem dX5_readRoad_147 : decode cX5_readRoad 147 = .ok (.iinc 3 1, 3) := dk_132 3 1 (dk_at dksX5_readRoad_6 4 rfl rfl)
theorem dX5_readRoad_150 : decode cX5_readRoad 150 = .ok (.goto (-72), 3) := dk_167 255 184 (dk_at dksX5_readRoad_6 7 rfl rfl)
theorem dX5_readRoad_153 : decode cX5_readRoad 153 = .ok (.aload_n 0, 1) := dk_42 (dk_at dksX5_readRoad_6 10 rfl rfl)
theorem dX5_readRoad_154 : decode cX5_readRoad 154 = .ok (.getfield 37, 3) := dk_180 0 37 (dk_at dksX5_readRoad_6 11 rfl rfl)
theorem dX5_readRoad_157 : decode cX5_readRoad 157 = .ok (.bipush 24, 2) := dk_16 24 (dk_at dksX5_readRoad_6 14 rfl rfl)
theorem dX5_readRoad_159 : decode cX5_readRoad 159 = .ok (.iload_n 1, 1) := dk_27 (dk_at dksX5_readRoad_6 16 rfl rfl)
theorem dX5_readRoad_160 : decode cX5_readRoad 160 = .ok (.iadd, 1) := dk_96 (dk_at dksX5_readRoad_6 17 rfl rfl)
theorem dX5_readRoad_161 : decode cX5_readRoad 161 = .ok (.iload_n 2, 1) := dk_28 (dk_at dksX5_readRoad_6 18 rfl rfl)
theorem dX5_readRoad_162 : decode cX5_readRoad 162 = .ok (.iastore, 1) := dk_79 (dk_at dksX5_readRoad_6 19 rfl rfl)
theorem dX5_readRoad_163 : decode cX5_readRoad 163 = .ok (.aload_n 0, 1) := dk_42 (dk_at dksX5_readRoad_6 20 rfl rfl)
theorem dX5_readRoad_164 : decode cX5_readRoad 164 = .ok (.getfield 37, 3) := dk_180 0 37 (dk_at dksX5_readRoad_6 21 rfl rfl)
theorem dX5_readRoad_167 : decode cX5_readRoad 167 = .ok (.bipush 36, 2) := dk_16 36 (dk_at dksX5_readRoad_7 0 rfl rfl)
theorem dX5_readRoad_169 : decode cX5_readRoad 169 = .ok (.iload_n 1, 1) := dk_27 (dk_at dksX5_readRoad_7 2 rfl rfl)
theorem dX5_readRoad_170 : decode cX5_readRoad 170 = .ok (.iadd, 1) := dk_96 (dk_at dksX5_readRoad_7 3 rfl rfl)
theorem dX5_readRoad_171 : decode cX5_readRoad 171 = .ok (.aload_n 0, 1) := dk_42 (dk_at dksX5_readRoad_7 4 rfl rfl)
theorem dX5_readRoad_172 : decode cX5_readRoad 172 = .ok (.getfield 211, 3) := dk_180 0 211 (dk_at dksX5_readRoad_7 5 rfl rfl)
theorem dX5_readRoad_175 : decode cX5_readRoad 175 = .ok (.iastore, 1) := dk_79 (dk_at dksX5_readRoad_7 8 rfl rfl)
theorem dX5_readRoad_176 : decode cX5_readRoad 176 = .ok (.aload_n 0, 1) := dk_42 (dk_at dksX5_readRoad_7 9 rfl rfl)
theorem dX5_readRoad_177 : decode cX5_readRoad 177 = .ok (.invokevirtual 204, 3) := dk_182 0 204 (dk_at dksX5_readRoad_7 10 rfl rfl)
theorem dX5_readRoad_180 : decode cX5_readRoad 180 = .ok (.aload_n 0, 1) := dk_42 (dk_at dksX5_readRoad_7 13 rfl rfl)
theorem dX5_readRoad_181 : decode cX5_readRoad 181 = .ok (.bipush 48, 2) := dk_16 48 (dk_at dksX5_readRoad_7 14 rfl rfl)
theorem dX5_readRoad_183 : decode cX5_readRoad 183 = .ok (.iload_n 1, 1) := dk_27 (dk_at dksX5_readRoad_7 16 rfl rfl)
theorem dX5_readRoad_184 : decode cX5_readRoad 184 = .ok (.iadd, 1) := dk_96 (dk_at dksX5_readRoad_7 17 rfl rfl)
theorem dX5_readRoad_185 : decode cX5_readRoad 185 = .ok (.iconst 0, 1) := dk_3 (dk_at dksX5_readRoad_7 18 rfl rfl)
theorem dX5_readRoad_186 : decode cX5_readRoad 186 = .ok (.sipush 240, 3) := dk_17 0 240 (dk_at dksX5_readRoad_7 19 rfl rfl)
theorem dX5_readRoad_189 : decode cX5_readRoad 189 = .ok (.invokevirtual 251, 3) := dk_182 0 251 (dk_at dksX5_readRoad_8 0 rfl rfl)
theorem dX5_readRoad_192 : decode cX5_readRoad 192 = .ok (.ifCond .eq 26, 3) := dk_153 0 26 (dk_at dksX5_readRoad_8 3 rfl rfl)
theorem dX5_readRoad_195 : decode cX5_readRoad 195 = .ok (.aload_n 0, 1) := dk_42 (dk_at dksX5_readRoad_8 6 rfl rfl)
theorem dX5_readRoad_196 : decode cX5_readRoad 196 = .ok (.bipush 60, 2) := dk_16 60 (dk_at dksX5_readRoad_8 7 rfl rfl)
theorem dX5_readRoad_198 : decode cX5_readRoad 198 = .ok (.iload_n 1, 1) := dk_27 (dk_at dksX5_readRoad_8 9 rfl rfl)
theorem dX5_readRoad_199 : decode cX5_readRoad 199 = .ok (.iadd, 1) := dk_96 (dk_at dksX5_readRoad_8 10 rfl rfl)
theorem dX5_readRoad_200 : decode cX5_readRoad 200 = .ok (.aload_n 0, 1) := dk_42 (dk_at dksX5_readRoad_8 11 rfl rfl)
theorem dX5_readRoad_201 : decode cX5_readRoad 201 = .ok (.getfield 37, 3) := dk_180 0 37 (dk_at dksX5_readRoad_8 12 rfl rfl)
theorem dX5_readRoad_204 : decode cX5_readRoad 204 = .ok (.bipush 48, 2) := dk_16 48 (dk_at dksX5_readRoad_8 15 rfl rfl)
theorem dX5_readRoad_206 : decode cX5_readRoad 206 = .ok (.iload_n 1, 1) := dk_27 (dk_at dksX5_readRoad_8 17 rfl rfl)
theorem dX5_readRoad_207 : decode cX5_readRoad 207 = .ok (.iadd, 1) := dk_96 (dk_at dksX5_readRoad_8 18 rfl rfl)
theorem dX5_readRoad_208 : decode cX5_readRoad 208 = .ok (.iaload, 1) := dk_46 (dk_at dksX5_readRoad_8 19 rfl rfl)
theorem dX5_readRoad_209 : decode cX5_readRoad 209 = .ok (.sipush 240, 3) := dk_17 0 240 (dk_at dksX5_readRoad_8 20 rfl rfl)
theorem dX5_readRoad_212 : decode cX5_readRoad 212 = .ok (.invokevirtual 251, 3) := dk_182 0 251 (dk_at dksX5_readRoad_9 0 rfl rfl)
theorem dX5_readRoad_215 : decode cX5_readRoad 215 = .ok (.ifCond .ne 5, 3) := dk_154 0 5 (dk_at dksX5_readRoad_9 3 rfl rfl)
theorem dX5_readRoad_218 : decode cX5_readRoad 218 = .ok (.iconst 0, 1) := dk_3 (dk_at dksX5_readRoad_9 6 rfl rfl)
theorem dX5_readRoad_219 : decode cX5_readRoad 219 = .ok (.ireturn, 1) := dk_172 (dk_at dksX5_readRoad_9 7 rfl rfl)
theorem dX5_readRoad_220 : decode cX5_readRoad 220 = .ok (.aload_n 0, 1) := dk_42 (dk_at dksX5_readRoad_9 8 rfl rfl)
theorem dX5_readRoad_221 : decode cX5_readRoad 221 = .ok (.getfield 37, 3) := dk_180 0 37 (dk_at dksX5_readRoad_9 9 rfl rfl)
theorem dX5_readRoad_224 : decode cX5_readRoad 224 = .ok (.iconst 1, 1) := dk_4 (dk_at dksX5_readRoad_9 12 rfl rfl)
theorem dX5_readRoad_225 : decode cX5_readRoad 225 = .ok (.dup2, 1) := dk_92 (dk_at dksX5_readRoad_9 13 rfl rfl)
theorem dX5_readRoad_226 : decode cX5_readRoad 226 = .ok (.iaload, 1) := dk_46 (dk_at dksX5_readRoad_9 14 rfl rfl)
theorem dX5_readRoad_227 : decode cX5_readRoad 227 = .ok (.iconst 1, 1) := dk_4 (dk_at dksX5_readRoad_9 15 rfl rfl)
theorem dX5_readRoad_228 : decode cX5_readRoad 228 = .ok (.iadd, 1) := dk_96 (dk_at dksX5_readRoad_9 16 rfl rfl)
theorem dX5_readRoad_229 : decode cX5_readRoad 229 = .ok (.iastore, 1) := dk_79 (dk_at dksX5_readRoad_9 17 rfl rfl)
theorem dX5_readRoad_230 : decode cX5_readRoad 230 = .ok (.iconst 1, 1) := dk_4 (dk_at dksX5_readRoad_9 18 rfl rfl)
theorem dX5_readRoad_231 : decode cX5_readRoad 231 = .ok (.ireturn, 1) := dk_172 (dk_at dksX5_readRoad_9 19 rfl rfl)
abbrev cX5_takesName : ByteArray := prog_32_method_29_code
def yX5_takesName : MethodName := ⟨RX5, "takesName", "(II)Z"⟩
def dkwX5_takesName_0 : List UInt8 := [42, 27, 28, 182, 0, 226, 154, 0, 5, 3, 172, 42, 182, 0, 204, 4, 172]
abbrev dktX5_takesName_0 : List UInt8 := dkwX5_takesName_0 ++ []
theorem dksX5_takesName_0 : cX5_takesName.data.toList.drop 0 = dktX5_takesName_0 := by decide +kernel
theorem dX5_takesName_0 : decode cX5_takesName 0 = .ok (.aload_n 0, 1) := dk_42 (dk_at dksX5_takesName_0 0 rfl rfl)
theorem dX5_takesName_1 : decode cX5_takesName 1 = .ok (.iload_n 1, 1) := dk_27 (dk_at dksX5_takesName_0 1 rfl rfl)
theorem dX5_takesName_2 : decode cX5_takesName 2 = .ok (.iload_n 2, 1) := dk_28 (dk_at dksX5_takesName_0 2 rfl rfl)
theorem dX5_takesName_3 : decode cX5_takesName 3 = .ok (.invokevirtual 226, 3) := dk_182 0 226 (dk_at dksX5_takesName_0 3 rfl rfl)
theorem dX5_takesName_6 : decode cX5_takesName 6 = .ok (.ifCond .ne 5, 3) := dk_154 0 5 (dk_at dksX5_takesName_0 6 rfl rfl)
theorem dX5_takesName_9 : decode cX5_takesName 9 = .ok (.iconst 0, 1) := dk_3 (dk_at dksX5_takesName_0 9 rfl rfl)
theorem dX5_takesName_10 : decode cX5_takesName 10 = .ok (.ireturn, 1) := dk_172 (dk_at dksX5_takesName_0 10 rfl rfl)
theorem dX5_takesName_11 : decode cX5_takesName 11 = .ok (.aload_n 0, 1) := dk_42 (dk_at dksX5_takesName_0 11 rfl rfl)
theorem dX5_takesName_12 : decode cX5_takesName 12 = .ok (.invokevirtual 204, 3) := dk_182 0 204 (dk_at dksX5_takesName_0 12 rfl rfl)
theorem dX5_takesName_15 : decode cX5_takesName 15 = .ok (.iconst 1, 1) := dk_4 (dk_at dksX5_takesName_0 15 rfl rfl)
theorem dX5_takesName_16 : decode cX5_takesName 16 = .ok (.ireturn, 1) := dk_172 (dk_at dksX5_takesName_0 16 rfl rfl)
abbrev cX5_readTreaty : ByteArray := prog_32_method_34_code
def yX5_readTreaty : MethodName := ⟨RX5, "readTreaty", "()Z"⟩
def dkwX5_readTreaty_4 : List UInt8 := [120, 128, 79, 42, 182, 0, 204, 4, 172]
abbrev dktX5_readTreaty_4 : List UInt8 := dkwX5_readTreaty_4 ++ []
def dkwX5_readTreaty_3 : List UInt8 := [153, 0, 9, 42, 6, 182, 0, 201, 172, 42, 180, 0, 37, 16, 72, 27, 96, 92, 46, 4, 42, 180, 0, 211]
abbrev dktX5_readTreaty_3 : List UInt8 := dkwX5_readTreaty_3 ++ dktX5_readTreaty_4
def dkwX5_readTreaty_2 : List UInt8 := [180, 0, 211, 27, 159, 0, 22, 42, 180, 0, 37, 16, 72, 27, 96, 46, 42, 180, 0, 211, 184, 1, 1]
abbrev dktX5_readTreaty_2 : List UInt8 := dkwX5_readTreaty_2 ++ dktX5_readTreaty_3
def dkwX5_readTreaty_1 : List UInt8 := [180, 0, 211, 60, 42, 16, 13, 42, 180, 0, 37, 3, 46, 182, 0, 226, 154, 0, 5, 3, 172, 42]
abbrev dktX5_readTreaty_1 : List UInt8 := dkwX5_readTreaty_1 ++ dktX5_readTreaty_2
def dkwX5_readTreaty_0 : List UInt8 := [42, 182, 0, 204, 42, 16, 13, 42, 180, 0, 37, 3, 46, 182, 1, 4, 154, 0, 5, 3, 172, 42]
abbrev dktX5_readTreaty_0 : List UInt8 := dkwX5_readTreaty_0 ++ dktX5_readTreaty_1
theorem dksX5_readTreaty_0 : cX5_readTreaty.data.toList.drop 0 = dktX5_readTreaty_0 := by decide +kernel
theorem dksX5_readTreaty_1 : cX5_readTreaty.data.toList.drop 22 = dktX5_readTreaty_1 := dk_seg dksX5_readTreaty_0 22 rfl rfl
theorem dksX5_readTreaty_2 : cX5_readTreaty.data.toList.drop 44 = dktX5_readTreaty_2 := dk_seg dksX5_readTreaty_1 22 rfl rfl
theorem dksX5_readTreaty_3 : cX5_readTreaty.data.toList.drop 67 = dktX5_readTreaty_3 := dk_seg dksX5_readTreaty_2 23 rfl rfl
theorem dksX5_readTreaty_4 : cX5_readTreaty.data.toList.drop 91 = dktX5_readTreaty_4 := dk_seg dksX5_readTreaty_3 24 rfl rfl
theorem dX5_readTreaty_0 : decode cX5_readTreaty 0 = .ok (.aload_n 0, 1) := dk_42 (dk_at dksX5_readTreaty_0 0 rfl rfl)
theorem dX5_readTreaty_1 : decode cX5_readTreaty 1 = .ok (.invokevirtual 204, 3) := dk_182 0 204 (dk_at dksX5_readTreaty_0 1 rfl rfl)
theorem dX5_readTreaty_4 : decode cX5_readTreaty 4 = .ok (.aload_n 0, 1) := dk_42 (dk_at dksX5_readTreaty_0 4 rfl rfl)
theorem dX5_readTreaty_5 : decode cX5_readTreaty 5 = .ok (.bipush 13, 2) := dk_16 13 (dk_at dksX5_readTreaty_0 5 rfl rfl)
theorem dX5_readTreaty_7 : decode cX5_readTreaty 7 = .ok (.aload_n 0, 1) := dk_42 (dk_at dksX5_readTreaty_0 7 rfl rfl)
theorem dX5_readTreaty_8 : decode cX5_readTreaty 8 = .ok (.getfield 37, 3) := dk_180 0 37 (dk_at dksX5_readTreaty_0 8 rfl rfl)
theorem dX5_readTreaty_11 : decode cX5_readTreaty 11 = .ok (.iconst 0, 1) := dk_3 (dk_at dksX5_readTreaty_0 11 rfl rfl)
theorem dX5_readTreaty_12 : decode cX5_readTreaty 12 = .ok (.iaload, 1) := dk_46 (dk_at dksX5_readTreaty_0 12 rfl rfl)
theorem dX5_readTreaty_13 : decode cX5_readTreaty 13 = .ok (.invokevirtual 260, 3) := dk_182 1 4 (dk_at dksX5_readTreaty_0 13 rfl rfl)
theorem dX5_readTreaty_16 : decode cX5_readTreaty 16 = .ok (.ifCond .ne 5, 3) := dk_154 0 5 (dk_at dksX5_readTreaty_0 16 rfl rfl)
theorem dX5_readTreaty_19 : decode cX5_readTreaty 19 = .ok (.iconst 0, 1) := dk_3 (dk_at dksX5_readTreaty_0 19 rfl rfl)
theorem dX5_readTreaty_20 : decode cX5_readTreaty 20 = .ok (.ireturn, 1) := dk_172 (dk_at dksX5_readTreaty_0 20 rfl rfl)
theorem dX5_readTreaty_21 : decode cX5_readTreaty 21 = .ok (.aload_n 0, 1) := dk_42 (dk_at dksX5_readTreaty_0 21 rfl rfl)
theorem dX5_readTreaty_22 : decode cX5_readTreaty 22 = .ok (.getfield 211, 3) := dk_180 0 211 (dk_at dksX5_readTreaty_1 0 rfl rfl)
theorem dX5_readTreaty_25 : decode cX5_readTreaty 25 = .ok (.istore_n 1, 1) := dk_60 (dk_at dksX5_readTreaty_1 3 rfl rfl)
theorem dX5_readTreaty_26 : decode cX5_readTreaty 26 = .ok (.aload_n 0, 1) := dk_42 (dk_at dksX5_readTreaty_1 4 rfl rfl)
theorem dX5_readTreaty_27 : decode cX5_readTreaty 27 = .ok (.bipush 13, 2) := dk_16 13 (dk_at dksX5_readTreaty_1 5 rfl rfl)
theorem dX5_readTreaty_29 : decode cX5_readTreaty 29 = .ok (.aload_n 0, 1) := dk_42 (dk_at dksX5_readTreaty_1 7 rfl rfl)
theorem dX5_readTreaty_30 : decode cX5_readTreaty 30 = .ok (.getfield 37, 3) := dk_180 0 37 (dk_at dksX5_readTreaty_1 8 rfl rfl)
theorem dX5_readTreaty_33 : decode cX5_readTreaty 33 = .ok (.iconst 0, 1) := dk_3 (dk_at dksX5_readTreaty_1 11 rfl rfl)
theorem dX5_readTreaty_34 : decode cX5_readTreaty 34 = .ok (.iaload, 1) := dk_46 (dk_at dksX5_readTreaty_1 12 rfl rfl)
theorem dX5_readTreaty_35 : decode cX5_readTreaty 35 = .ok (.invokevirtual 226, 3) := dk_182 0 226 (dk_at dksX5_readTreaty_1 13 rfl rfl)
theorem dX5_readTreaty_38 : decode cX5_readTreaty 38 = .ok (.ifCond .ne 5, 3) := dk_154 0 5 (dk_at dksX5_readTreaty_1 16 rfl rfl)
theorem dX5_readTreaty_41 : decode cX5_readTreaty 41 = .ok (.iconst 0, 1) := dk_3 (dk_at dksX5_readTreaty_1 19 rfl rfl)
theorem dX5_readTreaty_42 : decode cX5_readTreaty 42 = .ok (.ireturn, 1) := dk_172 (dk_at dksX5_readTreaty_1 20 rfl rfl)
theorem dX5_readTreaty_43 : decode cX5_readTreaty 43 = .ok (.aload_n 0, 1) := dk_42 (dk_at dksX5_readTreaty_1 21 rfl rfl)
theorem dX5_readTreaty_44 : decode cX5_readTreaty 44 = .ok (.getfield 211, 3) := dk_180 0 211 (dk_at dksX5_readTreaty_2 0 rfl rfl)
theorem dX5_readTreaty_47 : decode cX5_readTreaty 47 = .ok (.iload_n 1, 1) := dk_27 (dk_at dksX5_readTreaty_2 3 rfl rfl)
theorem dX5_readTreaty_48 : decode cX5_readTreaty 48 = .ok (.if_icmp .eq 22, 3) := dk_159 0 22 (dk_at dksX5_readTreaty_2 4 rfl rfl)
theorem dX5_readTreaty_51 : decode cX5_readTreaty 51 = .ok (.aload_n 0, 1) := dk_42 (dk_at dksX5_readTreaty_2 7 rfl rfl)
theorem dX5_readTreaty_52 : decode cX5_readTreaty 52 = .ok (.getfield 37, 3) := dk_180 0 37 (dk_at dksX5_readTreaty_2 8 rfl rfl)
theorem dX5_readTreaty_55 : decode cX5_readTreaty 55 = .ok (.bipush 72, 2) := dk_16 72 (dk_at dksX5_readTreaty_2 11 rfl rfl)
theorem dX5_readTreaty_57 : decode cX5_readTreaty 57 = .ok (.iload_n 1, 1) := dk_27 (dk_at dksX5_readTreaty_2 13 rfl rfl)
theorem dX5_readTreaty_58 : decode cX5_readTreaty 58 = .ok (.iadd, 1) := dk_96 (dk_at dksX5_readTreaty_2 14 rfl rfl)
theorem dX5_readTreaty_59 : decode cX5_readTreaty 59 = .ok (.iaload, 1) := dk_46 (dk_at dksX5_readTreaty_2 15 rfl rfl)
theorem dX5_readTreaty_60 : decode cX5_readTreaty 60 = .ok (.aload_n 0, 1) := dk_42 (dk_at dksX5_readTreaty_2 16 rfl rfl)
theorem dX5_readTreaty_61 : decode cX5_readTreaty 61 = .ok (.getfield 211, 3) := dk_180 0 211 (dk_at dksX5_readTreaty_2 17 rfl rfl)
theorem dX5_readTreaty_64 : decode cX5_readTreaty 64 = .ok (.invokestatic 257, 3) := dk_184 1 1 (dk_at dksX5_readTreaty_2 20 rfl rfl)
theorem dX5_readTreaty_67 : decode cX5_readTreaty 67 = .ok (.ifCond .eq 9, 3) := dk_153 0 9 (dk_at dksX5_readTreaty_3 0 rfl rfl)
theorem dX5_readTreaty_70 : decode cX5_readTreaty 70 = .ok (.aload_n 0, 1) := dk_42 (dk_at dksX5_readTreaty_3 3 rfl rfl)
theorem dX5_readTreaty_71 : decode cX5_readTreaty 71 = .ok (.iconst 3, 1) := dk_6 (dk_at dksX5_readTreaty_3 4 rfl rfl)
theorem dX5_readTreaty_72 : decode cX5_readTreaty 72 = .ok (.invokevirtual 201, 3) := dk_182 0 201 (dk_at dksX5_readTreaty_3 5 rfl rfl)
theorem dX5_readTreaty_75 : decode cX5_readTreaty 75 = .ok (.ireturn, 1) := dk_172 (dk_at dksX5_readTreaty_3 8 rfl rfl)
theorem dX5_readTreaty_76 : decode cX5_readTreaty 76 = .ok (.aload_n 0, 1) := dk_42 (dk_at dksX5_readTreaty_3 9 rfl rfl)
theorem dX5_readTreaty_77 : decode cX5_readTreaty 77 = .ok (.getfield 37, 3) := dk_180 0 37 (dk_at dksX5_readTreaty_3 10 rfl rfl)
theorem dX5_readTreaty_80 : decode cX5_readTreaty 80 = .ok (.bipush 72, 2) := dk_16 72 (dk_at dksX5_readTreaty_3 13 rfl rfl)
theorem dX5_readTreaty_82 : decode cX5_readTreaty 82 = .ok (.iload_n 1, 1) := dk_27 (dk_at dksX5_readTreaty_3 15 rfl rfl)
theorem dX5_readTreaty_83 : decode cX5_readTreaty 83 = .ok (.iadd, 1) := dk_96 (dk_at dksX5_readTreaty_3 16 rfl rfl)
theorem dX5_readTreaty_84 : decode cX5_readTreaty 84 = .ok (.dup2, 1) := dk_92 (dk_at dksX5_readTreaty_3 17 rfl rfl)
theorem dX5_readTreaty_85 : decode cX5_readTreaty 85 = .ok (.iaload, 1) := dk_46 (dk_at dksX5_readTreaty_3 18 rfl rfl)
theorem dX5_readTreaty_86 : decode cX5_readTreaty 86 = .ok (.iconst 1, 1) := dk_4 (dk_at dksX5_readTreaty_3 19 rfl rfl)
theorem dX5_readTreaty_87 : decode cX5_readTreaty 87 = .ok (.aload_n 0, 1) := dk_42 (dk_at dksX5_readTreaty_3 20 rfl rfl)
theorem dX5_readTreaty_88 : decode cX5_readTreaty 88 = .ok (.getfield 211, 3) := dk_180 0 211 (dk_at dksX5_readTreaty_3 21 rfl rfl)
theorem dX5_readTreaty_91 : decode cX5_readTreaty 91 = .ok (.ishl, 1) := dk_120 (dk_at dksX5_readTreaty_4 0 rfl rfl)
theorem dX5_readTreaty_92 : decode cX5_readTreaty 92 = .ok (.ior, 1) := dk_128 (dk_at dksX5_readTreaty_4 1 rfl rfl)
theorem dX5_readTreaty_93 : decode cX5_readTreaty 93 = .ok (.iastore, 1) := dk_79 (dk_at dksX5_readTreaty_4 2 rfl rfl)
theorem dX5_readTreaty_94 : decode cX5_readTreaty 94 = .ok (.aload_n 0, 1) := dk_42 (dk_at dksX5_readTreaty_4 3 rfl rfl)
theorem dX5_readTreaty_95 : decode cX5_readTreaty 95 = .ok (.invokevirtual 204, 3) := dk_182 0 204 (dk_at dksX5_readTreaty_4 4 rfl rfl)
theorem dX5_readTreaty_98 : decode cX5_readTreaty 98 = .ok (.iconst 1, 1) := dk_4 (dk_at dksX5_readTreaty_4 7 rfl rfl)
theorem dX5_readTreaty_99 : decode cX5_readTreaty 99 = .ok (.ireturn, 1) := dk_172 (dk_at dksX5_readTreaty_4 8 rfl rfl)
abbrev cX5_readPerson : ByteArray := prog_32_method_35_code
def yX5_readPerson : MethodName := ⟨RX5, "readPerson", "()Z"⟩
def dkwX5_readPerson_3 : List UInt8 := [17, 0, 240, 182, 0, 251, 154, 0, 5, 3, 172, 42, 180, 0, 37, 5, 92, 46, 4, 96, 79, 4, 172]
abbrev dktX5_readPerson_3 : List UInt8 := dkwX5_readPerson_3 ++ []
def dkwX5_readPerson_2 : List UInt8 := [154, 0, 5, 3, 172, 42, 180, 0, 37, 16, 79, 27, 96, 42, 180, 0, 211, 79, 42, 16, 85, 27, 96, 4]
abbrev dktX5_readPerson_2 : List UInt8 := dkwX5_readPerson_2 ++ dktX5_readPerson_3
def dkwX5_readPerson_1 : List UInt8 := [16, 20, 27, 96, 182, 0, 248, 153, 0, 18, 42, 16, 13, 42, 180, 0, 37, 3, 46, 182, 1, 4]
abbrev dktX5_readPerson_1 : List UInt8 := dkwX5_readPerson_1 ++ dktX5_readPerson_2
def dkwX5_readPerson_0 : List UInt8 := [42, 180, 0, 37, 5, 46, 60, 27, 16, 6, 160, 0, 9, 42, 7, 182, 0, 201, 172, 42, 182, 0, 204, 42]
abbrev dktX5_readPerson_0 : List UInt8 := dkwX5_readPerson_0 ++ dktX5_readPerson_1
theorem dksX5_readPerson_0 : cX5_readPerson.data.toList.drop 0 = dktX5_readPerson_0 := by decide +kernel
theorem dksX5_readPerson_1 : cX5_readPerson.data.toList.drop 24 = dktX5_readPerson_1 := dk_seg dksX5_readPerson_0 24 rfl rfl
theorem dksX5_readPerson_2 : cX5_readPerson.data.toList.drop 46 = dktX5_readPerson_2 := dk_seg dksX5_readPerson_1 22 rfl rfl
theorem dksX5_readPerson_3 : cX5_readPerson.data.toList.drop 70 = dktX5_readPerson_3 := dk_seg dksX5_readPerson_2 24 rfl rfl
theorem dX5_readPerson_0 : decode cX5_readPerson 0 = .ok (.aload_n 0, 1) := dk_42 (dk_at dksX5_readPerson_0 0 rfl rfl)
theorem dX5_readPerson_1 : decode cX5_readPerson 1 = .ok (.getfield 37, 3) := dk_180 0 37 (dk_at dksX5_readPerson_0 1 rfl rfl)
theorem dX5_readPerson_4 : decode cX5_readPerson 4 = .ok (.iconst 2, 1) := dk_5 (dk_at dksX5_readPerson_0 4 rfl rfl)
theorem dX5_readPerson_5 : decode cX5_readPerson 5 = .ok (.iaload, 1) := dk_46 (dk_at dksX5_readPerson_0 5 rfl rfl)
theorem dX5_readPerson_6 : decode cX5_readPerson 6 = .ok (.istore_n 1, 1) := dk_60 (dk_at dksX5_readPerson_0 6 rfl rfl)
theorem dX5_readPerson_7 : decode cX5_readPerson 7 = .ok (.iload_n 1, 1) := dk_27 (dk_at dksX5_readPerson_0 7 rfl rfl)
theorem dX5_readPerson_8 : decode cX5_readPerson 8 = .ok (.bipush 6, 2) := dk_16 6 (dk_at dksX5_readPerson_0 8 rfl rfl)
theorem dX5_readPerson_10 : decode cX5_readPerson 10 = .ok (.if_icmp .ne 9, 3) := dk_160 0 9 (dk_at dksX5_readPerson_0 10 rfl rfl)
theorem dX5_readPerson_13 : decode cX5_readPerson 13 = .ok (.aload_n 0, 1) := dk_42 (dk_at dksX5_readPerson_0 13 rfl rfl)
theorem dX5_readPerson_14 : decode cX5_readPerson 14 = .ok (.iconst 4, 1) := dk_7 (dk_at dksX5_readPerson_0 14 rfl rfl)
theorem dX5_readPerson_15 : decode cX5_readPerson 15 = .ok (.invokevirtual 201, 3) := dk_182 0 201 (dk_at dksX5_readPerson_0 15 rfl rfl)
theorem dX5_readPerson_18 : decode cX5_readPerson 18 = .ok (.ireturn, 1) := dk_172 (dk_at dksX5_readPerson_0 18 rfl rfl)
theorem dX5_readPerson_19 : decode cX5_readPerson 19 = .ok (.aload_n 0, 1) := dk_42 (dk_at dksX5_readPerson_0 19 rfl rfl)
theorem dX5_readPerson_20 : decode cX5_readPerson 20 = .ok (.invokevirtual 204, 3) := dk_182 0 204 (dk_at dksX5_readPerson_0 20 rfl rfl)
theorem dX5_readPerson_23 : decode cX5_readPerson 23 = .ok (.aload_n 0, 1) := dk_42 (dk_at dksX5_readPerson_0 23 rfl rfl)
theorem dX5_readPerson_24 : decode cX5_readPerson 24 = .ok (.bipush 20, 2) := dk_16 20 (dk_at dksX5_readPerson_1 0 rfl rfl)
theorem dX5_readPerson_26 : decode cX5_readPerson 26 = .ok (.iload_n 1, 1) := dk_27 (dk_at dksX5_readPerson_1 2 rfl rfl)
theorem dX5_readPerson_27 : decode cX5_readPerson 27 = .ok (.iadd, 1) := dk_96 (dk_at dksX5_readPerson_1 3 rfl rfl)
theorem dX5_readPerson_28 : decode cX5_readPerson 28 = .ok (.invokevirtual 248, 3) := dk_182 0 248 (dk_at dksX5_readPerson_1 4 rfl rfl)
theorem dX5_readPerson_31 : decode cX5_readPerson 31 = .ok (.ifCond .eq 18, 3) := dk_153 0 18 (dk_at dksX5_readPerson_1 7 rfl rfl)
theorem dX5_readPerson_34 : decode cX5_readPerson 34 = .ok (.aload_n 0, 1) := dk_42 (dk_at dksX5_readPerson_1 10 rfl rfl)
theorem dX5_readPerson_35 : decode cX5_readPerson 35 = .ok (.bipush 13, 2) := dk_16 13 (dk_at dksX5_readPerson_1 11 rfl rfl)
theorem dX5_readPerson_37 : decode cX5_readPerson 37 = .ok (.aload_n 0, 1) := dk_42 (dk_at dksX5_readPerson_1 13 rfl rfl)
theorem dX5_readPerson_38 : decode cX5_readPerson 38 = .ok (.getfield 37, 3) := dk_180 0 37 (dk_at dksX5_readPerson_1 14 rfl rfl)
theorem dX5_readPerson_41 : decode cX5_readPerson 41 = .ok (.iconst 0, 1) := dk_3 (dk_at dksX5_readPerson_1 17 rfl rfl)
theorem dX5_readPerson_42 : decode cX5_readPerson 42 = .ok (.iaload, 1) := dk_46 (dk_at dksX5_readPerson_1 18 rfl rfl)
theorem dX5_readPerson_43 : decode cX5_readPerson 43 = .ok (.invokevirtual 260, 3) := dk_182 1 4 (dk_at dksX5_readPerson_1 19 rfl rfl)
theorem dX5_readPerson_46 : decode cX5_readPerson 46 = .ok (.ifCond .ne 5, 3) := dk_154 0 5 (dk_at dksX5_readPerson_2 0 rfl rfl)
theorem dX5_readPerson_49 : decode cX5_readPerson 49 = .ok (.iconst 0, 1) := dk_3 (dk_at dksX5_readPerson_2 3 rfl rfl)
theorem dX5_readPerson_50 : decode cX5_readPerson 50 = .ok (.ireturn, 1) := dk_172 (dk_at dksX5_readPerson_2 4 rfl rfl)
theorem dX5_readPerson_51 : decode cX5_readPerson 51 = .ok (.aload_n 0, 1) := dk_42 (dk_at dksX5_readPerson_2 5 rfl rfl)
theorem dX5_readPerson_52 : decode cX5_readPerson 52 = .ok (.getfield 37, 3) := dk_180 0 37 (dk_at dksX5_readPerson_2 6 rfl rfl)
theorem dX5_readPerson_55 : decode cX5_readPerson 55 = .ok (.bipush 79, 2) := dk_16 79 (dk_at dksX5_readPerson_2 9 rfl rfl)
theorem dX5_readPerson_57 : decode cX5_readPerson 57 = .ok (.iload_n 1, 1) := dk_27 (dk_at dksX5_readPerson_2 11 rfl rfl)
theorem dX5_readPerson_58 : decode cX5_readPerson 58 = .ok (.iadd, 1) := dk_96 (dk_at dksX5_readPerson_2 12 rfl rfl)
theorem dX5_readPerson_59 : decode cX5_readPerson 59 = .ok (.aload_n 0, 1) := dk_42 (dk_at dksX5_readPerson_2 13 rfl rfl)
theorem dX5_readPerson_60 : decode cX5_readPerson 60 = .ok (.getfield 211, 3) := dk_180 0 211 (dk_at dksX5_readPerson_2 14 rfl rfl)
theorem dX5_readPerson_63 : decode cX5_readPerson 63 = .ok (.iastore, 1) := dk_79 (dk_at dksX5_readPerson_2 17 rfl rfl)
theorem dX5_readPerson_64 : decode cX5_readPerson 64 = .ok (.aload_n 0, 1) := dk_42 (dk_at dksX5_readPerson_2 18 rfl rfl)
theorem dX5_readPerson_65 : decode cX5_readPerson 65 = .ok (.bipush 85, 2) := dk_16 85 (dk_at dksX5_readPerson_2 19 rfl rfl)
theorem dX5_readPerson_67 : decode cX5_readPerson 67 = .ok (.iload_n 1, 1) := dk_27 (dk_at dksX5_readPerson_2 21 rfl rfl)
theorem dX5_readPerson_68 : decode cX5_readPerson 68 = .ok (.iadd, 1) := dk_96 (dk_at dksX5_readPerson_2 22 rfl rfl)
theorem dX5_readPerson_69 : decode cX5_readPerson 69 = .ok (.iconst 1, 1) := dk_4 (dk_at dksX5_readPerson_2 23 rfl rfl)
theorem dX5_readPerson_70 : decode cX5_readPerson 70 = .ok (.sipush 240, 3) := dk_17 0 240 (dk_at dksX5_readPerson_3 0 rfl rfl)
theorem dX5_readPerson_73 : decode cX5_readPerson 73 = .ok (.invokevirtual 251, 3) := dk_182 0 251 (dk_at dksX5_readPerson_3 3 rfl rfl)
theorem dX5_readPerson_76 : decode cX5_readPerson 76 = .ok (.ifCond .ne 5, 3) := dk_154 0 5 (dk_at dksX5_readPerson_3 6 rfl rfl)
theorem dX5_readPerson_79 : decode cX5_readPerson 79 = .ok (.iconst 0, 1) := dk_3 (dk_at dksX5_readPerson_3 9 rfl rfl)
theorem dX5_readPerson_80 : decode cX5_readPerson 80 = .ok (.ireturn, 1) := dk_172 (dk_at dksX5_readPerson_3 10 rfl rfl)
theorem dX5_readPerson_81 : decode cX5_readPerson 81 = .ok (.aload_n 0, 1) := dk_42 (dk_at dksX5_readPerson_3 11 rfl rfl)
theorem dX5_readPerson_82 : decode cX5_readPerson 82 = .ok (.getfield 37, 3) := dk_180 0 37 (dk_at dksX5_readPerson_3 12 rfl rfl)
theorem dX5_readPerson_85 : decode cX5_readPerson 85 = .ok (.iconst 2, 1) := dk_5 (dk_at dksX5_readPerson_3 15 rfl rfl)
theorem dX5_readPerson_86 : decode cX5_readPerson 86 = .ok (.dup2, 1) := dk_92 (dk_at dksX5_readPerson_3 16 rfl rfl)
theorem dX5_readPerson_87 : decode cX5_readPerson 87 = .ok (.iaload, 1) := dk_46 (dk_at dksX5_readPerson_3 17 rfl rfl)
theorem dX5_readPerson_88 : decode cX5_readPerson 88 = .ok (.iconst 1, 1) := dk_4 (dk_at dksX5_readPerson_3 18 rfl rfl)
theorem dX5_readPerson_89 : decode cX5_readPerson 89 = .ok (.iadd, 1) := dk_96 (dk_at dksX5_readPerson_3 19 rfl rfl)
theorem dX5_readPerson_90 : decode cX5_readPerson 90 = .ok (.iastore, 1) := dk_79 (dk_at dksX5_readPerson_3 20 rfl rfl)
theorem dX5_readPerson_91 : decode cX5_readPerson 91 = .ok (.iconst 1, 1) := dk_4 (dk_at dksX5_readPerson_3 21 rfl rfl)
theorem dX5_readPerson_92 : decode cX5_readPerson 92 = .ok (.ireturn, 1) := dk_172 (dk_at dksX5_readPerson_3 22 rfl rfl)
abbrev cX5_sign : ByteArray := prog_32_method_22_code
def yX5_sign : MethodName := ⟨RX5, "sign", "(I)Z"⟩
def dkwX5_sign_0 : List UInt8 := [42, 27, 182, 0, 198, 154, 0, 9, 42, 4, 182, 0, 201, 172, 42, 182, 0, 204, 4, 172]
abbrev dktX5_sign_0 : List UInt8 := dkwX5_sign_0 ++ []
theorem dksX5_sign_0 : cX5_sign.data.toList.drop 0 = dktX5_sign_0 := by decide +kernel
theorem dX5_sign_0 : decode cX5_sign 0 = .ok (.aload_n 0, 1) := dk_42 (dk_at dksX5_sign_0 0 rfl rfl)
theorem dX5_sign_1 : decode cX5_sign 1 = .ok (.iload_n 1, 1) := dk_27 (dk_at dksX5_sign_0 1 rfl rfl)
theorem dX5_sign_2 : decode cX5_sign 2 = .ok (.invokevirtual 198, 3) := dk_182 0 198 (dk_at dksX5_sign_0 2 rfl rfl)
theorem dX5_sign_5 : decode cX5_sign 5 = .ok (.ifCond .ne 9, 3) := dk_154 0 9 (dk_at dksX5_sign_0 5 rfl rfl)
theorem dX5_sign_8 : decode cX5_sign 8 = .ok (.aload_n 0, 1) := dk_42 (dk_at dksX5_sign_0 8 rfl rfl)
theorem dX5_sign_9 : decode cX5_sign 9 = .ok (.iconst 1, 1) := dk_4 (dk_at dksX5_sign_0 9 rfl rfl)
theorem dX5_sign_10 : decode cX5_sign 10 = .ok (.invokevirtual 201, 3) := dk_182 0 201 (dk_at dksX5_sign_0 10 rfl rfl)
theorem dX5_sign_13 : decode cX5_sign 13 = .ok (.ireturn, 1) := dk_172 (dk_at dksX5_sign_0 13 rfl rfl)
theorem dX5_sign_14 : decode cX5_sign 14 = .ok (.aload_n 0, 1) := dk_42 (dk_at dksX5_sign_0 14 rfl rfl)
theorem dX5_sign_15 : decode cX5_sign 15 = .ok (.invokevirtual 204, 3) := dk_182 0 204 (dk_at dksX5_sign_0 15 rfl rfl)
theorem dX5_sign_18 : decode cX5_sign 18 = .ok (.iconst 1, 1) := dk_4 (dk_at dksX5_sign_0 18 rfl rfl)
theorem dX5_sign_19 : decode cX5_sign 19 = .ok (.ireturn, 1) := dk_172 (dk_at dksX5_sign_0 19 rfl rfl)
abbrev cX5_isSign : ByteArray := prog_32_method_21_code
def yX5_isSign : MethodName := ⟨RX5, "isSign", "(I)Z"⟩
def dkwX5_isSign_0 : List UInt8 := [42, 180, 0, 175, 6, 160, 0, 15, 42, 180, 0, 185, 27, 160, 0, 7, 4, 167, 0, 4, 3, 172]
abbrev dktX5_isSign_0 : List UInt8 := dkwX5_isSign_0 ++ []
theorem dksX5_isSign_0 : cX5_isSign.data.toList.drop 0 = dktX5_isSign_0 := by decide +kernel
theorem dX5_isSign_0 : decode cX5_isSign 0 = .ok (.aload_n 0, 1) := dk_42 (dk_at dksX5_isSign_0 0 rfl rfl)
theorem dX5_isSign_1 : decode cX5_isSign 1 = .ok (.getfield 175, 3) := dk_180 0 175 (dk_at dksX5_isSign_0 1 rfl rfl)
theorem dX5_isSign_4 : decode cX5_isSign 4 = .ok (.iconst 3, 1) := dk_6 (dk_at dksX5_isSign_0 4 rfl rfl)
theorem dX5_isSign_5 : decode cX5_isSign 5 = .ok (.if_icmp .ne 15, 3) := dk_160 0 15 (dk_at dksX5_isSign_0 5 rfl rfl)
theorem dX5_isSign_8 : decode cX5_isSign 8 = .ok (.aload_n 0, 1) := dk_42 (dk_at dksX5_isSign_0 8 rfl rfl)
theorem dX5_isSign_9 : decode cX5_isSign 9 = .ok (.getfield 185, 3) := dk_180 0 185 (dk_at dksX5_isSign_0 9 rfl rfl)
theorem dX5_isSign_12 : decode cX5_isSign 12 = .ok (.iload_n 1, 1) := dk_27 (dk_at dksX5_isSign_0 12 rfl rfl)
theorem dX5_isSign_13 : decode cX5_isSign 13 = .ok (.if_icmp .ne 7, 3) := dk_160 0 7 (dk_at dksX5_isSign_0 13 rfl rfl)
theorem dX5_isSign_16 : decode cX5_isSign 16 = .ok (.iconst 1, 1) := dk_4 (dk_at dksX5_isSign_0 16 rfl rfl)
theorem dX5_isSign_17 : decode cX5_isSign 17 = .ok (.goto 4, 3) := dk_167 0 4 (dk_at dksX5_isSign_0 17 rfl rfl)
theorem dX5_isSign_20 : decode cX5_isSign 20 = .ok (.iconst 0, 1) := dk_3 (dk_at dksX5_isSign_0 20 rfl rfl)
theorem dX5_isSign_21 : decode cX5_isSign 21 = .ok (.ireturn, 1) := dk_172 (dk_at dksX5_isSign_0 21 rfl rfl)
abbrev cX5_fault : ByteArray := prog_32_method_37_code
def yX5_fault : MethodName := ⟨RX5, "fault", "()I"⟩
def dkwX5_fault_0 : List UInt8 := [42, 3, 181, 0, 1, 42, 180, 0, 192, 172]
abbrev dktX5_fault_0 : List UInt8 := dkwX5_fault_0 ++ []
theorem dksX5_fault_0 : cX5_fault.data.toList.drop 0 = dktX5_fault_0 := by decide +kernel
theorem dX5_fault_0 : decode cX5_fault 0 = .ok (.aload_n 0, 1) := dk_42 (dk_at dksX5_fault_0 0 rfl rfl)
theorem dX5_fault_1 : decode cX5_fault 1 = .ok (.iconst 0, 1) := dk_3 (dk_at dksX5_fault_0 1 rfl rfl)
theorem dX5_fault_2 : decode cX5_fault 2 = .ok (.putfield 1, 3) := dk_181 0 1 (dk_at dksX5_fault_0 2 rfl rfl)
theorem dX5_fault_5 : decode cX5_fault 5 = .ok (.aload_n 0, 1) := dk_42 (dk_at dksX5_fault_0 5 rfl rfl)
theorem dX5_fault_6 : decode cX5_fault 6 = .ok (.getfield 192, 3) := dk_180 0 192 (dk_at dksX5_fault_0 6 rfl rfl)
theorem dX5_fault_9 : decode cX5_fault 9 = .ok (.ireturn, 1) := dk_172 (dk_at dksX5_fault_0 9 rfl rfl)
abbrev cX5_person : ByteArray := prog_32_method_49_code
def yX5_person : MethodName := ⟨RX5, "person", "(II)I"⟩
def dkwX5_person_5 : List UInt8 := [46, 172, 42, 180, 0, 33, 17, 0, 132, 27, 96, 46, 172, 42, 27, 182, 1, 53, 172]
abbrev dktX5_person_5 : List UInt8 := dkwX5_person_5 ++ []
def dkwX5_person_4 : List UInt8 := [16, 114, 27, 96, 46, 172, 42, 180, 0, 33, 16, 120, 27, 96, 46, 172, 42, 180, 0, 33, 16, 126, 27, 96]
abbrev dktX5_person_4 : List UInt8 := dkwX5_person_4 ++ dktX5_person_5
def dkwX5_person_3 : List UInt8 := [42, 180, 0, 33, 16, 79, 27, 96, 46, 172, 42, 180, 0, 33, 16, 108, 27, 96, 46, 172, 42, 180, 0, 33]
abbrev dktX5_person_3 : List UInt8 := dkwX5_person_3 ++ dktX5_person_4
def dkwX5_person_2 : List UInt8 := [170, 0, 0, 0, 0, 0, 100, 0, 0, 0, 0, 0, 0, 0, 5, 0, 0, 0, 39, 0, 0, 0, 49, 0, 0, 0, 59, 0, 0, 0, 69, 0, 0, 0, 79, 0, 0, 0, 89]
abbrev dktX5_person_2 : List UInt8 := dkwX5_person_2 ++ dktX5_person_3
def dkwX5_person_1 : List UInt8 := [182, 1, 49, 153, 0, 5, 3, 172, 28]
abbrev dktX5_person_1 : List UInt8 := dkwX5_person_1 ++ dktX5_person_2
def dkwX5_person_0 : List UInt8 := [42, 42, 27, 182, 1, 46, 153, 0, 13, 28, 3, 16, 6, 184, 0, 207, 154, 0, 7, 4, 167, 0, 4, 3]
abbrev dktX5_person_0 : List UInt8 := dkwX5_person_0 ++ dktX5_person_1
theorem dksX5_person_0 : cX5_person.data.toList.drop 0 = dktX5_person_0 := by decide +kernel
theorem dksX5_person_1 : cX5_person.data.toList.drop 24 = dktX5_person_1 := dk_seg dksX5_person_0 24 rfl rfl
theorem dksX5_person_2 : cX5_person.data.toList.drop 33 = dktX5_person_2 := dk_seg dksX5_person_1 9 rfl rfl
theorem dksX5_person_3 : cX5_person.data.toList.drop 72 = dktX5_person_3 := dk_seg dksX5_person_2 39 rfl rfl
theorem dksX5_person_4 : cX5_person.data.toList.drop 96 = dktX5_person_4 := dk_seg dksX5_person_3 24 rfl rfl
theorem dksX5_person_5 : cX5_person.data.toList.drop 120 = dktX5_person_5 := dk_seg dksX5_person_4 24 rfl rfl
theorem dX5_person_0 : decode cX5_person 0 = .ok (.aload_n 0, 1) := dk_42 (dk_at dksX5_person_0 0 rfl rfl)
theorem dX5_person_1 : decode cX5_person 1 = .ok (.aload_n 0, 1) := dk_42 (dk_at dksX5_person_0 1 rfl rfl)
theorem dX5_person_2 : decode cX5_person 2 = .ok (.iload_n 1, 1) := dk_27 (dk_at dksX5_person_0 2 rfl rfl)
theorem dX5_person_3 : decode cX5_person 3 = .ok (.invokevirtual 302, 3) := dk_182 1 46 (dk_at dksX5_person_0 3 rfl rfl)
theorem dX5_person_6 : decode cX5_person 6 = .ok (.ifCond .eq 13, 3) := dk_153 0 13 (dk_at dksX5_person_0 6 rfl rfl)
theorem dX5_person_9 : decode cX5_person 9 = .ok (.iload_n 2, 1) := dk_28 (dk_at dksX5_person_0 9 rfl rfl)
theorem dX5_person_10 : decode cX5_person 10 = .ok (.iconst 0, 1) := dk_3 (dk_at dksX5_person_0 10 rfl rfl)
theorem dX5_person_11 : decode cX5_person 11 = .ok (.bipush 6, 2) := dk_16 6 (dk_at dksX5_person_0 11 rfl rfl)
theorem dX5_person_13 : decode cX5_person 13 = .ok (.invokestatic 207, 3) := dk_184 0 207 (dk_at dksX5_person_0 13 rfl rfl)
theorem dX5_person_16 : decode cX5_person 16 = .ok (.ifCond .ne 7, 3) := dk_154 0 7 (dk_at dksX5_person_0 16 rfl rfl)
theorem dX5_person_19 : decode cX5_person 19 = .ok (.iconst 1, 1) := dk_4 (dk_at dksX5_person_0 19 rfl rfl)
theorem dX5_person_20 : decode cX5_person 20 = .ok (.goto 4, 3) := dk_167 0 4 (dk_at dksX5_person_0 20 rfl rfl)
theorem dX5_person_23 : decode cX5_person 23 = .ok (.iconst 0, 1) := dk_3 (dk_at dksX5_person_0 23 rfl rfl)
theorem dX5_person_24 : decode cX5_person 24 = .ok (.invokevirtual 305, 3) := dk_182 1 49 (dk_at dksX5_person_1 0 rfl rfl)
theorem dX5_person_27 : decode cX5_person 27 = .ok (.ifCond .eq 5, 3) := dk_153 0 5 (dk_at dksX5_person_1 3 rfl rfl)
theorem dX5_person_30 : decode cX5_person 30 = .ok (.iconst 0, 1) := dk_3 (dk_at dksX5_person_1 6 rfl rfl)
theorem dX5_person_31 : decode cX5_person 31 = .ok (.ireturn, 1) := dk_172 (dk_at dksX5_person_1 7 rfl rfl)
theorem dX5_person_32 : decode cX5_person 32 = .ok (.iload_n 2, 1) := dk_28 (dk_at dksX5_person_1 8 rfl rfl)
theorem dX5_person_33 : decode cX5_person 33 = .ok (.tableswitch 100 0 5 #[39, 49, 59, 69, 79, 89], 39) := by decide +kernel
theorem dX5_person_72 : decode cX5_person 72 = .ok (.aload_n 0, 1) := dk_42 (dk_at dksX5_person_3 0 rfl rfl)
theorem dX5_person_73 : decode cX5_person 73 = .ok (.getfield 33, 3) := dk_180 0 33 (dk_at dksX5_person_3 1 rfl rfl)
theorem dX5_person_76 : decode cX5_person 76 = .ok (.bipush 79, 2) := dk_16 79 (dk_at dksX5_person_3 4 rfl rfl)
theorem dX5_person_78 : decode cX5_person 78 = .ok (.iload_n 1, 1) := dk_27 (dk_at dksX5_person_3 6 rfl rfl)
theorem dX5_person_79 : decode cX5_person 79 = .ok (.iadd, 1) := dk_96 (dk_at dksX5_person_3 7 rfl rfl)
theorem dX5_person_80 : decode cX5_person 80 = .ok (.iaload, 1) := dk_46 (dk_at dksX5_person_3 8 rfl rfl)
theorem dX5_person_81 : decode cX5_person 81 = .ok (.ireturn, 1) := dk_172 (dk_at dksX5_person_3 9 rfl rfl)
theorem dX5_person_82 : decode cX5_person 82 = .ok (.aload_n 0, 1) := dk_42 (dk_at dksX5_person_3 10 rfl rfl)
theorem dX5_person_83 : decode cX5_person 83 = .ok (.getfield 33, 3) := dk_180 0 33 (dk_at dksX5_person_3 11 rfl rfl)
theorem dX5_person_86 : decode cX5_person 86 = .ok (.bipush 108, 2) := dk_16 108 (dk_at dksX5_person_3 14 rfl rfl)
theorem dX5_person_88 : decode cX5_person 88 = .ok (.iload_n 1, 1) := dk_27 (dk_at dksX5_person_3 16 rfl rfl)
theorem dX5_person_89 : decode cX5_person 89 = .ok (.iadd, 1) := dk_96 (dk_at dksX5_person_3 17 rfl rfl)
theorem dX5_person_90 : decode cX5_person 90 = .ok (.iaload, 1) := dk_46 (dk_at dksX5_person_3 18 rfl rfl)
theorem dX5_person_91 : decode cX5_person 91 = .ok (.ireturn, 1) := dk_172 (dk_at dksX5_person_3 19 rfl rfl)
theorem dX5_person_92 : decode cX5_person 92 = .ok (.aload_n 0, 1) := dk_42 (dk_at dksX5_person_3 20 rfl rfl)
theorem dX5_person_93 : decode cX5_person 93 = .ok (.getfield 33, 3) := dk_180 0 33 (dk_at dksX5_person_3 21 rfl rfl)
theorem dX5_person_96 : decode cX5_person 96 = .ok (.bipush 114, 2) := dk_16 114 (dk_at dksX5_person_4 0 rfl rfl)
theorem dX5_person_98 : decode cX5_person 98 = .ok (.iload_n 1, 1) := dk_27 (dk_at dksX5_person_4 2 rfl rfl)
theorem dX5_person_99 : decode cX5_person 99 = .ok (.iadd, 1) := dk_96 (dk_at dksX5_person_4 3 rfl rfl)
theorem dX5_person_100 : decode cX5_person 100 = .ok (.iaload, 1) := dk_46 (dk_at dksX5_person_4 4 rfl rfl)
theorem dX5_person_101 : decode cX5_person 101 = .ok (.ireturn, 1) := dk_172 (dk_at dksX5_person_4 5 rfl rfl)
theorem dX5_person_102 : decode cX5_person 102 = .ok (.aload_n 0, 1) := dk_42 (dk_at dksX5_person_4 6 rfl rfl)
theorem dX5_person_103 : decode cX5_person 103 = .ok (.getfield 33, 3) := dk_180 0 33 (dk_at dksX5_person_4 7 rfl rfl)
theorem dX5_person_106 : decode cX5_person 106 = .ok (.bipush 120, 2) := dk_16 120 (dk_at dksX5_person_4 10 rfl rfl)
theorem dX5_person_108 : decode cX5_person 108 = .ok (.iload_n 1, 1) := dk_27 (dk_at dksX5_person_4 12 rfl rfl)
theorem dX5_person_109 : decode cX5_person 109 = .ok (.iadd, 1) := dk_96 (dk_at dksX5_person_4 13 rfl rfl)
theorem dX5_person_110 : decode cX5_person 110 = .ok (.iaload, 1) := dk_46 (dk_at dksX5_person_4 14 rfl rfl)
theorem dX5_person_111 : decode cX5_person 111 = .ok (.ireturn, 1) := dk_172 (dk_at dksX5_person_4 15 rfl rfl)
theorem dX5_person_112 : decode cX5_person 112 = .ok (.aload_n 0, 1) := dk_42 (dk_at dksX5_person_4 16 rfl rfl)
theorem dX5_person_113 : decode cX5_person 113 = .ok (.getfield 33, 3) := dk_180 0 33 (dk_at dksX5_person_4 17 rfl rfl)
theorem dX5_person_116 : decode cX5_person 116 = .ok (.bipush 126, 2) := dk_16 126 (dk_at dksX5_person_4 20 rfl rfl)
theorem dX5_person_118 : decode cX5_person 118 = .ok (.iload_n 1, 1) := dk_27 (dk_at dksX5_person_4 22 rfl rfl)
theorem dX5_person_119 : decode cX5_person 119 = .ok (.iadd, 1) := dk_96 (dk_at dksX5_person_4 23 rfl rfl)
theorem dX5_person_120 : decode cX5_person 120 = .ok (.iaload, 1) := dk_46 (dk_at dksX5_person_5 0 rfl rfl)
theorem dX5_person_121 : decode cX5_person 121 = .ok (.ireturn, 1) := dk_172 (dk_at dksX5_person_5 1 rfl rfl)
theorem dX5_person_122 : decode cX5_person 122 = .ok (.aload_n 0, 1) := dk_42 (dk_at dksX5_person_5 2 rfl rfl)
theorem dX5_person_123 : decode cX5_person 123 = .ok (.getfield 33, 3) := dk_180 0 33 (dk_at dksX5_person_5 3 rfl rfl)
theorem dX5_person_126 : decode cX5_person 126 = .ok (.sipush 132, 3) := dk_17 0 132 (dk_at dksX5_person_5 6 rfl rfl)
theorem dX5_person_129 : decode cX5_person 129 = .ok (.iload_n 1, 1) := dk_27 (dk_at dksX5_person_5 9 rfl rfl)
theorem dX5_person_130 : decode cX5_person 130 = .ok (.iadd, 1) := dk_96 (dk_at dksX5_person_5 10 rfl rfl)
theorem dX5_person_131 : decode cX5_person 131 = .ok (.iaload, 1) := dk_46 (dk_at dksX5_person_5 11 rfl rfl)
theorem dX5_person_132 : decode cX5_person 132 = .ok (.ireturn, 1) := dk_172 (dk_at dksX5_person_5 12 rfl rfl)
theorem dX5_person_133 : decode cX5_person 133 = .ok (.aload_n 0, 1) := dk_42 (dk_at dksX5_person_5 13 rfl rfl)
theorem dX5_person_134 : decode cX5_person 134 = .ok (.iload_n 1, 1) := dk_27 (dk_at dksX5_person_5 14 rfl rfl)
theorem dX5_person_135 : decode cX5_person 135 = .ok (.invokevirtual 309, 3) := dk_182 1 53 (dk_at dksX5_person_5 15 rfl rfl)
theorem dX5_person_138 : decode cX5_person 138 = .ok (.ireturn, 1) := dk_172 (dk_at dksX5_person_5 18 rfl rfl)
abbrev cX5_isPerson : ByteArray := prog_32_method_39_code
def yX5_isPerson : MethodName := ⟨RX5, "isPerson", "(I)Z"⟩
def dkwX5_isPerson_0 : List UInt8 := [27, 3, 42, 180, 0, 33, 5, 46, 4, 100, 184, 0, 207, 172]
abbrev dktX5_isPerson_0 : List UInt8 := dkwX5_isPerson_0 ++ []
theorem dksX5_isPerson_0 : cX5_isPerson.data.toList.drop 0 = dktX5_isPerson_0 := by decide +kernel
theorem dX5_isPerson_0 : decode cX5_isPerson 0 = .ok (.iload_n 1, 1) := dk_27 (dk_at dksX5_isPerson_0 0 rfl rfl)
theorem dX5_isPerson_1 : decode cX5_isPerson 1 = .ok (.iconst 0, 1) := dk_3 (dk_at dksX5_isPerson_0 1 rfl rfl)
theorem dX5_isPerson_2 : decode cX5_isPerson 2 = .ok (.aload_n 0, 1) := dk_42 (dk_at dksX5_isPerson_0 2 rfl rfl)
theorem dX5_isPerson_3 : decode cX5_isPerson 3 = .ok (.getfield 33, 3) := dk_180 0 33 (dk_at dksX5_isPerson_0 3 rfl rfl)
theorem dX5_isPerson_6 : decode cX5_isPerson 6 = .ok (.iconst 2, 1) := dk_5 (dk_at dksX5_isPerson_0 6 rfl rfl)
theorem dX5_isPerson_7 : decode cX5_isPerson 7 = .ok (.iaload, 1) := dk_46 (dk_at dksX5_isPerson_0 7 rfl rfl)
theorem dX5_isPerson_8 : decode cX5_isPerson 8 = .ok (.iconst 1, 1) := dk_4 (dk_at dksX5_isPerson_0 8 rfl rfl)
theorem dX5_isPerson_9 : decode cX5_isPerson 9 = .ok (.isub, 1) := dk_100 (dk_at dksX5_isPerson_0 9 rfl rfl)
theorem dX5_isPerson_10 : decode cX5_isPerson 10 = .ok (.invokestatic 207, 3) := dk_184 0 207 (dk_at dksX5_isPerson_0 10 rfl rfl)
theorem dX5_isPerson_13 : decode cX5_isPerson 13 = .ok (.ireturn, 1) := dk_172 (dk_at dksX5_isPerson_0 13 rfl rfl)
abbrev cX5_throwsIf : ByteArray := prog_32_method_2_code
def yX5_throwsIf : MethodName := ⟨RX5, "throwsIf", "(Z)Z"⟩
def dkwX5_throwsIf_0 : List UInt8 := [42, 27, 153, 0, 7, 4, 167, 0, 4, 3, 181, 0, 1, 27, 172]
abbrev dktX5_throwsIf_0 : List UInt8 := dkwX5_throwsIf_0 ++ []
theorem dksX5_throwsIf_0 : cX5_throwsIf.data.toList.drop 0 = dktX5_throwsIf_0 := by decide +kernel
theorem dX5_throwsIf_0 : decode cX5_throwsIf 0 = .ok (.aload_n 0, 1) := dk_42 (dk_at dksX5_throwsIf_0 0 rfl rfl)
theorem dX5_throwsIf_1 : decode cX5_throwsIf 1 = .ok (.iload_n 1, 1) := dk_27 (dk_at dksX5_throwsIf_0 1 rfl rfl)
theorem dX5_throwsIf_2 : decode cX5_throwsIf 2 = .ok (.ifCond .eq 7, 3) := dk_153 0 7 (dk_at dksX5_throwsIf_0 2 rfl rfl)
theorem dX5_throwsIf_5 : decode cX5_throwsIf 5 = .ok (.iconst 1, 1) := dk_4 (dk_at dksX5_throwsIf_0 5 rfl rfl)
theorem dX5_throwsIf_6 : decode cX5_throwsIf 6 = .ok (.goto 4, 3) := dk_167 0 4 (dk_at dksX5_throwsIf_0 6 rfl rfl)
theorem dX5_throwsIf_9 : decode cX5_throwsIf 9 = .ok (.iconst 0, 1) := dk_3 (dk_at dksX5_throwsIf_0 9 rfl rfl)
theorem dX5_throwsIf_10 : decode cX5_throwsIf 10 = .ok (.putfield 1, 3) := dk_181 0 1 (dk_at dksX5_throwsIf_0 10 rfl rfl)
theorem dX5_throwsIf_13 : decode cX5_throwsIf 13 = .ok (.iload_n 1, 1) := dk_27 (dk_at dksX5_throwsIf_0 13 rfl rfl)
theorem dX5_throwsIf_14 : decode cX5_throwsIf 14 = .ok (.ireturn, 1) := dk_172 (dk_at dksX5_throwsIf_0 14 rfl rfl)
abbrev cX5_couldOf : ByteArray := prog_32_method_45_code
def yX5_couldOf : MethodName := ⟨RX5, "couldOf", "(I)I"⟩
def dkwX5_couldOf_1 : List UInt8 := [4, 29, 120, 167, 0, 4, 3, 128, 61, 132, 3, 1, 167, 255, 224, 28, 172]
abbrev dktX5_couldOf_1 : List UInt8 := dkwX5_couldOf_1 ++ []
def dkwX5_couldOf_0 : List UInt8 := [3, 61, 3, 62, 29, 42, 180, 0, 33, 3, 46, 162, 0, 28, 28, 42, 27, 29, 182, 1, 36, 154, 0, 9]
abbrev dktX5_couldOf_0 : List UInt8 := dkwX5_couldOf_0 ++ dktX5_couldOf_1
theorem dksX5_couldOf_0 : cX5_couldOf.data.toList.drop 0 = dktX5_couldOf_0 := by decide +kernel
theorem dksX5_couldOf_1 : cX5_couldOf.data.toList.drop 24 = dktX5_couldOf_1 := dk_seg dksX5_couldOf_0 24 rfl rfl
theorem dX5_couldOf_0 : decode cX5_couldOf 0 = .ok (.iconst 0, 1) := dk_3 (dk_at dksX5_couldOf_0 0 rfl rfl)
theorem dX5_couldOf_1 : decode cX5_couldOf 1 = .ok (.istore_n 2, 1) := dk_61 (dk_at dksX5_couldOf_0 1 rfl rfl)
theorem dX5_couldOf_2 : decode cX5_couldOf 2 = .ok (.iconst 0, 1) := dk_3 (dk_at dksX5_couldOf_0 2 rfl rfl)
theorem dX5_couldOf_3 : decode cX5_couldOf 3 = .ok (.istore_n 3, 1) := dk_62 (dk_at dksX5_couldOf_0 3 rfl rfl)
theorem dX5_couldOf_4 : decode cX5_couldOf 4 = .ok (.iload_n 3, 1) := dk_29 (dk_at dksX5_couldOf_0 4 rfl rfl)
theorem dX5_couldOf_5 : decode cX5_couldOf 5 = .ok (.aload_n 0, 1) := dk_42 (dk_at dksX5_couldOf_0 5 rfl rfl)
theorem dX5_couldOf_6 : decode cX5_couldOf 6 = .ok (.getfield 33, 3) := dk_180 0 33 (dk_at dksX5_couldOf_0 6 rfl rfl)
theorem dX5_couldOf_9 : decode cX5_couldOf 9 = .ok (.iconst 0, 1) := dk_3 (dk_at dksX5_couldOf_0 9 rfl rfl)
theorem dX5_couldOf_10 : decode cX5_couldOf 10 = .ok (.iaload, 1) := dk_46 (dk_at dksX5_couldOf_0 10 rfl rfl)
theorem dX5_couldOf_11 : decode cX5_couldOf 11 = .ok (.if_icmp .ge 28, 3) := dk_162 0 28 (dk_at dksX5_couldOf_0 11 rfl rfl)
theorem dX5_couldOf_14 : decode cX5_couldOf 14 = .ok (.iload_n 2, 1) := dk_28 (dk_at dksX5_couldOf_0 14 rfl rfl)
theorem dX5_couldOf_15 : decode cX5_couldOf 15 = .ok (.aload_n 0, 1) := dk_42 (dk_at dksX5_couldOf_0 15 rfl rfl)
theorem dX5_couldOf_16 : decode cX5_couldOf 16 = .ok (.iload_n 1, 1) := dk_27 (dk_at dksX5_couldOf_0 16 rfl rfl)
theorem dX5_couldOf_17 : decode cX5_couldOf 17 = .ok (.iload_n 3, 1) := dk_29 (dk_at dksX5_couldOf_0 17 rfl rfl)
theorem dX5_couldOf_18 : decode cX5_couldOf 18 = .ok (.invokevirtual 292, 3) := dk_182 1 36 (dk_at dksX5_couldOf_0 18 rfl rfl)
theorem dX5_couldOf_21 : decode cX5_couldOf 21 = .ok (.ifCond .ne 9, 3) := dk_154 0 9 (dk_at dksX5_couldOf_0 21 rfl rfl)
theorem dX5_couldOf_24 : decode cX5_couldOf 24 = .ok (.iconst 1, 1) := dk_4 (dk_at dksX5_couldOf_1 0 rfl rfl)
theorem dX5_couldOf_25 : decode cX5_couldOf 25 = .ok (.iload_n 3, 1) := dk_29 (dk_at dksX5_couldOf_1 1 rfl rfl)
theorem dX5_couldOf_26 : decode cX5_couldOf 26 = .ok (.ishl, 1) := dk_120 (dk_at dksX5_couldOf_1 2 rfl rfl)
theorem dX5_couldOf_27 : decode cX5_couldOf 27 = .ok (.goto 4, 3) := dk_167 0 4 (dk_at dksX5_couldOf_1 3 rfl rfl)
theorem dX5_couldOf_30 : decode cX5_couldOf 30 = .ok (.iconst 0, 1) := dk_3 (dk_at dksX5_couldOf_1 6 rfl rfl)
theorem dX5_couldOf_31 : decode cX5_couldOf 31 = .ok (.ior, 1) := dk_128 (dk_at dksX5_couldOf_1 7 rfl rfl)
theorem dX5_couldOf_32 : decode cX5_couldOf 32 = .ok (.istore_n 2, 1) := dk_61 (dk_at dksX5_couldOf_1 8 rfl rfl)
theorem dX5_couldOf_33 : decode cX5_couldOf 33 = .ok (.iinc 3 1, 3) := dk_132 3 1 (dk_at dksX5_couldOf_1 9 rfl rfl)
theorem dX5_couldOf_36 : decode cX5_couldOf 36 = .ok (.goto (-32), 3) := dk_167 255 224 (dk_at dksX5_couldOf_1 12 rfl rfl)
theorem dX5_couldOf_39 : decode cX5_couldOf 39 = .ok (.iload_n 2, 1) := dk_28 (dk_at dksX5_couldOf_1 15 rfl rfl)
theorem dX5_couldOf_40 : decode cX5_couldOf 40 = .ok (.ireturn, 1) := dk_172 (dk_at dksX5_couldOf_1 16 rfl rfl)
abbrev cX5_whyCross : ByteArray := prog_32_method_44_code
def yX5_whyCross : MethodName := ⟨RX5, "whyCross", "(II)I"⟩
def dkwX5_whyCross_1 : List UInt8 := [182, 1, 28, 182, 1, 32, 172]
abbrev dktX5_whyCross_1 : List UInt8 := dkwX5_whyCross_1 ++ []
def dkwX5_whyCross_0 : List UInt8 := [42, 42, 180, 0, 33, 16, 108, 27, 96, 46, 28, 42, 180, 0, 33, 16, 114, 27, 96, 46, 42, 27]
abbrev dktX5_whyCross_0 : List UInt8 := dkwX5_whyCross_0 ++ dktX5_whyCross_1
theorem dksX5_whyCross_0 : cX5_whyCross.data.toList.drop 0 = dktX5_whyCross_0 := by decide +kernel
theorem dksX5_whyCross_1 : cX5_whyCross.data.toList.drop 22 = dktX5_whyCross_1 := dk_seg dksX5_whyCross_0 22 rfl rfl
theorem dX5_whyCross_0 : decode cX5_whyCross 0 = .ok (.aload_n 0, 1) := dk_42 (dk_at dksX5_whyCross_0 0 rfl rfl)
theorem dX5_whyCross_1 : decode cX5_whyCross 1 = .ok (.aload_n 0, 1) := dk_42 (dk_at dksX5_whyCross_0 1 rfl rfl)
theorem dX5_whyCross_2 : decode cX5_whyCross 2 = .ok (.getfield 33, 3) := dk_180 0 33 (dk_at dksX5_whyCross_0 2 rfl rfl)
theorem dX5_whyCross_5 : decode cX5_whyCross 5 = .ok (.bipush 108, 2) := dk_16 108 (dk_at dksX5_whyCross_0 5 rfl rfl)
theorem dX5_whyCross_7 : decode cX5_whyCross 7 = .ok (.iload_n 1, 1) := dk_27 (dk_at dksX5_whyCross_0 7 rfl rfl)
theorem dX5_whyCross_8 : decode cX5_whyCross 8 = .ok (.iadd, 1) := dk_96 (dk_at dksX5_whyCross_0 8 rfl rfl)
theorem dX5_whyCross_9 : decode cX5_whyCross 9 = .ok (.iaload, 1) := dk_46 (dk_at dksX5_whyCross_0 9 rfl rfl)
theorem dX5_whyCross_10 : decode cX5_whyCross 10 = .ok (.iload_n 2, 1) := dk_28 (dk_at dksX5_whyCross_0 10 rfl rfl)
theorem dX5_whyCross_11 : decode cX5_whyCross 11 = .ok (.aload_n 0, 1) := dk_42 (dk_at dksX5_whyCross_0 11 rfl rfl)
theorem dX5_whyCross_12 : decode cX5_whyCross 12 = .ok (.getfield 33, 3) := dk_180 0 33 (dk_at dksX5_whyCross_0 12 rfl rfl)
theorem dX5_whyCross_15 : decode cX5_whyCross 15 = .ok (.bipush 114, 2) := dk_16 114 (dk_at dksX5_whyCross_0 15 rfl rfl)
theorem dX5_whyCross_17 : decode cX5_whyCross 17 = .ok (.iload_n 1, 1) := dk_27 (dk_at dksX5_whyCross_0 17 rfl rfl)
theorem dX5_whyCross_18 : decode cX5_whyCross 18 = .ok (.iadd, 1) := dk_96 (dk_at dksX5_whyCross_0 18 rfl rfl)
theorem dX5_whyCross_19 : decode cX5_whyCross 19 = .ok (.iaload, 1) := dk_46 (dk_at dksX5_whyCross_0 19 rfl rfl)
theorem dX5_whyCross_20 : decode cX5_whyCross 20 = .ok (.aload_n 0, 1) := dk_42 (dk_at dksX5_whyCross_0 20 rfl rfl)
theorem dX5_whyCross_21 : decode cX5_whyCross 21 = .ok (.iload_n 1, 1) := dk_27 (dk_at dksX5_whyCross_0 21 rfl rfl)
theorem dX5_whyCross_22 : decode cX5_whyCross 22 = .ok (.invokevirtual 284, 3) := dk_182 1 28 (dk_at dksX5_whyCross_1 0 rfl rfl)
theorem dX5_whyCross_25 : decode cX5_whyCross 25 = .ok (.invokevirtual 288, 3) := dk_182 1 32 (dk_at dksX5_whyCross_1 3 rfl rfl)
theorem dX5_whyCross_28 : decode cX5_whyCross 28 = .ok (.ireturn, 1) := dk_172 (dk_at dksX5_whyCross_1 6 rfl rfl)
abbrev cX5_sparedIn : ByteArray := prog_32_method_42_code
def yX5_sparedIn : MethodName := ⟨RX5, "sparedIn", "(I)I"⟩
def dkwX5_sparedIn_1 : List UInt8 := [27, 96, 46, 120, 128, 172]
abbrev dktX5_sparedIn_1 : List UInt8 := dkwX5_sparedIn_1 ++ []
def dkwX5_sparedIn_0 : List UInt8 := [42, 180, 0, 33, 16, 101, 42, 180, 0, 33, 16, 79, 27, 96, 46, 96, 46, 4, 42, 180, 0, 33, 16, 79]
abbrev dktX5_sparedIn_0 : List UInt8 := dkwX5_sparedIn_0 ++ dktX5_sparedIn_1
theorem dksX5_sparedIn_0 : cX5_sparedIn.data.toList.drop 0 = dktX5_sparedIn_0 := by decide +kernel
theorem dksX5_sparedIn_1 : cX5_sparedIn.data.toList.drop 24 = dktX5_sparedIn_1 := dk_seg dksX5_sparedIn_0 24 rfl rfl
theorem dX5_sparedIn_0 : decode cX5_sparedIn 0 = .ok (.aload_n 0, 1) := dk_42 (dk_at dksX5_sparedIn_0 0 rfl rfl)
theorem dX5_sparedIn_1 : decode cX5_sparedIn 1 = .ok (.getfield 33, 3) := dk_180 0 33 (dk_at dksX5_sparedIn_0 1 rfl rfl)
theorem dX5_sparedIn_4 : decode cX5_sparedIn 4 = .ok (.bipush 101, 2) := dk_16 101 (dk_at dksX5_sparedIn_0 4 rfl rfl)
theorem dX5_sparedIn_6 : decode cX5_sparedIn 6 = .ok (.aload_n 0, 1) := dk_42 (dk_at dksX5_sparedIn_0 6 rfl rfl)
theorem dX5_sparedIn_7 : decode cX5_sparedIn 7 = .ok (.getfield 33, 3) := dk_180 0 33 (dk_at dksX5_sparedIn_0 7 rfl rfl)
theorem dX5_sparedIn_10 : decode cX5_sparedIn 10 = .ok (.bipush 79, 2) := dk_16 79 (dk_at dksX5_sparedIn_0 10 rfl rfl)
theorem dX5_sparedIn_12 : decode cX5_sparedIn 12 = .ok (.iload_n 1, 1) := dk_27 (dk_at dksX5_sparedIn_0 12 rfl rfl)
theorem dX5_sparedIn_13 : decode cX5_sparedIn 13 = .ok (.iadd, 1) := dk_96 (dk_at dksX5_sparedIn_0 13 rfl rfl)
theorem dX5_sparedIn_14 : decode cX5_sparedIn 14 = .ok (.iaload, 1) := dk_46 (dk_at dksX5_sparedIn_0 14 rfl rfl)
theorem dX5_sparedIn_15 : decode cX5_sparedIn 15 = .ok (.iadd, 1) := dk_96 (dk_at dksX5_sparedIn_0 15 rfl rfl)
theorem dX5_sparedIn_16 : decode cX5_sparedIn 16 = .ok (.iaload, 1) := dk_46 (dk_at dksX5_sparedIn_0 16 rfl rfl)
theorem dX5_sparedIn_17 : decode cX5_sparedIn 17 = .ok (.iconst 1, 1) := dk_4 (dk_at dksX5_sparedIn_0 17 rfl rfl)
theorem dX5_sparedIn_18 : decode cX5_sparedIn 18 = .ok (.aload_n 0, 1) := dk_42 (dk_at dksX5_sparedIn_0 18 rfl rfl)
theorem dX5_sparedIn_19 : decode cX5_sparedIn 19 = .ok (.getfield 33, 3) := dk_180 0 33 (dk_at dksX5_sparedIn_0 19 rfl rfl)
theorem dX5_sparedIn_22 : decode cX5_sparedIn 22 = .ok (.bipush 79, 2) := dk_16 79 (dk_at dksX5_sparedIn_0 22 rfl rfl)
theorem dX5_sparedIn_24 : decode cX5_sparedIn 24 = .ok (.iload_n 1, 1) := dk_27 (dk_at dksX5_sparedIn_1 0 rfl rfl)
theorem dX5_sparedIn_25 : decode cX5_sparedIn 25 = .ok (.iadd, 1) := dk_96 (dk_at dksX5_sparedIn_1 1 rfl rfl)
theorem dX5_sparedIn_26 : decode cX5_sparedIn 26 = .ok (.iaload, 1) := dk_46 (dk_at dksX5_sparedIn_1 2 rfl rfl)
theorem dX5_sparedIn_27 : decode cX5_sparedIn 27 = .ok (.ishl, 1) := dk_120 (dk_at dksX5_sparedIn_1 3 rfl rfl)
theorem dX5_sparedIn_28 : decode cX5_sparedIn 28 = .ok (.ior, 1) := dk_128 (dk_at dksX5_sparedIn_1 4 rfl rfl)
theorem dX5_sparedIn_29 : decode cX5_sparedIn 29 = .ok (.ireturn, 1) := dk_172 (dk_at dksX5_sparedIn_1 5 rfl rfl)
abbrev cX5_whyBy : ByteArray := prog_32_method_43_code
def yX5_whyBy : MethodName := ⟨RX5, "whyBy", "(IIII)I"⟩
def dkwX5_whyBy_3 : List UInt8 := [6, 28, 96, 46, 29, 161, 0, 7, 8, 167, 0, 4, 3, 172]
abbrev dktX5_whyBy_3 : List UInt8 := dkwX5_whyBy_3 ++ []
def dkwX5_whyBy_2 : List UInt8 := [16, 60, 21, 5, 96, 46, 164, 0, 5, 7, 172, 21, 4, 28, 184, 1, 1, 154, 0, 19, 42, 180, 0, 33]
abbrev dktX5_whyBy_2 : List UInt8 := dkwX5_whyBy_2 ++ dktX5_whyBy_3
def dkwX5_whyBy_1 : List UInt8 := [5, 172, 29, 42, 180, 0, 33, 16, 48, 21, 5, 96, 46, 162, 0, 5, 6, 172, 29, 42, 180, 0, 33]
abbrev dktX5_whyBy_1 : List UInt8 := dkwX5_whyBy_1 ++ dktX5_whyBy_2
def dkwX5_whyBy_0 : List UInt8 := [42, 27, 28, 182, 1, 22, 54, 5, 21, 5, 156, 0, 5, 4, 172, 42, 21, 5, 182, 1, 25, 154, 0, 5]
abbrev dktX5_whyBy_0 : List UInt8 := dkwX5_whyBy_0 ++ dktX5_whyBy_1
theorem dksX5_whyBy_0 : cX5_whyBy.data.toList.drop 0 = dktX5_whyBy_0 := by decide +kernel
theorem dksX5_whyBy_1 : cX5_whyBy.data.toList.drop 24 = dktX5_whyBy_1 := dk_seg dksX5_whyBy_0 24 rfl rfl
theorem dksX5_whyBy_2 : cX5_whyBy.data.toList.drop 47 = dktX5_whyBy_2 := dk_seg dksX5_whyBy_1 23 rfl rfl
theorem dksX5_whyBy_3 : cX5_whyBy.data.toList.drop 71 = dktX5_whyBy_3 := dk_seg dksX5_whyBy_2 24 rfl rfl
theorem dX5_whyBy_0 : decode cX5_whyBy 0 = .ok (.aload_n 0, 1) := dk_42 (dk_at dksX5_whyBy_0 0 rfl rfl)
theorem dX5_whyBy_1 : decode cX5_whyBy 1 = .ok (.iload_n 1, 1) := dk_27 (dk_at dksX5_whyBy_0 1 rfl rfl)
theorem dX5_whyBy_2 : decode cX5_whyBy 2 = .ok (.iload_n 2, 1) := dk_28 (dk_at dksX5_whyBy_0 2 rfl rfl)
theorem dX5_whyBy_3 : decode cX5_whyBy 3 = .ok (.invokevirtual 278, 3) := dk_182 1 22 (dk_at dksX5_whyBy_0 3 rfl rfl)
theorem dX5_whyBy_6 : decode cX5_whyBy 6 = .ok (.istore 5, 2) := dk_54 5 (dk_at dksX5_whyBy_0 6 rfl rfl)
theorem dX5_whyBy_8 : decode cX5_whyBy 8 = .ok (.iload 5, 2) := dk_21 5 (dk_at dksX5_whyBy_0 8 rfl rfl)
theorem dX5_whyBy_10 : decode cX5_whyBy 10 = .ok (.ifCond .ge 5, 3) := dk_156 0 5 (dk_at dksX5_whyBy_0 10 rfl rfl)
theorem dX5_whyBy_13 : decode cX5_whyBy 13 = .ok (.iconst 1, 1) := dk_4 (dk_at dksX5_whyBy_0 13 rfl rfl)
theorem dX5_whyBy_14 : decode cX5_whyBy 14 = .ok (.ireturn, 1) := dk_172 (dk_at dksX5_whyBy_0 14 rfl rfl)
theorem dX5_whyBy_15 : decode cX5_whyBy 15 = .ok (.aload_n 0, 1) := dk_42 (dk_at dksX5_whyBy_0 15 rfl rfl)
theorem dX5_whyBy_16 : decode cX5_whyBy 16 = .ok (.iload 5, 2) := dk_21 5 (dk_at dksX5_whyBy_0 16 rfl rfl)
theorem dX5_whyBy_18 : decode cX5_whyBy 18 = .ok (.invokevirtual 281, 3) := dk_182 1 25 (dk_at dksX5_whyBy_0 18 rfl rfl)
theorem dX5_whyBy_21 : decode cX5_whyBy 21 = .ok (.ifCond .ne 5, 3) := dk_154 0 5 (dk_at dksX5_whyBy_0 21 rfl rfl)
theorem dX5_whyBy_24 : decode cX5_whyBy 24 = .ok (.iconst 2, 1) := dk_5 (dk_at dksX5_whyBy_1 0 rfl rfl)
theorem dX5_whyBy_25 : decode cX5_whyBy 25 = .ok (.ireturn, 1) := dk_172 (dk_at dksX5_whyBy_1 1 rfl rfl)
theorem dX5_whyBy_26 : decode cX5_whyBy 26 = .ok (.iload_n 3, 1) := dk_29 (dk_at dksX5_whyBy_1 2 rfl rfl)
theorem dX5_whyBy_27 : decode cX5_whyBy 27 = .ok (.aload_n 0, 1) := dk_42 (dk_at dksX5_whyBy_1 3 rfl rfl)
theorem dX5_whyBy_28 : decode cX5_whyBy 28 = .ok (.getfield 33, 3) := dk_180 0 33 (dk_at dksX5_whyBy_1 4 rfl rfl)
theorem dX5_whyBy_31 : decode cX5_whyBy 31 = .ok (.bipush 48, 2) := dk_16 48 (dk_at dksX5_whyBy_1 7 rfl rfl)
theorem dX5_whyBy_33 : decode cX5_whyBy 33 = .ok (.iload 5, 2) := dk_21 5 (dk_at dksX5_whyBy_1 9 rfl rfl)
theorem dX5_whyBy_35 : decode cX5_whyBy 35 = .ok (.iadd, 1) := dk_96 (dk_at dksX5_whyBy_1 11 rfl rfl)
theorem dX5_whyBy_36 : decode cX5_whyBy 36 = .ok (.iaload, 1) := dk_46 (dk_at dksX5_whyBy_1 12 rfl rfl)
theorem dX5_whyBy_37 : decode cX5_whyBy 37 = .ok (.if_icmp .ge 5, 3) := dk_162 0 5 (dk_at dksX5_whyBy_1 13 rfl rfl)
theorem dX5_whyBy_40 : decode cX5_whyBy 40 = .ok (.iconst 3, 1) := dk_6 (dk_at dksX5_whyBy_1 16 rfl rfl)
theorem dX5_whyBy_41 : decode cX5_whyBy 41 = .ok (.ireturn, 1) := dk_172 (dk_at dksX5_whyBy_1 17 rfl rfl)
theorem dX5_whyBy_42 : decode cX5_whyBy 42 = .ok (.iload_n 3, 1) := dk_29 (dk_at dksX5_whyBy_1 18 rfl rfl)
theorem dX5_whyBy_43 : decode cX5_whyBy 43 = .ok (.aload_n 0, 1) := dk_42 (dk_at dksX5_whyBy_1 19 rfl rfl)
theorem dX5_whyBy_44 : decode cX5_whyBy 44 = .ok (.getfield 33, 3) := dk_180 0 33 (dk_at dksX5_whyBy_1 20 rfl rfl)
theorem dX5_whyBy_47 : decode cX5_whyBy 47 = .ok (.bipush 60, 2) := dk_16 60 (dk_at dksX5_whyBy_2 0 rfl rfl)
theorem dX5_whyBy_49 : decode cX5_whyBy 49 = .ok (.iload 5, 2) := dk_21 5 (dk_at dksX5_whyBy_2 2 rfl rfl)
theorem dX5_whyBy_51 : decode cX5_whyBy 51 = .ok (.iadd, 1) := dk_96 (dk_at dksX5_whyBy_2 4 rfl rfl)
theorem dX5_whyBy_52 : decode cX5_whyBy 52 = .ok (.iaload, 1) := dk_46 (dk_at dksX5_whyBy_2 5 rfl rfl)
theorem dX5_whyBy_53 : decode cX5_whyBy 53 = .ok (.if_icmp .le 5, 3) := dk_164 0 5 (dk_at dksX5_whyBy_2 6 rfl rfl)
theorem dX5_whyBy_56 : decode cX5_whyBy 56 = .ok (.iconst 4, 1) := dk_7 (dk_at dksX5_whyBy_2 9 rfl rfl)
theorem dX5_whyBy_57 : decode cX5_whyBy 57 = .ok (.ireturn, 1) := dk_172 (dk_at dksX5_whyBy_2 10 rfl rfl)
theorem dX5_whyBy_58 : decode cX5_whyBy 58 = .ok (.iload 4, 2) := dk_21 4 (dk_at dksX5_whyBy_2 11 rfl rfl)
theorem dX5_whyBy_60 : decode cX5_whyBy 60 = .ok (.iload_n 2, 1) := dk_28 (dk_at dksX5_whyBy_2 13 rfl rfl)
theorem dX5_whyBy_61 : decode cX5_whyBy 61 = .ok (.invokestatic 257, 3) := dk_184 1 1 (dk_at dksX5_whyBy_2 14 rfl rfl)
theorem dX5_whyBy_64 : decode cX5_whyBy 64 = .ok (.ifCond .ne 19, 3) := dk_154 0 19 (dk_at dksX5_whyBy_2 17 rfl rfl)
theorem dX5_whyBy_67 : decode cX5_whyBy 67 = .ok (.aload_n 0, 1) := dk_42 (dk_at dksX5_whyBy_2 20 rfl rfl)
theorem dX5_whyBy_68 : decode cX5_whyBy 68 = .ok (.getfield 33, 3) := dk_180 0 33 (dk_at dksX5_whyBy_2 21 rfl rfl)
theorem dX5_whyBy_71 : decode cX5_whyBy 71 = .ok (.iconst 3, 1) := dk_6 (dk_at dksX5_whyBy_3 0 rfl rfl)
theorem dX5_whyBy_72 : decode cX5_whyBy 72 = .ok (.iload_n 2, 1) := dk_28 (dk_at dksX5_whyBy_3 1 rfl rfl)
theorem dX5_whyBy_73 : decode cX5_whyBy 73 = .ok (.iadd, 1) := dk_96 (dk_at dksX5_whyBy_3 2 rfl rfl)
theorem dX5_whyBy_74 : decode cX5_whyBy 74 = .ok (.iaload, 1) := dk_46 (dk_at dksX5_whyBy_3 3 rfl rfl)
theorem dX5_whyBy_75 : decode cX5_whyBy 75 = .ok (.iload_n 3, 1) := dk_29 (dk_at dksX5_whyBy_3 4 rfl rfl)
theorem dX5_whyBy_76 : decode cX5_whyBy 76 = .ok (.if_icmp .lt 7, 3) := dk_161 0 7 (dk_at dksX5_whyBy_3 5 rfl rfl)
theorem dX5_whyBy_79 : decode cX5_whyBy 79 = .ok (.iconst 5, 1) := dk_8 (dk_at dksX5_whyBy_3 8 rfl rfl)
theorem dX5_whyBy_80 : decode cX5_whyBy 80 = .ok (.goto 4, 3) := dk_167 0 4 (dk_at dksX5_whyBy_3 9 rfl rfl)
theorem dX5_whyBy_83 : decode cX5_whyBy 83 = .ok (.iconst 0, 1) := dk_3 (dk_at dksX5_whyBy_3 12 rfl rfl)
theorem dX5_whyBy_84 : decode cX5_whyBy 84 = .ok (.ireturn, 1) := dk_172 (dk_at dksX5_whyBy_3 13 rfl rfl)
abbrev cX5_roadOf : ByteArray := prog_32_method_41_code
def yX5_roadOf : MethodName := ⟨RX5, "roadOf", "(II)I"⟩
def dkwX5_roadOf_3 : List UInt8 := [167, 255, 189, 2, 172]
abbrev dktX5_roadOf_3 : List UInt8 := dkwX5_roadOf_3 ++ []
def dkwX5_roadOf_2 : List UInt8 := [46, 28, 160, 0, 18, 42, 180, 0, 33, 16, 36, 29, 96, 46, 27, 160, 0, 5, 29, 172, 132, 3, 1]
abbrev dktX5_roadOf_2 : List UInt8 := dkwX5_roadOf_2 ++ dktX5_roadOf_3
def dkwX5_roadOf_1 : List UInt8 := [160, 0, 16, 42, 180, 0, 33, 16, 36, 29, 96, 46, 28, 159, 0, 29, 42, 180, 0, 33, 16, 24, 29, 96]
abbrev dktX5_roadOf_1 : List UInt8 := dkwX5_roadOf_1 ++ dktX5_roadOf_2
def dkwX5_roadOf_0 : List UInt8 := [3, 62, 29, 42, 180, 0, 33, 4, 46, 162, 0, 63, 42, 180, 0, 33, 16, 24, 29, 96, 46, 27]
abbrev dktX5_roadOf_0 : List UInt8 := dkwX5_roadOf_0 ++ dktX5_roadOf_1
theorem dksX5_roadOf_0 : cX5_roadOf.data.toList.drop 0 = dktX5_roadOf_0 := by decide +kernel
theorem dksX5_roadOf_1 : cX5_roadOf.data.toList.drop 22 = dktX5_roadOf_1 := dk_seg dksX5_roadOf_0 22 rfl rfl
theorem dksX5_roadOf_2 : cX5_roadOf.data.toList.drop 46 = dktX5_roadOf_2 := dk_seg dksX5_roadOf_1 24 rfl rfl
theorem dksX5_roadOf_3 : cX5_roadOf.data.toList.drop 69 = dktX5_roadOf_3 := dk_seg dksX5_roadOf_2 23 rfl rfl
theorem dX5_roadOf_0 : decode cX5_roadOf 0 = .ok (.iconst 0, 1) := dk_3 (dk_at dksX5_roadOf_0 0 rfl rfl)
theorem dX5_roadOf_1 : decode cX5_roadOf 1 = .ok (.istore_n 3, 1) := dk_62 (dk_at dksX5_roadOf_0 1 rfl rfl)
theorem dX5_roadOf_2 : decode cX5_roadOf 2 = .ok (.iload_n 3, 1) := dk_29 (dk_at dksX5_roadOf_0 2 rfl rfl)
theorem dX5_roadOf_3 : decode cX5_roadOf 3 = .ok (.aload_n 0, 1) := dk_42 (dk_at dksX5_roadOf_0 3 rfl rfl)
theorem dX5_roadOf_4 : decode cX5_roadOf 4 = .ok (.getfield 33, 3) := dk_180 0 33 (dk_at dksX5_roadOf_0 4 rfl rfl)
theorem dX5_roadOf_7 : decode cX5_roadOf 7 = .ok (.iconst 1, 1) := dk_4 (dk_at dksX5_roadOf_0 7 rfl rfl)
theorem dX5_roadOf_8 : decode cX5_roadOf 8 = .ok (.iaload, 1) := dk_46 (dk_at dksX5_roadOf_0 8 rfl rfl)
theorem dX5_roadOf_9 : decode cX5_roadOf 9 = .ok (.if_icmp .ge 63, 3) := dk_162 0 63 (dk_at dksX5_roadOf_0 9 rfl rfl)
theorem dX5_roadOf_12 : decode cX5_roadOf 12 = .ok (.aload_n 0, 1) := dk_42 (dk_at dksX5_roadOf_0 12 rfl rfl)
theorem dX5_roadOf_13 : decode cX5_roadOf 13 = .ok (.getfield 33, 3) := dk_180 0 33 (dk_at dksX5_roadOf_0 13 rfl rfl)
theorem dX5_roadOf_16 : decode cX5_roadOf 16 = .ok (.bipush 24, 2) := dk_16 24 (dk_at dksX5_roadOf_0 16 rfl rfl)
theorem dX5_roadOf_18 : decode cX5_roadOf 18 = .ok (.iload_n 3, 1) := dk_29 (dk_at dksX5_roadOf_0 18 rfl rfl)
theorem dX5_roadOf_19 : decode cX5_roadOf 19 = .ok (.iadd, 1) := dk_96 (dk_at dksX5_roadOf_0 19 rfl rfl)
theorem dX5_roadOf_20 : decode cX5_roadOf 20 = .ok (.iaload, 1) := dk_46 (dk_at dksX5_roadOf_0 20 rfl rfl)
theorem dX5_roadOf_21 : decode cX5_roadOf 21 = .ok (.iload_n 1, 1) := dk_27 (dk_at dksX5_roadOf_0 21 rfl rfl)
theorem dX5_roadOf_22 : decode cX5_roadOf 22 = .ok (.if_icmp .ne 16, 3) := dk_160 0 16 (dk_at dksX5_roadOf_1 0 rfl rfl)
theorem dX5_roadOf_25 : decode cX5_roadOf 25 = .ok (.aload_n 0, 1) := dk_42 (dk_at dksX5_roadOf_1 3 rfl rfl)
theorem dX5_roadOf_26 : decode cX5_roadOf 26 = .ok (.getfield 33, 3) := dk_180 0 33 (dk_at dksX5_roadOf_1 4 rfl rfl)
theorem dX5_roadOf_29 : decode cX5_roadOf 29 = .ok (.bipush 36, 2) := dk_16 36 (dk_at dksX5_roadOf_1 7 rfl rfl)
theorem dX5_roadOf_31 : decode cX5_roadOf 31 = .ok (.iload_n 3, 1) := dk_29 (dk_at dksX5_roadOf_1 9 rfl rfl)
theorem dX5_roadOf_32 : decode cX5_roadOf 32 = .ok (.iadd, 1) := dk_96 (dk_at dksX5_roadOf_1 10 rfl rfl)
theorem dX5_roadOf_33 : decode cX5_roadOf 33 = .ok (.iaload, 1) := dk_46 (dk_at dksX5_roadOf_1 11 rfl rfl)
theorem dX5_roadOf_34 : decode cX5_roadOf 34 = .ok (.iload_n 2, 1) := dk_28 (dk_at dksX5_roadOf_1 12 rfl rfl)
theorem dX5_roadOf_35 : decode cX5_roadOf 35 = .ok (.if_icmp .eq 29, 3) := dk_159 0 29 (dk_at dksX5_roadOf_1 13 rfl rfl)
theorem dX5_roadOf_38 : decode cX5_roadOf 38 = .ok (.aload_n 0, 1) := dk_42 (dk_at dksX5_roadOf_1 16 rfl rfl)
theorem dX5_roadOf_39 : decode cX5_roadOf 39 = .ok (.getfield 33, 3) := dk_180 0 33 (dk_at dksX5_roadOf_1 17 rfl rfl)
theorem dX5_roadOf_42 : decode cX5_roadOf 42 = .ok (.bipush 24, 2) := dk_16 24 (dk_at dksX5_roadOf_1 20 rfl rfl)
theorem dX5_roadOf_44 : decode cX5_roadOf 44 = .ok (.iload_n 3, 1) := dk_29 (dk_at dksX5_roadOf_1 22 rfl rfl)
theorem dX5_roadOf_45 : decode cX5_roadOf 45 = .ok (.iadd, 1) := dk_96 (dk_at dksX5_roadOf_1 23 rfl rfl)
theorem dX5_roadOf_46 : decode cX5_roadOf 46 = .ok (.iaload, 1) := dk_46 (dk_at dksX5_roadOf_2 0 rfl rfl)
theorem dX5_roadOf_47 : decode cX5_roadOf 47 = .ok (.iload_n 2, 1) := dk_28 (dk_at dksX5_roadOf_2 1 rfl rfl)
theorem dX5_roadOf_48 : decode cX5_roadOf 48 = .ok (.if_icmp .ne 18, 3) := dk_160 0 18 (dk_at dksX5_roadOf_2 2 rfl rfl)
theorem dX5_roadOf_51 : decode cX5_roadOf 51 = .ok (.aload_n 0, 1) := dk_42 (dk_at dksX5_roadOf_2 5 rfl rfl)
theorem dX5_roadOf_52 : decode cX5_roadOf 52 = .ok (.getfield 33, 3) := dk_180 0 33 (dk_at dksX5_roadOf_2 6 rfl rfl)
theorem dX5_roadOf_55 : decode cX5_roadOf 55 = .ok (.bipush 36, 2) := dk_16 36 (dk_at dksX5_roadOf_2 9 rfl rfl)
theorem dX5_roadOf_57 : decode cX5_roadOf 57 = .ok (.iload_n 3, 1) := dk_29 (dk_at dksX5_roadOf_2 11 rfl rfl)
theorem dX5_roadOf_58 : decode cX5_roadOf 58 = .ok (.iadd, 1) := dk_96 (dk_at dksX5_roadOf_2 12 rfl rfl)
theorem dX5_roadOf_59 : decode cX5_roadOf 59 = .ok (.iaload, 1) := dk_46 (dk_at dksX5_roadOf_2 13 rfl rfl)
theorem dX5_roadOf_60 : decode cX5_roadOf 60 = .ok (.iload_n 1, 1) := dk_27 (dk_at dksX5_roadOf_2 14 rfl rfl)
theorem dX5_roadOf_61 : decode cX5_roadOf 61 = .ok (.if_icmp .ne 5, 3) := dk_160 0 5 (dk_at dksX5_roadOf_2 15 rfl rfl)
theorem dX5_roadOf_64 : decode cX5_roadOf 64 = .ok (.iload_n 3, 1) := dk_29 (dk_at dksX5_roadOf_2 18 rfl rfl)
theorem dX5_roadOf_65 : decode cX5_roadOf 65 = .ok (.ireturn, 1) := dk_172 (dk_at dksX5_roadOf_2 19 rfl rfl)
theorem dX5_roadOf_66 : decode cX5_roadOf 66 = .ok (.iinc 3 1, 3) := dk_132 3 1 (dk_at dksX5_roadOf_2 20 rfl rfl)
theorem dX5_roadOf_69 : decode cX5_roadOf 69 = .ok (.goto (-67), 3) := dk_167 255 189 (dk_at dksX5_roadOf_3 0 rfl rfl)
theorem dX5_roadOf_72 : decode cX5_roadOf 72 = .ok (.iconst (-1), 1) := dk_2 (dk_at dksX5_roadOf_3 3 rfl rfl)
theorem dX5_roadOf_73 : decode cX5_roadOf 73 = .ok (.ireturn, 1) := dk_172 (dk_at dksX5_roadOf_3 4 rfl rfl)
abbrev cX5_isOpen : ByteArray := prog_32_method_40_code
def yX5_isOpen : MethodName := ⟨RX5, "isOpen", "(I)Z"⟩
def dkwX5_isOpen_0 : List UInt8 := [42, 180, 0, 33, 16, 93, 46, 27, 184, 1, 1, 154, 0, 7, 4, 167, 0, 4, 3, 172]
abbrev dktX5_isOpen_0 : List UInt8 := dkwX5_isOpen_0 ++ []
theorem dksX5_isOpen_0 : cX5_isOpen.data.toList.drop 0 = dktX5_isOpen_0 := by decide +kernel
theorem dX5_isOpen_0 : decode cX5_isOpen 0 = .ok (.aload_n 0, 1) := dk_42 (dk_at dksX5_isOpen_0 0 rfl rfl)
theorem dX5_isOpen_1 : decode cX5_isOpen 1 = .ok (.getfield 33, 3) := dk_180 0 33 (dk_at dksX5_isOpen_0 1 rfl rfl)
theorem dX5_isOpen_4 : decode cX5_isOpen 4 = .ok (.bipush 93, 2) := dk_16 93 (dk_at dksX5_isOpen_0 4 rfl rfl)
theorem dX5_isOpen_6 : decode cX5_isOpen 6 = .ok (.iaload, 1) := dk_46 (dk_at dksX5_isOpen_0 6 rfl rfl)
theorem dX5_isOpen_7 : decode cX5_isOpen 7 = .ok (.iload_n 1, 1) := dk_27 (dk_at dksX5_isOpen_0 7 rfl rfl)
theorem dX5_isOpen_8 : decode cX5_isOpen 8 = .ok (.invokestatic 257, 3) := dk_184 1 1 (dk_at dksX5_isOpen_0 8 rfl rfl)
theorem dX5_isOpen_11 : decode cX5_isOpen 11 = .ok (.ifCond .ne 7, 3) := dk_154 0 7 (dk_at dksX5_isOpen_0 11 rfl rfl)
theorem dX5_isOpen_14 : decode cX5_isOpen 14 = .ok (.iconst 1, 1) := dk_4 (dk_at dksX5_isOpen_0 14 rfl rfl)
theorem dX5_isOpen_15 : decode cX5_isOpen 15 = .ok (.goto 4, 3) := dk_167 0 4 (dk_at dksX5_isOpen_0 15 rfl rfl)
theorem dX5_isOpen_18 : decode cX5_isOpen 18 = .ok (.iconst 0, 1) := dk_3 (dk_at dksX5_isOpen_0 18 rfl rfl)
theorem dX5_isOpen_19 : decode cX5_isOpen 19 = .ok (.ireturn, 1) := dk_172 (dk_at dksX5_isOpen_0 19 rfl rfl)
abbrev cX5_land : ByteArray := prog_32_method_50_code
def yX5_land : MethodName := ⟨RX5, "land", "(II)I"⟩
def dkwX5_land_5 : List UInt8 := [16, 94, 27, 96, 46, 172, 42, 180, 0, 33, 16, 101, 27, 96, 46, 172, 29, 172, 2, 172]
abbrev dktX5_land_5 : List UInt8 := dkwX5_land_5 ++ []
def dkwX5_land_4 : List UInt8 := [42, 180, 0, 33, 6, 27, 96, 46, 172, 42, 180, 0, 33, 16, 10, 27, 96, 46, 172, 42, 180, 0, 33]
abbrev dktX5_land_4 : List UInt8 := dkwX5_land_4 ++ dktX5_land_5
def dkwX5_land_3 : List UInt8 := [170, 0, 0, 0, 74, 0, 0, 0, 0, 0, 0, 0, 4, 0, 0, 0, 33, 0, 0, 0, 42, 0, 0, 0, 52, 0, 0, 0, 62, 0, 0, 0, 72]
abbrev dktX5_land_3 : List UInt8 := dkwX5_land_3 ++ dktX5_land_4
def dkwX5_land_2 : List UInt8 := [21, 4, 120, 167, 0, 4, 3, 128, 62, 132, 4, 1, 167, 255, 217, 28]
abbrev dktX5_land_2 : List UInt8 := dkwX5_land_2 ++ dktX5_land_3
def dkwX5_land_1 : List UInt8 := [180, 0, 33, 5, 46, 162, 0, 34, 29, 42, 180, 0, 33, 16, 108, 21, 4, 96, 46, 27, 160, 0, 10, 4]
abbrev dktX5_land_1 : List UInt8 := dkwX5_land_1 ++ dktX5_land_2
def dkwX5_land_0 : List UInt8 := [42, 3, 181, 0, 1, 42, 27, 182, 1, 56, 154, 0, 5, 2, 172, 3, 62, 3, 54, 4, 21, 4, 42]
abbrev dktX5_land_0 : List UInt8 := dkwX5_land_0 ++ dktX5_land_1
theorem dksX5_land_0 : cX5_land.data.toList.drop 0 = dktX5_land_0 := by decide +kernel
theorem dksX5_land_1 : cX5_land.data.toList.drop 23 = dktX5_land_1 := dk_seg dksX5_land_0 23 rfl rfl
theorem dksX5_land_2 : cX5_land.data.toList.drop 47 = dktX5_land_2 := dk_seg dksX5_land_1 24 rfl rfl
theorem dksX5_land_3 : cX5_land.data.toList.drop 63 = dktX5_land_3 := dk_seg dksX5_land_2 16 rfl rfl
theorem dksX5_land_4 : cX5_land.data.toList.drop 96 = dktX5_land_4 := dk_seg dksX5_land_3 33 rfl rfl
theorem dksX5_land_5 : cX5_land.data.toList.drop 119 = dktX5_land_5 := dk_seg dksX5_land_4 23 rfl rfl
theorem dX5_land_0 : decode cX5_land 0 = .ok (.aload_n 0, 1) := dk_42 (dk_at dksX5_land_0 0 rfl rfl)
theorem dX5_land_1 : decode cX5_land 1 = .ok (.iconst 0, 1) := dk_3 (dk_at dksX5_land_0 1 rfl rfl)
theorem dX5_land_2 : decode cX5_land 2 = .ok (.putfield 1, 3) := dk_181 0 1 (dk_at dksX5_land_0 2 rfl rfl)
theorem dX5_land_5 : decode cX5_land 5 = .ok (.aload_n 0, 1) := dk_42 (dk_at dksX5_land_0 5 rfl rfl)
theorem dX5_land_6 : decode cX5_land 6 = .ok (.iload_n 1, 1) := dk_27 (dk_at dksX5_land_0 6 rfl rfl)
theorem dX5_land_7 : decode cX5_land 7 = .ok (.invokevirtual 312, 3) := dk_182 1 56 (dk_at dksX5_land_0 7 rfl rfl)
theorem dX5_land_10 : decode cX5_land 10 = .ok (.ifCond .ne 5, 3) := dk_154 0 5 (dk_at dksX5_land_0 10 rfl rfl)
theorem dX5_land_13 : decode cX5_land 13 = .ok (.iconst (-1), 1) := dk_2 (dk_at dksX5_land_0 13 rfl rfl)
theorem dX5_land_14 : decode cX5_land 14 = .ok (.ireturn, 1) := dk_172 (dk_at dksX5_land_0 14 rfl rfl)
theorem dX5_land_15 : decode cX5_land 15 = .ok (.iconst 0, 1) := dk_3 (dk_at dksX5_land_0 15 rfl rfl)
theorem dX5_land_16 : decode cX5_land 16 = .ok (.istore_n 3, 1) := dk_62 (dk_at dksX5_land_0 16 rfl rfl)
theorem dX5_land_17 : decode cX5_land 17 = .ok (.iconst 0, 1) := dk_3 (dk_at dksX5_land_0 17 rfl rfl)
theorem dX5_land_18 : decode cX5_land 18 = .ok (.istore 4, 2) := dk_54 4 (dk_at dksX5_land_0 18 rfl rfl)
theorem dX5_land_20 : decode cX5_land 20 = .ok (.iload 4, 2) := dk_21 4 (dk_at dksX5_land_0 20 rfl rfl)
theorem dX5_land_22 : decode cX5_land 22 = .ok (.aload_n 0, 1) := dk_42 (dk_at dksX5_land_0 22 rfl rfl)
theorem dX5_land_23 : decode cX5_land 23 = .ok (.getfield 33, 3) := dk_180 0 33 (dk_at dksX5_land_1 0 rfl rfl)
theorem dX5_land_26 : decode cX5_land 26 = .ok (.iconst 2, 1) := dk_5 (dk_at dksX5_land_1 3 rfl rfl)
theorem dX5_land_27 : decode cX5_land 27 = .ok (.iaload, 1) := dk_46 (dk_at dksX5_land_1 4 rfl rfl)
theorem dX5_land_28 : decode cX5_land 28 = .ok (.if_icmp .ge 34, 3) := dk_162 0 34 (dk_at dksX5_land_1 5 rfl rfl)
theorem dX5_land_31 : decode cX5_land 31 = .ok (.iload_n 3, 1) := dk_29 (dk_at dksX5_land_1 8 rfl rfl)
theorem dX5_land_32 : decode cX5_land 32 = .ok (.aload_n 0, 1) := dk_42 (dk_at dksX5_land_1 9 rfl rfl)
theorem dX5_land_33 : decode cX5_land 33 = .ok (.getfield 33, 3) := dk_180 0 33 (dk_at dksX5_land_1 10 rfl rfl)
theorem dX5_land_36 : decode cX5_land 36 = .ok (.bipush 108, 2) := dk_16 108 (dk_at dksX5_land_1 13 rfl rfl)
theorem dX5_land_38 : decode cX5_land 38 = .ok (.iload 4, 2) := dk_21 4 (dk_at dksX5_land_1 15 rfl rfl)
theorem dX5_land_40 : decode cX5_land 40 = .ok (.iadd, 1) := dk_96 (dk_at dksX5_land_1 17 rfl rfl)
theorem dX5_land_41 : decode cX5_land 41 = .ok (.iaload, 1) := dk_46 (dk_at dksX5_land_1 18 rfl rfl)
theorem dX5_land_42 : decode cX5_land 42 = .ok (.iload_n 1, 1) := dk_27 (dk_at dksX5_land_1 19 rfl rfl)
theorem dX5_land_43 : decode cX5_land 43 = .ok (.if_icmp .ne 10, 3) := dk_160 0 10 (dk_at dksX5_land_1 20 rfl rfl)
theorem dX5_land_46 : decode cX5_land 46 = .ok (.iconst 1, 1) := dk_4 (dk_at dksX5_land_1 23 rfl rfl)
theorem dX5_land_47 : decode cX5_land 47 = .ok (.iload 4, 2) := dk_21 4 (dk_at dksX5_land_2 0 rfl rfl)
theorem dX5_land_49 : decode cX5_land 49 = .ok (.ishl, 1) := dk_120 (dk_at dksX5_land_2 2 rfl rfl)
theorem dX5_land_50 : decode cX5_land 50 = .ok (.goto 4, 3) := dk_167 0 4 (dk_at dksX5_land_2 3 rfl rfl)
theorem dX5_land_53 : decode cX5_land 53 = .ok (.iconst 0, 1) := dk_3 (dk_at dksX5_land_2 6 rfl rfl)
theorem dX5_land_54 : decode cX5_land 54 = .ok (.ior, 1) := dk_128 (dk_at dksX5_land_2 7 rfl rfl)
theorem dX5_land_55 : decode cX5_land 55 = .ok (.istore_n 3, 1) := dk_62 (dk_at dksX5_land_2 8 rfl rfl)
theorem dX5_land_56 : decode cX5_land 56 = .ok (.iinc 4 1, 3) := dk_132 4 1 (dk_at dksX5_land_2 9 rfl rfl)
theorem dX5_land_59 : decode cX5_land 59 = .ok (.goto (-39), 3) := dk_167 255 217 (dk_at dksX5_land_2 12 rfl rfl)
theorem dX5_land_62 : decode cX5_land 62 = .ok (.iload_n 2, 1) := dk_28 (dk_at dksX5_land_2 15 rfl rfl)
theorem dX5_land_63 : decode cX5_land 63 = .ok (.tableswitch 74 0 4 #[33, 42, 52, 62, 72], 33) := by decide +kernel
theorem dX5_land_96 : decode cX5_land 96 = .ok (.aload_n 0, 1) := dk_42 (dk_at dksX5_land_4 0 rfl rfl)
theorem dX5_land_97 : decode cX5_land 97 = .ok (.getfield 33, 3) := dk_180 0 33 (dk_at dksX5_land_4 1 rfl rfl)
theorem dX5_land_100 : decode cX5_land 100 = .ok (.iconst 3, 1) := dk_6 (dk_at dksX5_land_4 4 rfl rfl)
theorem dX5_land_101 : decode cX5_land 101 = .ok (.iload_n 1, 1) := dk_27 (dk_at dksX5_land_4 5 rfl rfl)
theorem dX5_land_102 : decode cX5_land 102 = .ok (.iadd, 1) := dk_96 (dk_at dksX5_land_4 6 rfl rfl)
theorem dX5_land_103 : decode cX5_land 103 = .ok (.iaload, 1) := dk_46 (dk_at dksX5_land_4 7 rfl rfl)
theorem dX5_land_104 : decode cX5_land 104 = .ok (.ireturn, 1) := dk_172 (dk_at dksX5_land_4 8 rfl rfl)
theorem dX5_land_105 : decode cX5_land 105 = .ok (.aload_n 0, 1) := dk_42 (dk_at dksX5_land_4 9 rfl rfl)
theorem dX5_land_106 : decode cX5_land 106 = .ok (.getfield 33, 3) := dk_180 0 33 (dk_at dksX5_land_4 10 rfl rfl)
theorem dX5_land_109 : decode cX5_land 109 = .ok (.bipush 10, 2) := dk_16 10 (dk_at dksX5_land_4 13 rfl rfl)
theorem dX5_land_111 : decode cX5_land 111 = .ok (.iload_n 1, 1) := dk_27 (dk_at dksX5_land_4 15 rfl rfl)
theorem dX5_land_112 : decode cX5_land 112 = .ok (.iadd, 1) := dk_96 (dk_at dksX5_land_4 16 rfl rfl)
theorem dX5_land_113 : decode cX5_land 113 = .ok (.iaload, 1) := dk_46 (dk_at dksX5_land_4 17 rfl rfl)
theorem dX5_land_114 : decode cX5_land 114 = .ok (.ireturn, 1) := dk_172 (dk_at dksX5_land_4 18 rfl rfl)
theorem dX5_land_115 : decode cX5_land 115 = .ok (.aload_n 0, 1) := dk_42 (dk_at dksX5_land_4 19 rfl rfl)
theorem dX5_land_116 : decode cX5_land 116 = .ok (.getfield 33, 3) := dk_180 0 33 (dk_at dksX5_land_4 20 rfl rfl)
theorem dX5_land_119 : decode cX5_land 119 = .ok (.bipush 94, 2) := dk_16 94 (dk_at dksX5_land_5 0 rfl rfl)
theorem dX5_land_121 : decode cX5_land 121 = .ok (.iload_n 1, 1) := dk_27 (dk_at dksX5_land_5 2 rfl rfl)
theorem dX5_land_122 : decode cX5_land 122 = .ok (.iadd, 1) := dk_96 (dk_at dksX5_land_5 3 rfl rfl)
theorem dX5_land_123 : decode cX5_land 123 = .ok (.iaload, 1) := dk_46 (dk_at dksX5_land_5 4 rfl rfl)
theorem dX5_land_124 : decode cX5_land 124 = .ok (.ireturn, 1) := dk_172 (dk_at dksX5_land_5 5 rfl rfl)
theorem dX5_land_125 : decode cX5_land 125 = .ok (.aload_n 0, 1) := dk_42 (dk_at dksX5_land_5 6 rfl rfl)
theorem dX5_land_126 : decode cX5_land 126 = .ok (.getfield 33, 3) := dk_180 0 33 (dk_at dksX5_land_5 7 rfl rfl)
theorem dX5_land_129 : decode cX5_land 129 = .ok (.bipush 101, 2) := dk_16 101 (dk_at dksX5_land_5 10 rfl rfl)
theorem dX5_land_131 : decode cX5_land 131 = .ok (.iload_n 1, 1) := dk_27 (dk_at dksX5_land_5 12 rfl rfl)
theorem dX5_land_132 : decode cX5_land 132 = .ok (.iadd, 1) := dk_96 (dk_at dksX5_land_5 13 rfl rfl)
theorem dX5_land_133 : decode cX5_land 133 = .ok (.iaload, 1) := dk_46 (dk_at dksX5_land_5 14 rfl rfl)
theorem dX5_land_134 : decode cX5_land 134 = .ok (.ireturn, 1) := dk_172 (dk_at dksX5_land_5 15 rfl rfl)
theorem dX5_land_135 : decode cX5_land 135 = .ok (.iload_n 3, 1) := dk_29 (dk_at dksX5_land_5 16 rfl rfl)
theorem dX5_land_136 : decode cX5_land 136 = .ok (.ireturn, 1) := dk_172 (dk_at dksX5_land_5 17 rfl rfl)
theorem dX5_land_137 : decode cX5_land 137 = .ok (.iconst (-1), 1) := dk_2 (dk_at dksX5_land_5 18 rfl rfl)
theorem dX5_land_138 : decode cX5_land 138 = .ok (.ireturn, 1) := dk_172 (dk_at dksX5_land_5 19 rfl rfl)
abbrev cX5_isLand : ByteArray := prog_32_method_38_code
def yX5_isLand : MethodName := ⟨RX5, "isLand", "(I)Z"⟩
def dkwX5_isLand_0 : List UInt8 := [27, 3, 42, 180, 0, 33, 3, 46, 4, 100, 184, 0, 207, 172]
abbrev dktX5_isLand_0 : List UInt8 := dkwX5_isLand_0 ++ []
theorem dksX5_isLand_0 : cX5_isLand.data.toList.drop 0 = dktX5_isLand_0 := by decide +kernel
theorem dX5_isLand_0 : decode cX5_isLand 0 = .ok (.iload_n 1, 1) := dk_27 (dk_at dksX5_isLand_0 0 rfl rfl)
theorem dX5_isLand_1 : decode cX5_isLand 1 = .ok (.iconst 0, 1) := dk_3 (dk_at dksX5_isLand_0 1 rfl rfl)
theorem dX5_isLand_2 : decode cX5_isLand 2 = .ok (.aload_n 0, 1) := dk_42 (dk_at dksX5_isLand_0 2 rfl rfl)
theorem dX5_isLand_3 : decode cX5_isLand 3 = .ok (.getfield 33, 3) := dk_180 0 33 (dk_at dksX5_isLand_0 3 rfl rfl)
theorem dX5_isLand_6 : decode cX5_isLand 6 = .ok (.iconst 0, 1) := dk_3 (dk_at dksX5_isLand_0 6 rfl rfl)
theorem dX5_isLand_7 : decode cX5_isLand 7 = .ok (.iaload, 1) := dk_46 (dk_at dksX5_isLand_0 7 rfl rfl)
theorem dX5_isLand_8 : decode cX5_isLand 8 = .ok (.iconst 1, 1) := dk_4 (dk_at dksX5_isLand_0 8 rfl rfl)
theorem dX5_isLand_9 : decode cX5_isLand 9 = .ok (.isub, 1) := dk_100 (dk_at dksX5_isLand_0 9 rfl rfl)
theorem dX5_isLand_10 : decode cX5_isLand 10 = .ok (.invokestatic 207, 3) := dk_184 0 207 (dk_at dksX5_isLand_0 10 rfl rfl)
theorem dX5_isLand_13 : decode cX5_isLand 13 = .ok (.ireturn, 1) := dk_172 (dk_at dksX5_isLand_0 13 rfl rfl)
abbrev cX5_road : ByteArray := prog_32_method_51_code
def yX5_road : MethodName := ⟨RX5, "road", "(II)I"⟩
def dkwX5_road_4 : List UInt8 := [3, 167, 0, 4, 4, 172, 2, 172]
abbrev dktX5_road_4 : List UInt8 := dkwX5_road_4 ++ []
def dkwX5_road_3 : List UInt8 := [16, 48, 27, 96, 46, 172, 42, 180, 0, 33, 16, 60, 27, 96, 46, 172, 42, 27, 182, 1, 25, 153, 0, 7]
abbrev dktX5_road_3 : List UInt8 := dkwX5_road_3 ++ dktX5_road_4
def dkwX5_road_2 : List UInt8 := [42, 180, 0, 33, 16, 24, 27, 96, 46, 172, 42, 180, 0, 33, 16, 36, 27, 96, 46, 172, 42, 180, 0, 33]
abbrev dktX5_road_2 : List UInt8 := dkwX5_road_2 ++ dktX5_road_3
def dkwX5_road_1 : List UInt8 := [170, 0, 0, 0, 0, 0, 0, 90, 0, 0, 0, 0, 0, 0, 0, 4, 0, 0, 0, 36, 0, 0, 0, 46, 0, 0, 0, 56, 0, 0, 0, 66, 0, 0, 0, 76]
abbrev dktX5_road_1 : List UInt8 := dkwX5_road_1 ++ dktX5_road_2
def dkwX5_road_0 : List UInt8 := [42, 3, 181, 0, 1, 27, 3, 42, 180, 0, 33, 4, 46, 4, 100, 184, 0, 207, 154, 0, 5, 2, 172, 28]
abbrev dktX5_road_0 : List UInt8 := dkwX5_road_0 ++ dktX5_road_1
theorem dksX5_road_0 : cX5_road.data.toList.drop 0 = dktX5_road_0 := by decide +kernel
theorem dksX5_road_1 : cX5_road.data.toList.drop 24 = dktX5_road_1 := dk_seg dksX5_road_0 24 rfl rfl
theorem dksX5_road_2 : cX5_road.data.toList.drop 60 = dktX5_road_2 := dk_seg dksX5_road_1 36 rfl rfl
theorem dksX5_road_3 : cX5_road.data.toList.drop 84 = dktX5_road_3 := dk_seg dksX5_road_2 24 rfl rfl
theorem dksX5_road_4 : cX5_road.data.toList.drop 108 = dktX5_road_4 := dk_seg dksX5_road_3 24 rfl rfl
theorem dX5_road_0 : decode cX5_road 0 = .ok (.aload_n 0, 1) := dk_42 (dk_at dksX5_road_0 0 rfl rfl)
theorem dX5_road_1 : decode cX5_road 1 = .ok (.iconst 0, 1) := dk_3 (dk_at dksX5_road_0 1 rfl rfl)
theorem dX5_road_2 : decode cX5_road 2 = .ok (.putfield 1, 3) := dk_181 0 1 (dk_at dksX5_road_0 2 rfl rfl)
theorem dX5_road_5 : decode cX5_road 5 = .ok (.iload_n 1, 1) := dk_27 (dk_at dksX5_road_0 5 rfl rfl)
theorem dX5_road_6 : decode cX5_road 6 = .ok (.iconst 0, 1) := dk_3 (dk_at dksX5_road_0 6 rfl rfl)
theorem dX5_road_7 : decode cX5_road 7 = .ok (.aload_n 0, 1) := dk_42 (dk_at dksX5_road_0 7 rfl rfl)
theorem dX5_road_8 : decode cX5_road 8 = .ok (.getfield 33, 3) := dk_180 0 33 (dk_at dksX5_road_0 8 rfl rfl)
theorem dX5_road_11 : decode cX5_road 11 = .ok (.iconst 1, 1) := dk_4 (dk_at dksX5_road_0 11 rfl rfl)
theorem dX5_road_12 : decode cX5_road 12 = .ok (.iaload, 1) := dk_46 (dk_at dksX5_road_0 12 rfl rfl)
theorem dX5_road_13 : decode cX5_road 13 = .ok (.iconst 1, 1) := dk_4 (dk_at dksX5_road_0 13 rfl rfl)
theorem dX5_road_14 : decode cX5_road 14 = .ok (.isub, 1) := dk_100 (dk_at dksX5_road_0 14 rfl rfl)
theorem dX5_road_15 : decode cX5_road 15 = .ok (.invokestatic 207, 3) := dk_184 0 207 (dk_at dksX5_road_0 15 rfl rfl)
theorem dX5_road_18 : decode cX5_road 18 = .ok (.ifCond .ne 5, 3) := dk_154 0 5 (dk_at dksX5_road_0 18 rfl rfl)
theorem dX5_road_21 : decode cX5_road 21 = .ok (.iconst (-1), 1) := dk_2 (dk_at dksX5_road_0 21 rfl rfl)
theorem dX5_road_22 : decode cX5_road 22 = .ok (.ireturn, 1) := dk_172 (dk_at dksX5_road_0 22 rfl rfl)
theorem dX5_road_23 : decode cX5_road 23 = .ok (.iload_n 2, 1) := dk_28 (dk_at dksX5_road_0 23 rfl rfl)
theorem dX5_road_24 : decode cX5_road 24 = .ok (.tableswitch 90 0 4 #[36, 46, 56, 66, 76], 36) := by decide +kernel
theorem dX5_road_60 : decode cX5_road 60 = .ok (.aload_n 0, 1) := dk_42 (dk_at dksX5_road_2 0 rfl rfl)
theorem dX5_road_61 : decode cX5_road 61 = .ok (.getfield 33, 3) := dk_180 0 33 (dk_at dksX5_road_2 1 rfl rfl)
theorem dX5_road_64 : decode cX5_road 64 = .ok (.bipush 24, 2) := dk_16 24 (dk_at dksX5_road_2 4 rfl rfl)
theorem dX5_road_66 : decode cX5_road 66 = .ok (.iload_n 1, 1) := dk_27 (dk_at dksX5_road_2 6 rfl rfl)
theorem dX5_road_67 : decode cX5_road 67 = .ok (.iadd, 1) := dk_96 (dk_at dksX5_road_2 7 rfl rfl)
theorem dX5_road_68 : decode cX5_road 68 = .ok (.iaload, 1) := dk_46 (dk_at dksX5_road_2 8 rfl rfl)
theorem dX5_road_69 : decode cX5_road 69 = .ok (.ireturn, 1) := dk_172 (dk_at dksX5_road_2 9 rfl rfl)
theorem dX5_road_70 : decode cX5_road 70 = .ok (.aload_n 0, 1) := dk_42 (dk_at dksX5_road_2 10 rfl rfl)
theorem dX5_road_71 : decode cX5_road 71 = .ok (.getfield 33, 3) := dk_180 0 33 (dk_at dksX5_road_2 11 rfl rfl)
theorem dX5_road_74 : decode cX5_road 74 = .ok (.bipush 36, 2) := dk_16 36 (dk_at dksX5_road_2 14 rfl rfl)
theorem dX5_road_76 : decode cX5_road 76 = .ok (.iload_n 1, 1) := dk_27 (dk_at dksX5_road_2 16 rfl rfl)
theorem dX5_road_77 : decode cX5_road 77 = .ok (.iadd, 1) := dk_96 (dk_at dksX5_road_2 17 rfl rfl)
theorem dX5_road_78 : decode cX5_road 78 = .ok (.iaload, 1) := dk_46 (dk_at dksX5_road_2 18 rfl rfl)
theorem dX5_road_79 : decode cX5_road 79 = .ok (.ireturn, 1) := dk_172 (dk_at dksX5_road_2 19 rfl rfl)
theorem dX5_road_80 : decode cX5_road 80 = .ok (.aload_n 0, 1) := dk_42 (dk_at dksX5_road_2 20 rfl rfl)
theorem dX5_road_81 : decode cX5_road 81 = .ok (.getfield 33, 3) := dk_180 0 33 (dk_at dksX5_road_2 21 rfl rfl)
theorem dX5_road_84 : decode cX5_road 84 = .ok (.bipush 48, 2) := dk_16 48 (dk_at dksX5_road_3 0 rfl rfl)
theorem dX5_road_86 : decode cX5_road 86 = .ok (.iload_n 1, 1) := dk_27 (dk_at dksX5_road_3 2 rfl rfl)
theorem dX5_road_87 : decode cX5_road 87 = .ok (.iadd, 1) := dk_96 (dk_at dksX5_road_3 3 rfl rfl)
theorem dX5_road_88 : decode cX5_road 88 = .ok (.iaload, 1) := dk_46 (dk_at dksX5_road_3 4 rfl rfl)
theorem dX5_road_89 : decode cX5_road 89 = .ok (.ireturn, 1) := dk_172 (dk_at dksX5_road_3 5 rfl rfl)
theorem dX5_road_90 : decode cX5_road 90 = .ok (.aload_n 0, 1) := dk_42 (dk_at dksX5_road_3 6 rfl rfl)
theorem dX5_road_91 : decode cX5_road 91 = .ok (.getfield 33, 3) := dk_180 0 33 (dk_at dksX5_road_3 7 rfl rfl)
theorem dX5_road_94 : decode cX5_road 94 = .ok (.bipush 60, 2) := dk_16 60 (dk_at dksX5_road_3 10 rfl rfl)
theorem dX5_road_96 : decode cX5_road 96 = .ok (.iload_n 1, 1) := dk_27 (dk_at dksX5_road_3 12 rfl rfl)
theorem dX5_road_97 : decode cX5_road 97 = .ok (.iadd, 1) := dk_96 (dk_at dksX5_road_3 13 rfl rfl)
theorem dX5_road_98 : decode cX5_road 98 = .ok (.iaload, 1) := dk_46 (dk_at dksX5_road_3 14 rfl rfl)
theorem dX5_road_99 : decode cX5_road 99 = .ok (.ireturn, 1) := dk_172 (dk_at dksX5_road_3 15 rfl rfl)
theorem dX5_road_100 : decode cX5_road 100 = .ok (.aload_n 0, 1) := dk_42 (dk_at dksX5_road_3 16 rfl rfl)
theorem dX5_road_101 : decode cX5_road 101 = .ok (.iload_n 1, 1) := dk_27 (dk_at dksX5_road_3 17 rfl rfl)
theorem dX5_road_102 : decode cX5_road 102 = .ok (.invokevirtual 281, 3) := dk_182 1 25 (dk_at dksX5_road_3 18 rfl rfl)
theorem dX5_road_105 : decode cX5_road 105 = .ok (.ifCond .eq 7, 3) := dk_153 0 7 (dk_at dksX5_road_3 21 rfl rfl)
theorem dX5_road_108 : decode cX5_road 108 = .ok (.iconst 0, 1) := dk_3 (dk_at dksX5_road_4 0 rfl rfl)
theorem dX5_road_109 : decode cX5_road 109 = .ok (.goto 4, 3) := dk_167 0 4 (dk_at dksX5_road_4 1 rfl rfl)
theorem dX5_road_112 : decode cX5_road 112 = .ok (.iconst 1, 1) := dk_4 (dk_at dksX5_road_4 4 rfl rfl)
theorem dX5_road_113 : decode cX5_road 113 = .ok (.ireturn, 1) := dk_172 (dk_at dksX5_road_4 5 rfl rfl)
theorem dX5_road_114 : decode cX5_road 114 = .ok (.iconst (-1), 1) := dk_2 (dk_at dksX5_road_4 6 rfl rfl)
theorem dX5_road_115 : decode cX5_road 115 = .ok (.ireturn, 1) := dk_172 (dk_at dksX5_road_4 7 rfl rfl)
abbrev cX5_now : ByteArray := prog_32_method_52_code
def yX5_now : MethodName := ⟨RX5, "now", "(I)I"⟩
def dkwX5_now_9 : List UInt8 := [42, 180, 0, 33, 16, 93, 46, 172, 28, 172, 29, 172, 21, 5, 172, 2, 172]
abbrev dktX5_now_9 : List UInt8 := dkwX5_now_9 ++ []
def dkwX5_now_8 : List UInt8 := [42, 180, 0, 33, 16, 91, 46, 172, 42, 182, 1, 62, 172, 21, 4, 172, 42, 180, 0, 33, 16, 92, 46, 172]
abbrev dktX5_now_8 : List UInt8 := dkwX5_now_8 ++ dktX5_now_9
def dkwX5_now_7 : List UInt8 := [170, 0, 0, 0, 84, 0, 0, 0, 0, 0, 0, 0, 7, 0, 0, 0, 45, 0, 0, 0, 53, 0, 0, 0, 58, 0, 0, 0, 61, 0, 0, 0, 69, 0, 0, 0, 77, 0, 0, 0, 79, 0, 0, 0, 81]
abbrev dktX5_now_7 : List UInt8 := dkwX5_now_7 ++ dktX5_now_8
def dkwX5_now_6 : List UInt8 := [27]
abbrev dktX5_now_6 : List UInt8 := dkwX5_now_6 ++ dktX5_now_7
def dkwX5_now_5 : List UInt8 := [21, 5, 42, 180, 0, 33, 16, 101, 21, 6, 96, 46, 184, 1, 59, 96, 54, 5, 132, 6, 1, 167, 255, 209]
abbrev dktX5_now_5 : List UInt8 := dkwX5_now_5 ++ dktX5_now_6
def dkwX5_now_4 : List UInt8 := [42, 180, 0, 33, 3, 46, 162, 0, 42, 21, 4, 42, 180, 0, 33, 16, 94, 21, 6, 96, 46, 96, 54, 4]
abbrev dktX5_now_4 : List UInt8 := dkwX5_now_4 ++ dktX5_now_5
def dkwX5_now_3 : List UInt8 := [154, 0, 10, 4, 21, 6, 120, 167, 0, 4, 3, 128, 62, 132, 6, 1, 167, 255, 188, 3, 54, 6, 21, 6]
abbrev dktX5_now_3 : List UInt8 := dkwX5_now_3 ++ dktX5_now_4
def dkwX5_now_2 : List UInt8 := [96, 46, 160, 0, 10, 4, 21, 6, 120, 167, 0, 4, 3, 128, 61, 29, 42, 21, 6, 182, 1, 53]
abbrev dktX5_now_2 : List UInt8 := dkwX5_now_2 ++ dktX5_now_3
def dkwX5_now_1 : List UInt8 := [5, 46, 162, 0, 63, 28, 42, 180, 0, 33, 16, 108, 21, 6, 96, 46, 42, 180, 0, 33, 16, 79, 21, 6]
abbrev dktX5_now_1 : List UInt8 := dkwX5_now_1 ++ dktX5_now_2
def dkwX5_now_0 : List UInt8 := [42, 3, 181, 0, 1, 3, 61, 3, 62, 3, 54, 4, 3, 54, 5, 3, 54, 6, 21, 6, 42, 180, 0, 33]
abbrev dktX5_now_0 : List UInt8 := dkwX5_now_0 ++ dktX5_now_1
theorem dksX5_now_0 : cX5_now.data.toList.drop 0 = dktX5_now_0 := by decide +kernel
theorem dksX5_now_1 : cX5_now.data.toList.drop 24 = dktX5_now_1 := dk_seg dksX5_now_0 24 rfl rfl
theorem dksX5_now_2 : cX5_now.data.toList.drop 48 = dktX5_now_2 := dk_seg dksX5_now_1 24 rfl rfl
theorem dksX5_now_3 : cX5_now.data.toList.drop 70 = dktX5_now_3 := dk_seg dksX5_now_2 22 rfl rfl
theorem dksX5_now_4 : cX5_now.data.toList.drop 94 = dktX5_now_4 := dk_seg dksX5_now_3 24 rfl rfl
theorem dksX5_now_5 : cX5_now.data.toList.drop 118 = dktX5_now_5 := dk_seg dksX5_now_4 24 rfl rfl
theorem dksX5_now_6 : cX5_now.data.toList.drop 142 = dktX5_now_6 := dk_seg dksX5_now_5 24 rfl rfl
theorem dksX5_now_7 : cX5_now.data.toList.drop 143 = dktX5_now_7 := dk_seg dksX5_now_6 1 rfl rfl
theorem dksX5_now_8 : cX5_now.data.toList.drop 188 = dktX5_now_8 := dk_seg dksX5_now_7 45 rfl rfl
theorem dksX5_now_9 : cX5_now.data.toList.drop 212 = dktX5_now_9 := dk_seg dksX5_now_8 24 rfl rfl
theorem dX5_now_0 : decode cX5_now 0 = .ok (.aload_n 0, 1) := dk_42 (dk_at dksX5_now_0 0 rfl rfl)
theorem dX5_now_1 : decode cX5_now 1 = .ok (.iconst 0, 1) := dk_3 (dk_at dksX5_now_0 1 rfl rfl)
theorem dX5_now_2 : decode cX5_now 2 = .ok (.putfield 1, 3) := dk_181 0 1 (dk_at dksX5_now_0 2 rfl rfl)
theorem dX5_now_5 : decode cX5_now 5 = .ok (.iconst 0, 1) := dk_3 (dk_at dksX5_now_0 5 rfl rfl)
theorem dX5_now_6 : decode cX5_now 6 = .ok (.istore_n 2, 1) := dk_61 (dk_at dksX5_now_0 6 rfl rfl)
theorem dX5_now_7 : decode cX5_now 7 = .ok (.iconst 0, 1) := dk_3 (dk_at dksX5_now_0 7 rfl rfl)
theorem dX5_now_8 : decode cX5_now 8 = .ok (.istore_n 3, 1) := dk_62 (dk_at dksX5_now_0 8 rfl rfl)
theorem dX5_now_9 : decode cX5_now 9 = .ok (.iconst 0, 1) := dk_3 (dk_at dksX5_now_0 9 rfl rfl)
theorem dX5_now_10 : decode cX5_now 10 = .ok (.istore 4, 2) := dk_54 4 (dk_at dksX5_now_0 10 rfl rfl)
theorem dX5_now_12 : decode cX5_now 12 = .ok (.iconst 0, 1) := dk_3 (dk_at dksX5_now_0 12 rfl rfl)
theorem dX5_now_13 : decode cX5_now 13 = .ok (.istore 5, 2) := dk_54 5 (dk_at dksX5_now_0 13 rfl rfl)
theorem dX5_now_15 : decode cX5_now 15 = .ok (.iconst 0, 1) := dk_3 (dk_at dksX5_now_0 15 rfl rfl)
theorem dX5_now_16 : decode cX5_now 16 = .ok (.istore 6, 2) := dk_54 6 (dk_at dksX5_now_0 16 rfl rfl)
theorem dX5_now_18 : decode cX5_now 18 = .ok (.iload 6, 2) := dk_21 6 (dk_at dksX5_now_0 18 rfl rfl)
theorem dX5_now_20 : decode cX5_now 20 = .ok (.aload_n 0, 1) := dk_42 (dk_at dksX5_now_0 20 rfl rfl)
theorem dX5_now_21 : decode cX5_now 21 = .ok (.getfield 33, 3) := dk_180 0 33 (dk_at dksX5_now_0 21 rfl rfl)
theorem dX5_now_24 : decode cX5_now 24 = .ok (.iconst 2, 1) := dk_5 (dk_at dksX5_now_1 0 rfl rfl)
theorem dX5_now_25 : decode cX5_now 25 = .ok (.iaload, 1) := dk_46 (dk_at dksX5_now_1 1 rfl rfl)
theorem dX5_now_26 : decode cX5_now 26 = .ok (.if_icmp .ge 63, 3) := dk_162 0 63 (dk_at dksX5_now_1 2 rfl rfl)
theorem dX5_now_29 : decode cX5_now 29 = .ok (.iload_n 2, 1) := dk_28 (dk_at dksX5_now_1 5 rfl rfl)
theorem dX5_now_30 : decode cX5_now 30 = .ok (.aload_n 0, 1) := dk_42 (dk_at dksX5_now_1 6 rfl rfl)
theorem dX5_now_31 : decode cX5_now 31 = .ok (.getfield 33, 3) := dk_180 0 33 (dk_at dksX5_now_1 7 rfl rfl)
theorem dX5_now_34 : decode cX5_now 34 = .ok (.bipush 108, 2) := dk_16 108 (dk_at dksX5_now_1 10 rfl rfl)
theorem dX5_now_36 : decode cX5_now 36 = .ok (.iload 6, 2) := dk_21 6 (dk_at dksX5_now_1 12 rfl rfl)
theorem dX5_now_38 : decode cX5_now 38 = .ok (.iadd, 1) := dk_96 (dk_at dksX5_now_1 14 rfl rfl)
theorem dX5_now_39 : decode cX5_now 39 = .ok (.iaload, 1) := dk_46 (dk_at dksX5_now_1 15 rfl rfl)
theorem dX5_now_40 : decode cX5_now 40 = .ok (.aload_n 0, 1) := dk_42 (dk_at dksX5_now_1 16 rfl rfl)
theorem dX5_now_41 : decode cX5_now 41 = .ok (.getfield 33, 3) := dk_180 0 33 (dk_at dksX5_now_1 17 rfl rfl)
theorem dX5_now_44 : decode cX5_now 44 = .ok (.bipush 79, 2) := dk_16 79 (dk_at dksX5_now_1 20 rfl rfl)
theorem dX5_now_46 : decode cX5_now 46 = .ok (.iload 6, 2) := dk_21 6 (dk_at dksX5_now_1 22 rfl rfl)
theorem dX5_now_48 : decode cX5_now 48 = .ok (.iadd, 1) := dk_96 (dk_at dksX5_now_2 0 rfl rfl)
theorem dX5_now_49 : decode cX5_now 49 = .ok (.iaload, 1) := dk_46 (dk_at dksX5_now_2 1 rfl rfl)
theorem dX5_now_50 : decode cX5_now 50 = .ok (.if_icmp .ne 10, 3) := dk_160 0 10 (dk_at dksX5_now_2 2 rfl rfl)
theorem dX5_now_53 : decode cX5_now 53 = .ok (.iconst 1, 1) := dk_4 (dk_at dksX5_now_2 5 rfl rfl)
theorem dX5_now_54 : decode cX5_now 54 = .ok (.iload 6, 2) := dk_21 6 (dk_at dksX5_now_2 6 rfl rfl)
theorem dX5_now_56 : decode cX5_now 56 = .ok (.ishl, 1) := dk_120 (dk_at dksX5_now_2 8 rfl rfl)
theorem dX5_now_57 : decode cX5_now 57 = .ok (.goto 4, 3) := dk_167 0 4 (dk_at dksX5_now_2 9 rfl rfl)
theorem dX5_now_60 : decode cX5_now 60 = .ok (.iconst 0, 1) := dk_3 (dk_at dksX5_now_2 12 rfl rfl)
theorem dX5_now_61 : decode cX5_now 61 = .ok (.ior, 1) := dk_128 (dk_at dksX5_now_2 13 rfl rfl)
theorem dX5_now_62 : decode cX5_now 62 = .ok (.istore_n 2, 1) := dk_61 (dk_at dksX5_now_2 14 rfl rfl)
theorem dX5_now_63 : decode cX5_now 63 = .ok (.iload_n 3, 1) := dk_29 (dk_at dksX5_now_2 15 rfl rfl)
theorem dX5_now_64 : decode cX5_now 64 = .ok (.aload_n 0, 1) := dk_42 (dk_at dksX5_now_2 16 rfl rfl)
theorem dX5_now_65 : decode cX5_now 65 = .ok (.iload 6, 2) := dk_21 6 (dk_at dksX5_now_2 17 rfl rfl)
theorem dX5_now_67 : decode cX5_now 67 = .ok (.invokevirtual 309, 3) := dk_182 1 53 (dk_at dksX5_now_2 19 rfl rfl)
theorem dX5_now_70 : decode cX5_now 70 = .ok (.ifCond .ne 10, 3) := dk_154 0 10 (dk_at dksX5_now_3 0 rfl rfl)
theorem dX5_now_73 : decode cX5_now 73 = .ok (.iconst 1, 1) := dk_4 (dk_at dksX5_now_3 3 rfl rfl)
theorem dX5_now_74 : decode cX5_now 74 = .ok (.iload 6, 2) := dk_21 6 (dk_at dksX5_now_3 4 rfl rfl)
theorem dX5_now_76 : decode cX5_now 76 = .ok (.ishl, 1) := dk_120 (dk_at dksX5_now_3 6 rfl rfl)
theorem dX5_now_77 : decode cX5_now 77 = .ok (.goto 4, 3) := dk_167 0 4 (dk_at dksX5_now_3 7 rfl rfl)
theorem dX5_now_80 : decode cX5_now 80 = .ok (.iconst 0, 1) := dk_3 (dk_at dksX5_now_3 10 rfl rfl)
theorem dX5_now_81 : decode cX5_now 81 = .ok (.ior, 1) := dk_128 (dk_at dksX5_now_3 11 rfl rfl)
theorem dX5_now_82 : decode cX5_now 82 = .ok (.istore_n 3, 1) := dk_62 (dk_at dksX5_now_3 12 rfl rfl)
theorem dX5_now_83 : decode cX5_now 83 = .ok (.iinc 6 1, 3) := dk_132 6 1 (dk_at dksX5_now_3 13 rfl rfl)
theorem dX5_now_86 : decode cX5_now 86 = .ok (.goto (-68), 3) := dk_167 255 188 (dk_at dksX5_now_3 16 rfl rfl)
theorem dX5_now_89 : decode cX5_now 89 = .ok (.iconst 0, 1) := dk_3 (dk_at dksX5_now_3 19 rfl rfl)
theorem dX5_now_90 : decode cX5_now 90 = .ok (.istore 6, 2) := dk_54 6 (dk_at dksX5_now_3 20 rfl rfl)
theorem dX5_now_92 : decode cX5_now 92 = .ok (.iload 6, 2) := dk_21 6 (dk_at dksX5_now_3 22 rfl rfl)
theorem dX5_now_94 : decode cX5_now 94 = .ok (.aload_n 0, 1) := dk_42 (dk_at dksX5_now_4 0 rfl rfl)
theorem dX5_now_95 : decode cX5_now 95 = .ok (.getfield 33, 3) := dk_180 0 33 (dk_at dksX5_now_4 1 rfl rfl)
theorem dX5_now_98 : decode cX5_now 98 = .ok (.iconst 0, 1) := dk_3 (dk_at dksX5_now_4 4 rfl rfl)
theorem dX5_now_99 : decode cX5_now 99 = .ok (.iaload, 1) := dk_46 (dk_at dksX5_now_4 5 rfl rfl)
theorem dX5_now_100 : decode cX5_now 100 = .ok (.if_icmp .ge 42, 3) := dk_162 0 42 (dk_at dksX5_now_4 6 rfl rfl)
theorem dX5_now_103 : decode cX5_now 103 = .ok (.iload 4, 2) := dk_21 4 (dk_at dksX5_now_4 9 rfl rfl)
theorem dX5_now_105 : decode cX5_now 105 = .ok (.aload_n 0, 1) := dk_42 (dk_at dksX5_now_4 11 rfl rfl)
theorem dX5_now_106 : decode cX5_now 106 = .ok (.getfield 33, 3) := dk_180 0 33 (dk_at dksX5_now_4 12 rfl rfl)
theorem dX5_now_109 : decode cX5_now 109 = .ok (.bipush 94, 2) := dk_16 94 (dk_at dksX5_now_4 15 rfl rfl)
theorem dX5_now_111 : decode cX5_now 111 = .ok (.iload 6, 2) := dk_21 6 (dk_at dksX5_now_4 17 rfl rfl)
theorem dX5_now_113 : decode cX5_now 113 = .ok (.iadd, 1) := dk_96 (dk_at dksX5_now_4 19 rfl rfl)
theorem dX5_now_114 : decode cX5_now 114 = .ok (.iaload, 1) := dk_46 (dk_at dksX5_now_4 20 rfl rfl)
theorem dX5_now_115 : decode cX5_now 115 = .ok (.iadd, 1) := dk_96 (dk_at dksX5_now_4 21 rfl rfl)
theorem dX5_now_116 : decode cX5_now 116 = .ok (.istore 4, 2) := dk_54 4 (dk_at dksX5_now_4 22 rfl rfl)
theorem dX5_now_118 : decode cX5_now 118 = .ok (.iload 5, 2) := dk_21 5 (dk_at dksX5_now_5 0 rfl rfl)
theorem dX5_now_120 : decode cX5_now 120 = .ok (.aload_n 0, 1) := dk_42 (dk_at dksX5_now_5 2 rfl rfl)
theorem dX5_now_121 : decode cX5_now 121 = .ok (.getfield 33, 3) := dk_180 0 33 (dk_at dksX5_now_5 3 rfl rfl)
theorem dX5_now_124 : decode cX5_now 124 = .ok (.bipush 101, 2) := dk_16 101 (dk_at dksX5_now_5 6 rfl rfl)
theorem dX5_now_126 : decode cX5_now 126 = .ok (.iload 6, 2) := dk_21 6 (dk_at dksX5_now_5 8 rfl rfl)
theorem dX5_now_128 : decode cX5_now 128 = .ok (.iadd, 1) := dk_96 (dk_at dksX5_now_5 10 rfl rfl)
theorem dX5_now_129 : decode cX5_now 129 = .ok (.iaload, 1) := dk_46 (dk_at dksX5_now_5 11 rfl rfl)
theorem dX5_now_130 : decode cX5_now 130 = .ok (.invokestatic 315, 3) := dk_184 1 59 (dk_at dksX5_now_5 12 rfl rfl)
theorem dX5_now_133 : decode cX5_now 133 = .ok (.iadd, 1) := dk_96 (dk_at dksX5_now_5 15 rfl rfl)
theorem dX5_now_134 : decode cX5_now 134 = .ok (.istore 5, 2) := dk_54 5 (dk_at dksX5_now_5 16 rfl rfl)
theorem dX5_now_136 : decode cX5_now 136 = .ok (.iinc 6 1, 3) := dk_132 6 1 (dk_at dksX5_now_5 18 rfl rfl)
theorem dX5_now_139 : decode cX5_now 139 = .ok (.goto (-47), 3) := dk_167 255 209 (dk_at dksX5_now_5 21 rfl rfl)
theorem dX5_now_142 : decode cX5_now 142 = .ok (.iload_n 1, 1) := dk_27 (dk_at dksX5_now_6 0 rfl rfl)
theorem dX5_now_143 : decode cX5_now 143 = .ok (.tableswitch 84 0 7 #[45, 53, 58, 61, 69, 77, 79, 81], 45) := by decide +kernel
theorem dX5_now_188 : decode cX5_now 188 = .ok (.aload_n 0, 1) := dk_42 (dk_at dksX5_now_8 0 rfl rfl)
theorem dX5_now_189 : decode cX5_now 189 = .ok (.getfield 33, 3) := dk_180 0 33 (dk_at dksX5_now_8 1 rfl rfl)
theorem dX5_now_192 : decode cX5_now 192 = .ok (.bipush 91, 2) := dk_16 91 (dk_at dksX5_now_8 4 rfl rfl)
theorem dX5_now_194 : decode cX5_now 194 = .ok (.iaload, 1) := dk_46 (dk_at dksX5_now_8 6 rfl rfl)
theorem dX5_now_195 : decode cX5_now 195 = .ok (.ireturn, 1) := dk_172 (dk_at dksX5_now_8 7 rfl rfl)
theorem dX5_now_196 : decode cX5_now 196 = .ok (.aload_n 0, 1) := dk_42 (dk_at dksX5_now_8 8 rfl rfl)
theorem dX5_now_197 : decode cX5_now 197 = .ok (.invokevirtual 318, 3) := dk_182 1 62 (dk_at dksX5_now_8 9 rfl rfl)
theorem dX5_now_200 : decode cX5_now 200 = .ok (.ireturn, 1) := dk_172 (dk_at dksX5_now_8 12 rfl rfl)
theorem dX5_now_201 : decode cX5_now 201 = .ok (.iload 4, 2) := dk_21 4 (dk_at dksX5_now_8 13 rfl rfl)
theorem dX5_now_203 : decode cX5_now 203 = .ok (.ireturn, 1) := dk_172 (dk_at dksX5_now_8 15 rfl rfl)
theorem dX5_now_204 : decode cX5_now 204 = .ok (.aload_n 0, 1) := dk_42 (dk_at dksX5_now_8 16 rfl rfl)
theorem dX5_now_205 : decode cX5_now 205 = .ok (.getfield 33, 3) := dk_180 0 33 (dk_at dksX5_now_8 17 rfl rfl)
theorem dX5_now_208 : decode cX5_now 208 = .ok (.bipush 92, 2) := dk_16 92 (dk_at dksX5_now_8 20 rfl rfl)
theorem dX5_now_210 : decode cX5_now 210 = .ok (.iaload, 1) := dk_46 (dk_at dksX5_now_8 22 rfl rfl)
theorem dX5_now_211 : decode cX5_now 211 = .ok (.ireturn, 1) := dk_172 (dk_at dksX5_now_8 23 rfl rfl)
theorem dX5_now_212 : decode cX5_now 212 = .ok (.aload_n 0, 1) := dk_42 (dk_at dksX5_now_9 0 rfl rfl)
theorem dX5_now_213 : decode cX5_now 213 = .ok (.getfield 33, 3) := dk_180 0 33 (dk_at dksX5_now_9 1 rfl rfl)
theorem dX5_now_216 : decode cX5_now 216 = .ok (.bipush 93, 2) := dk_16 93 (dk_at dksX5_now_9 4 rfl rfl)
theorem dX5_now_218 : decode cX5_now 218 = .ok (.iaload, 1) := dk_46 (dk_at dksX5_now_9 6 rfl rfl)
theorem dX5_now_219 : decode cX5_now 219 = .ok (.ireturn, 1) := dk_172 (dk_at dksX5_now_9 7 rfl rfl)
theorem dX5_now_220 : decode cX5_now 220 = .ok (.iload_n 2, 1) := dk_28 (dk_at dksX5_now_9 8 rfl rfl)
theorem dX5_now_221 : decode cX5_now 221 = .ok (.ireturn, 1) := dk_172 (dk_at dksX5_now_9 9 rfl rfl)
theorem dX5_now_222 : decode cX5_now 222 = .ok (.iload_n 3, 1) := dk_29 (dk_at dksX5_now_9 10 rfl rfl)
theorem dX5_now_223 : decode cX5_now 223 = .ok (.ireturn, 1) := dk_172 (dk_at dksX5_now_9 11 rfl rfl)
theorem dX5_now_224 : decode cX5_now 224 = .ok (.iload 5, 2) := dk_21 5 (dk_at dksX5_now_9 12 rfl rfl)
theorem dX5_now_226 : decode cX5_now 226 = .ok (.ireturn, 1) := dk_172 (dk_at dksX5_now_9 14 rfl rfl)
theorem dX5_now_227 : decode cX5_now 227 = .ok (.iconst (-1), 1) := dk_2 (dk_at dksX5_now_9 15 rfl rfl)
theorem dX5_now_228 : decode cX5_now 228 = .ok (.ireturn, 1) := dk_172 (dk_at dksX5_now_9 16 rfl rfl)
abbrev cX5_bits : ByteArray := prog_32_method_11_code
def yX5_bits : MethodName := ⟨RX5, "bits", "(I)I"⟩
def dkwX5_bits_0 : List UInt8 := [3, 60, 26, 61, 28, 153, 0, 15, 132, 1, 1, 28, 28, 4, 100, 126, 61, 167, 255, 243, 27, 172]
abbrev dktX5_bits_0 : List UInt8 := dkwX5_bits_0 ++ []
theorem dksX5_bits_0 : cX5_bits.data.toList.drop 0 = dktX5_bits_0 := by decide +kernel
theorem dX5_bits_0 : decode cX5_bits 0 = .ok (.iconst 0, 1) := dk_3 (dk_at dksX5_bits_0 0 rfl rfl)
theorem dX5_bits_1 : decode cX5_bits 1 = .ok (.istore_n 1, 1) := dk_60 (dk_at dksX5_bits_0 1 rfl rfl)
theorem dX5_bits_2 : decode cX5_bits 2 = .ok (.iload_n 0, 1) := dk_26 (dk_at dksX5_bits_0 2 rfl rfl)
theorem dX5_bits_3 : decode cX5_bits 3 = .ok (.istore_n 2, 1) := dk_61 (dk_at dksX5_bits_0 3 rfl rfl)
theorem dX5_bits_4 : decode cX5_bits 4 = .ok (.iload_n 2, 1) := dk_28 (dk_at dksX5_bits_0 4 rfl rfl)
theorem dX5_bits_5 : decode cX5_bits 5 = .ok (.ifCond .eq 15, 3) := dk_153 0 15 (dk_at dksX5_bits_0 5 rfl rfl)
theorem dX5_bits_8 : decode cX5_bits 8 = .ok (.iinc 1 1, 3) := dk_132 1 1 (dk_at dksX5_bits_0 8 rfl rfl)
theorem dX5_bits_11 : decode cX5_bits 11 = .ok (.iload_n 2, 1) := dk_28 (dk_at dksX5_bits_0 11 rfl rfl)
theorem dX5_bits_12 : decode cX5_bits 12 = .ok (.iload_n 2, 1) := dk_28 (dk_at dksX5_bits_0 12 rfl rfl)
theorem dX5_bits_13 : decode cX5_bits 13 = .ok (.iconst 1, 1) := dk_4 (dk_at dksX5_bits_0 13 rfl rfl)
theorem dX5_bits_14 : decode cX5_bits 14 = .ok (.isub, 1) := dk_100 (dk_at dksX5_bits_0 14 rfl rfl)
theorem dX5_bits_15 : decode cX5_bits 15 = .ok (.iand, 1) := dk_126 (dk_at dksX5_bits_0 15 rfl rfl)
theorem dX5_bits_16 : decode cX5_bits 16 = .ok (.istore_n 2, 1) := dk_61 (dk_at dksX5_bits_0 16 rfl rfl)
theorem dX5_bits_17 : decode cX5_bits 17 = .ok (.goto (-13), 3) := dk_167 255 243 (dk_at dksX5_bits_0 17 rfl rfl)
theorem dX5_bits_20 : decode cX5_bits 20 = .ok (.iload_n 1, 1) := dk_27 (dk_at dksX5_bits_0 20 rfl rfl)
theorem dX5_bits_21 : decode cX5_bits 21 = .ok (.ireturn, 1) := dk_172 (dk_at dksX5_bits_0 21 rfl rfl)
abbrev cX5_allLong : ByteArray := prog_32_method_48_code
def yX5_allLong : MethodName := ⟨RX5, "allLong", "()I"⟩
def dkwX5_allLong_1 : List UInt8 := [96, 60, 132, 2, 1, 167, 255, 231, 27, 172]
abbrev dktX5_allLong_1 : List UInt8 := dkwX5_allLong_1 ++ []
def dkwX5_allLong_0 : List UInt8 := [3, 60, 3, 61, 28, 42, 180, 0, 33, 5, 46, 162, 0, 21, 27, 42, 180, 0, 33, 16, 114, 28, 96, 46]
abbrev dktX5_allLong_0 : List UInt8 := dkwX5_allLong_0 ++ dktX5_allLong_1
theorem dksX5_allLong_0 : cX5_allLong.data.toList.drop 0 = dktX5_allLong_0 := by decide +kernel
theorem dksX5_allLong_1 : cX5_allLong.data.toList.drop 24 = dktX5_allLong_1 := dk_seg dksX5_allLong_0 24 rfl rfl
theorem dX5_allLong_0 : decode cX5_allLong 0 = .ok (.iconst 0, 1) := dk_3 (dk_at dksX5_allLong_0 0 rfl rfl)
theorem dX5_allLong_1 : decode cX5_allLong 1 = .ok (.istore_n 1, 1) := dk_60 (dk_at dksX5_allLong_0 1 rfl rfl)
theorem dX5_allLong_2 : decode cX5_allLong 2 = .ok (.iconst 0, 1) := dk_3 (dk_at dksX5_allLong_0 2 rfl rfl)
theorem dX5_allLong_3 : decode cX5_allLong 3 = .ok (.istore_n 2, 1) := dk_61 (dk_at dksX5_allLong_0 3 rfl rfl)
theorem dX5_allLong_4 : decode cX5_allLong 4 = .ok (.iload_n 2, 1) := dk_28 (dk_at dksX5_allLong_0 4 rfl rfl)
theorem dX5_allLong_5 : decode cX5_allLong 5 = .ok (.aload_n 0, 1) := dk_42 (dk_at dksX5_allLong_0 5 rfl rfl)
theorem dX5_allLong_6 : decode cX5_allLong 6 = .ok (.getfield 33, 3) := dk_180 0 33 (dk_at dksX5_allLong_0 6 rfl rfl)
theorem dX5_allLong_9 : decode cX5_allLong 9 = .ok (.iconst 2, 1) := dk_5 (dk_at dksX5_allLong_0 9 rfl rfl)
theorem dX5_allLong_10 : decode cX5_allLong 10 = .ok (.iaload, 1) := dk_46 (dk_at dksX5_allLong_0 10 rfl rfl)
theorem dX5_allLong_11 : decode cX5_allLong 11 = .ok (.if_icmp .ge 21, 3) := dk_162 0 21 (dk_at dksX5_allLong_0 11 rfl rfl)
theorem dX5_allLong_14 : decode cX5_allLong 14 = .ok (.iload_n 1, 1) := dk_27 (dk_at dksX5_allLong_0 14 rfl rfl)
theorem dX5_allLong_15 : decode cX5_allLong 15 = .ok (.aload_n 0, 1) := dk_42 (dk_at dksX5_allLong_0 15 rfl rfl)
theorem dX5_allLong_16 : decode cX5_allLong 16 = .ok (.getfield 33, 3) := dk_180 0 33 (dk_at dksX5_allLong_0 16 rfl rfl)
theorem dX5_allLong_19 : decode cX5_allLong 19 = .ok (.bipush 114, 2) := dk_16 114 (dk_at dksX5_allLong_0 19 rfl rfl)
theorem dX5_allLong_21 : decode cX5_allLong 21 = .ok (.iload_n 2, 1) := dk_28 (dk_at dksX5_allLong_0 21 rfl rfl)
theorem dX5_allLong_22 : decode cX5_allLong 22 = .ok (.iadd, 1) := dk_96 (dk_at dksX5_allLong_0 22 rfl rfl)
theorem dX5_allLong_23 : decode cX5_allLong 23 = .ok (.iaload, 1) := dk_46 (dk_at dksX5_allLong_0 23 rfl rfl)
theorem dX5_allLong_24 : decode cX5_allLong 24 = .ok (.iadd, 1) := dk_96 (dk_at dksX5_allLong_1 0 rfl rfl)
theorem dX5_allLong_25 : decode cX5_allLong 25 = .ok (.istore_n 1, 1) := dk_60 (dk_at dksX5_allLong_1 1 rfl rfl)
theorem dX5_allLong_26 : decode cX5_allLong 26 = .ok (.iinc 2 1, 3) := dk_132 2 1 (dk_at dksX5_allLong_1 2 rfl rfl)
theorem dX5_allLong_29 : decode cX5_allLong 29 = .ok (.goto (-25), 3) := dk_167 255 231 (dk_at dksX5_allLong_1 5 rfl rfl)
theorem dX5_allLong_32 : decode cX5_allLong 32 = .ok (.iload_n 1, 1) := dk_27 (dk_at dksX5_allLong_1 8 rfl rfl)
theorem dX5_allLong_33 : decode cX5_allLong 33 = .ok (.ireturn, 1) := dk_172 (dk_at dksX5_allLong_1 9 rfl rfl)
abbrev cX5_cross : ByteArray := prog_32_method_60_code
def yX5_cross : MethodName := ⟨RX5, "cross", "(II)I"⟩
def dkwX5_cross_1 : List UInt8 := [27, 28, 182, 1, 36, 62, 29, 158, 0, 5, 29, 172, 42, 182, 1, 71, 42, 27, 28, 182, 1, 74, 3, 172]
abbrev dktX5_cross_1 : List UInt8 := dkwX5_cross_1 ++ []
def dkwX5_cross_0 : List UInt8 := [42, 3, 181, 0, 1, 42, 27, 182, 1, 46, 153, 0, 11, 42, 28, 182, 1, 56, 154, 0, 5, 2, 172, 42]
abbrev dktX5_cross_0 : List UInt8 := dkwX5_cross_0 ++ dktX5_cross_1
theorem dksX5_cross_0 : cX5_cross.data.toList.drop 0 = dktX5_cross_0 := by decide +kernel
theorem dksX5_cross_1 : cX5_cross.data.toList.drop 24 = dktX5_cross_1 := dk_seg dksX5_cross_0 24 rfl rfl
theorem dX5_cross_0 : decode cX5_cross 0 = .ok (.aload_n 0, 1) := dk_42 (dk_at dksX5_cross_0 0 rfl rfl)
theorem dX5_cross_1 : decode cX5_cross 1 = .ok (.iconst 0, 1) := dk_3 (dk_at dksX5_cross_0 1 rfl rfl)
theorem dX5_cross_2 : decode cX5_cross 2 = .ok (.putfield 1, 3) := dk_181 0 1 (dk_at dksX5_cross_0 2 rfl rfl)
theorem dX5_cross_5 : decode cX5_cross 5 = .ok (.aload_n 0, 1) := dk_42 (dk_at dksX5_cross_0 5 rfl rfl)
theorem dX5_cross_6 : decode cX5_cross 6 = .ok (.iload_n 1, 1) := dk_27 (dk_at dksX5_cross_0 6 rfl rfl)
theorem dX5_cross_7 : decode cX5_cross 7 = .ok (.invokevirtual 302, 3) := dk_182 1 46 (dk_at dksX5_cross_0 7 rfl rfl)
theorem dX5_cross_10 : decode cX5_cross 10 = .ok (.ifCond .eq 11, 3) := dk_153 0 11 (dk_at dksX5_cross_0 10 rfl rfl)
theorem dX5_cross_13 : decode cX5_cross 13 = .ok (.aload_n 0, 1) := dk_42 (dk_at dksX5_cross_0 13 rfl rfl)
theorem dX5_cross_14 : decode cX5_cross 14 = .ok (.iload_n 2, 1) := dk_28 (dk_at dksX5_cross_0 14 rfl rfl)
theorem dX5_cross_15 : decode cX5_cross 15 = .ok (.invokevirtual 312, 3) := dk_182 1 56 (dk_at dksX5_cross_0 15 rfl rfl)
theorem dX5_cross_18 : decode cX5_cross 18 = .ok (.ifCond .ne 5, 3) := dk_154 0 5 (dk_at dksX5_cross_0 18 rfl rfl)
theorem dX5_cross_21 : decode cX5_cross 21 = .ok (.iconst (-1), 1) := dk_2 (dk_at dksX5_cross_0 21 rfl rfl)
theorem dX5_cross_22 : decode cX5_cross 22 = .ok (.ireturn, 1) := dk_172 (dk_at dksX5_cross_0 22 rfl rfl)
theorem dX5_cross_23 : decode cX5_cross 23 = .ok (.aload_n 0, 1) := dk_42 (dk_at dksX5_cross_0 23 rfl rfl)
theorem dX5_cross_24 : decode cX5_cross 24 = .ok (.iload_n 1, 1) := dk_27 (dk_at dksX5_cross_1 0 rfl rfl)
theorem dX5_cross_25 : decode cX5_cross 25 = .ok (.iload_n 2, 1) := dk_28 (dk_at dksX5_cross_1 1 rfl rfl)
theorem dX5_cross_26 : decode cX5_cross 26 = .ok (.invokevirtual 292, 3) := dk_182 1 36 (dk_at dksX5_cross_1 2 rfl rfl)
theorem dX5_cross_29 : decode cX5_cross 29 = .ok (.istore_n 3, 1) := dk_62 (dk_at dksX5_cross_1 5 rfl rfl)
theorem dX5_cross_30 : decode cX5_cross 30 = .ok (.iload_n 3, 1) := dk_29 (dk_at dksX5_cross_1 6 rfl rfl)
theorem dX5_cross_31 : decode cX5_cross 31 = .ok (.ifCond .le 5, 3) := dk_158 0 5 (dk_at dksX5_cross_1 7 rfl rfl)
theorem dX5_cross_34 : decode cX5_cross 34 = .ok (.iload_n 3, 1) := dk_29 (dk_at dksX5_cross_1 10 rfl rfl)
theorem dX5_cross_35 : decode cX5_cross 35 = .ok (.ireturn, 1) := dk_172 (dk_at dksX5_cross_1 11 rfl rfl)
theorem dX5_cross_36 : decode cX5_cross 36 = .ok (.aload_n 0, 1) := dk_42 (dk_at dksX5_cross_1 12 rfl rfl)
theorem dX5_cross_37 : decode cX5_cross 37 = .ok (.invokevirtual 327, 3) := dk_182 1 71 (dk_at dksX5_cross_1 13 rfl rfl)
theorem dX5_cross_40 : decode cX5_cross 40 = .ok (.aload_n 0, 1) := dk_42 (dk_at dksX5_cross_1 16 rfl rfl)
theorem dX5_cross_41 : decode cX5_cross 41 = .ok (.iload_n 1, 1) := dk_27 (dk_at dksX5_cross_1 17 rfl rfl)
theorem dX5_cross_42 : decode cX5_cross 42 = .ok (.iload_n 2, 1) := dk_28 (dk_at dksX5_cross_1 18 rfl rfl)
theorem dX5_cross_43 : decode cX5_cross 43 = .ok (.invokevirtual 330, 3) := dk_182 1 74 (dk_at dksX5_cross_1 19 rfl rfl)
theorem dX5_cross_46 : decode cX5_cross 46 = .ok (.iconst 0, 1) := dk_3 (dk_at dksX5_cross_1 22 rfl rfl)
theorem dX5_cross_47 : decode cX5_cross 47 = .ok (.ireturn, 1) := dk_172 (dk_at dksX5_cross_1 23 rfl rfl)
abbrev cX5_keep : ByteArray := prog_32_method_68_code
def yX5_keep : MethodName := ⟨RX5, "keep", "()V"⟩
def dkwX5_keep_3 : List UInt8 := [27, 96, 46, 79, 132, 1, 1, 167, 255, 224, 42, 89, 180, 1, 19, 4, 96, 181, 1, 19, 177]
abbrev dktX5_keep_3 : List UInt8 := dkwX5_keep_3 ++ []
def dkwX5_keep_2 : List UInt8 := [16, 47, 162, 0, 32, 42, 180, 0, 50, 16, 47, 42, 180, 1, 19, 104, 27, 96, 42, 180, 0, 33, 16, 91]
abbrev dktX5_keep_2 : List UInt8 := dkwX5_keep_2 ++ dktX5_keep_3
def dkwX5_keep_1 : List UInt8 := [180, 0, 50, 27, 16, 47, 96, 46, 79, 132, 1, 1, 167, 255, 231, 42, 16, 7, 181, 1, 19, 3, 60, 27]
abbrev dktX5_keep_1 : List UInt8 := dkwX5_keep_1 ++ dktX5_keep_2
def dkwX5_keep_0 : List UInt8 := [42, 180, 1, 19, 16, 8, 160, 0, 39, 3, 60, 27, 17, 1, 73, 162, 0, 24, 42, 180, 0, 50, 27, 42]
abbrev dktX5_keep_0 : List UInt8 := dkwX5_keep_0 ++ dktX5_keep_1
theorem dksX5_keep_0 : cX5_keep.data.toList.drop 0 = dktX5_keep_0 := by decide +kernel
theorem dksX5_keep_1 : cX5_keep.data.toList.drop 24 = dktX5_keep_1 := dk_seg dksX5_keep_0 24 rfl rfl
theorem dksX5_keep_2 : cX5_keep.data.toList.drop 48 = dktX5_keep_2 := dk_seg dksX5_keep_1 24 rfl rfl
theorem dksX5_keep_3 : cX5_keep.data.toList.drop 72 = dktX5_keep_3 := dk_seg dksX5_keep_2 24 rfl rfl
theorem dX5_keep_0 : decode cX5_keep 0 = .ok (.aload_n 0, 1) := dk_42 (dk_at dksX5_keep_0 0 rfl rfl)
theorem dX5_keep_1 : decode cX5_keep 1 = .ok (.getfield 275, 3) := dk_180 1 19 (dk_at dksX5_keep_0 1 rfl rfl)
theorem dX5_keep_4 : decode cX5_keep 4 = .ok (.bipush 8, 2) := dk_16 8 (dk_at dksX5_keep_0 4 rfl rfl)
theorem dX5_keep_6 : decode cX5_keep 6 = .ok (.if_icmp .ne 39, 3) := dk_160 0 39 (dk_at dksX5_keep_0 6 rfl rfl)
theorem dX5_keep_9 : decode cX5_keep 9 = .ok (.iconst 0, 1) := dk_3 (dk_at dksX5_keep_0 9 rfl rfl)
theorem dX5_keep_10 : decode cX5_keep 10 = .ok (.istore_n 1, 1) := dk_60 (dk_at dksX5_keep_0 10 rfl rfl)
theorem dX5_keep_11 : decode cX5_keep 11 = .ok (.iload_n 1, 1) := dk_27 (dk_at dksX5_keep_0 11 rfl rfl)
theorem dX5_keep_12 : decode cX5_keep 12 = .ok (.sipush 329, 3) := dk_17 1 73 (dk_at dksX5_keep_0 12 rfl rfl)
theorem dX5_keep_15 : decode cX5_keep 15 = .ok (.if_icmp .ge 24, 3) := dk_162 0 24 (dk_at dksX5_keep_0 15 rfl rfl)
theorem dX5_keep_18 : decode cX5_keep 18 = .ok (.aload_n 0, 1) := dk_42 (dk_at dksX5_keep_0 18 rfl rfl)
theorem dX5_keep_19 : decode cX5_keep 19 = .ok (.getfield 50, 3) := dk_180 0 50 (dk_at dksX5_keep_0 19 rfl rfl)
theorem dX5_keep_22 : decode cX5_keep 22 = .ok (.iload_n 1, 1) := dk_27 (dk_at dksX5_keep_0 22 rfl rfl)
theorem dX5_keep_23 : decode cX5_keep 23 = .ok (.aload_n 0, 1) := dk_42 (dk_at dksX5_keep_0 23 rfl rfl)
theorem dX5_keep_24 : decode cX5_keep 24 = .ok (.getfield 50, 3) := dk_180 0 50 (dk_at dksX5_keep_1 0 rfl rfl)
theorem dX5_keep_27 : decode cX5_keep 27 = .ok (.iload_n 1, 1) := dk_27 (dk_at dksX5_keep_1 3 rfl rfl)
theorem dX5_keep_28 : decode cX5_keep 28 = .ok (.bipush 47, 2) := dk_16 47 (dk_at dksX5_keep_1 4 rfl rfl)
theorem dX5_keep_30 : decode cX5_keep 30 = .ok (.iadd, 1) := dk_96 (dk_at dksX5_keep_1 6 rfl rfl)
theorem dX5_keep_31 : decode cX5_keep 31 = .ok (.iaload, 1) := dk_46 (dk_at dksX5_keep_1 7 rfl rfl)
theorem dX5_keep_32 : decode cX5_keep 32 = .ok (.iastore, 1) := dk_79 (dk_at dksX5_keep_1 8 rfl rfl)
theorem dX5_keep_33 : decode cX5_keep 33 = .ok (.iinc 1 1, 3) := dk_132 1 1 (dk_at dksX5_keep_1 9 rfl rfl)
theorem dX5_keep_36 : decode cX5_keep 36 = .ok (.goto (-25), 3) := dk_167 255 231 (dk_at dksX5_keep_1 12 rfl rfl)
theorem dX5_keep_39 : decode cX5_keep 39 = .ok (.aload_n 0, 1) := dk_42 (dk_at dksX5_keep_1 15 rfl rfl)
theorem dX5_keep_40 : decode cX5_keep 40 = .ok (.bipush 7, 2) := dk_16 7 (dk_at dksX5_keep_1 16 rfl rfl)
theorem dX5_keep_42 : decode cX5_keep 42 = .ok (.putfield 275, 3) := dk_181 1 19 (dk_at dksX5_keep_1 18 rfl rfl)
theorem dX5_keep_45 : decode cX5_keep 45 = .ok (.iconst 0, 1) := dk_3 (dk_at dksX5_keep_1 21 rfl rfl)
theorem dX5_keep_46 : decode cX5_keep 46 = .ok (.istore_n 1, 1) := dk_60 (dk_at dksX5_keep_1 22 rfl rfl)
theorem dX5_keep_47 : decode cX5_keep 47 = .ok (.iload_n 1, 1) := dk_27 (dk_at dksX5_keep_1 23 rfl rfl)
theorem dX5_keep_48 : decode cX5_keep 48 = .ok (.bipush 47, 2) := dk_16 47 (dk_at dksX5_keep_2 0 rfl rfl)
theorem dX5_keep_50 : decode cX5_keep 50 = .ok (.if_icmp .ge 32, 3) := dk_162 0 32 (dk_at dksX5_keep_2 2 rfl rfl)
theorem dX5_keep_53 : decode cX5_keep 53 = .ok (.aload_n 0, 1) := dk_42 (dk_at dksX5_keep_2 5 rfl rfl)
theorem dX5_keep_54 : decode cX5_keep 54 = .ok (.getfield 50, 3) := dk_180 0 50 (dk_at dksX5_keep_2 6 rfl rfl)
theorem dX5_keep_57 : decode cX5_keep 57 = .ok (.bipush 47, 2) := dk_16 47 (dk_at dksX5_keep_2 9 rfl rfl)
theorem dX5_keep_59 : decode cX5_keep 59 = .ok (.aload_n 0, 1) := dk_42 (dk_at dksX5_keep_2 11 rfl rfl)
theorem dX5_keep_60 : decode cX5_keep 60 = .ok (.getfield 275, 3) := dk_180 1 19 (dk_at dksX5_keep_2 12 rfl rfl)
theorem dX5_keep_63 : decode cX5_keep 63 = .ok (.imul, 1) := dk_104 (dk_at dksX5_keep_2 15 rfl rfl)
theorem dX5_keep_64 : decode cX5_keep 64 = .ok (.iload_n 1, 1) := dk_27 (dk_at dksX5_keep_2 16 rfl rfl)
theorem dX5_keep_65 : decode cX5_keep 65 = .ok (.iadd, 1) := dk_96 (dk_at dksX5_keep_2 17 rfl rfl)
theorem dX5_keep_66 : decode cX5_keep 66 = .ok (.aload_n 0, 1) := dk_42 (dk_at dksX5_keep_2 18 rfl rfl)
theorem dX5_keep_67 : decode cX5_keep 67 = .ok (.getfield 33, 3) := dk_180 0 33 (dk_at dksX5_keep_2 19 rfl rfl)
theorem dX5_keep_70 : decode cX5_keep 70 = .ok (.bipush 91, 2) := dk_16 91 (dk_at dksX5_keep_2 22 rfl rfl)
theorem dX5_keep_72 : decode cX5_keep 72 = .ok (.iload_n 1, 1) := dk_27 (dk_at dksX5_keep_3 0 rfl rfl)
theorem dX5_keep_73 : decode cX5_keep 73 = .ok (.iadd, 1) := dk_96 (dk_at dksX5_keep_3 1 rfl rfl)
theorem dX5_keep_74 : decode cX5_keep 74 = .ok (.iaload, 1) := dk_46 (dk_at dksX5_keep_3 2 rfl rfl)
theorem dX5_keep_75 : decode cX5_keep 75 = .ok (.iastore, 1) := dk_79 (dk_at dksX5_keep_3 3 rfl rfl)
theorem dX5_keep_76 : decode cX5_keep 76 = .ok (.iinc 1 1, 3) := dk_132 1 1 (dk_at dksX5_keep_3 4 rfl rfl)
theorem dX5_keep_79 : decode cX5_keep 79 = .ok (.goto (-32), 3) := dk_167 255 224 (dk_at dksX5_keep_3 7 rfl rfl)
theorem dX5_keep_82 : decode cX5_keep 82 = .ok (.aload_n 0, 1) := dk_42 (dk_at dksX5_keep_3 10 rfl rfl)
theorem dX5_keep_83 : decode cX5_keep 83 = .ok (.dup, 1) := dk_89 (dk_at dksX5_keep_3 11 rfl rfl)
theorem dX5_keep_84 : decode cX5_keep 84 = .ok (.getfield 275, 3) := dk_180 1 19 (dk_at dksX5_keep_3 12 rfl rfl)
theorem dX5_keep_87 : decode cX5_keep 87 = .ok (.iconst 1, 1) := dk_4 (dk_at dksX5_keep_3 15 rfl rfl)
theorem dX5_keep_88 : decode cX5_keep 88 = .ok (.iadd, 1) := dk_96 (dk_at dksX5_keep_3 16 rfl rfl)
theorem dX5_keep_89 : decode cX5_keep 89 = .ok (.putfield 275, 3) := dk_181 1 19 (dk_at dksX5_keep_3 17 rfl rfl)
theorem dX5_keep_92 : decode cX5_keep 92 = .ok (.return_, 1) := dk_177 (dk_at dksX5_keep_3 20 rfl rfl)
abbrev cX5_crosses : ByteArray := prog_32_method_47_code
def yX5_crosses : MethodName := ⟨RX5, "crosses", "(II)V"⟩
def dkwX5_crosses_7 : List UInt8 := [180, 0, 33, 16, 120, 27, 96, 92, 46, 42, 180, 0, 33, 6, 28, 96, 46, 96, 79, 177]
abbrev dktX5_crosses_7 : List UInt8 := dkwX5_crosses_7 ++ []
def dkwX5_crosses_6 : List UInt8 := [100, 79, 42, 180, 0, 33, 16, 94, 28, 96, 92, 46, 42, 180, 0, 33, 6, 28, 96, 46, 96, 79, 42]
abbrev dktX5_crosses_6 : List UInt8 := dkwX5_crosses_6 ++ dktX5_crosses_7
def dkwX5_crosses_5 : List UInt8 := [184, 1, 1, 154, 0, 63, 42, 180, 0, 33, 16, 114, 27, 96, 92, 46, 42, 180, 0, 33, 6, 28, 96, 46]
abbrev dktX5_crosses_5 : List UInt8 := dkwX5_crosses_5 ++ dktX5_crosses_6
def dkwX5_crosses_4 : List UInt8 := [96, 79, 42, 180, 0, 33, 16, 126, 27, 96, 92, 46, 29, 96, 79, 167, 0, 75, 42, 27, 182, 1, 28, 28]
abbrev dktX5_crosses_4 : List UInt8 := dkwX5_crosses_4 ++ dktX5_crosses_5
def dkwX5_crosses_3 : List UInt8 := [42, 180, 0, 33, 16, 94, 28, 96, 92, 46, 29, 100, 79, 42, 180, 0, 33, 16, 114, 27, 96, 92, 46, 29]
abbrev dktX5_crosses_3 : List UInt8 := dkwX5_crosses_3 ++ dktX5_crosses_4
def dkwX5_crosses_2 : List UInt8 := [42, 28, 42, 180, 0, 33, 16, 114, 27, 96, 46, 42, 180, 0, 33, 16, 94, 28, 96, 46, 182, 1, 42, 62]
abbrev dktX5_crosses_2 : List UInt8 := dkwX5_crosses_2 ++ dktX5_crosses_3
def dkwX5_crosses_1 : List UInt8 := [42, 180, 0, 33, 16, 92, 92, 46, 4, 96, 79, 28, 42, 180, 0, 33, 16, 79, 27, 96, 46, 160, 0, 69]
abbrev dktX5_crosses_1 : List UInt8 := dkwX5_crosses_1 ++ dktX5_crosses_2
def dkwX5_crosses_0 : List UInt8 := [42, 180, 0, 33, 16, 108, 27, 96, 28, 79, 42, 180, 0, 33, 17, 0, 132, 27, 96, 92, 46, 4, 96, 79]
abbrev dktX5_crosses_0 : List UInt8 := dkwX5_crosses_0 ++ dktX5_crosses_1
theorem dksX5_crosses_0 : cX5_crosses.data.toList.drop 0 = dktX5_crosses_0 := by decide +kernel
theorem dksX5_crosses_1 : cX5_crosses.data.toList.drop 24 = dktX5_crosses_1 := dk_seg dksX5_crosses_0 24 rfl rfl
theorem dksX5_crosses_2 : cX5_crosses.data.toList.drop 48 = dktX5_crosses_2 := dk_seg dksX5_crosses_1 24 rfl rfl
theorem dksX5_crosses_3 : cX5_crosses.data.toList.drop 72 = dktX5_crosses_3 := dk_seg dksX5_crosses_2 24 rfl rfl
theorem dksX5_crosses_4 : cX5_crosses.data.toList.drop 96 = dktX5_crosses_4 := dk_seg dksX5_crosses_3 24 rfl rfl
theorem dksX5_crosses_5 : cX5_crosses.data.toList.drop 120 = dktX5_crosses_5 := dk_seg dksX5_crosses_4 24 rfl rfl
theorem dksX5_crosses_6 : cX5_crosses.data.toList.drop 144 = dktX5_crosses_6 := dk_seg dksX5_crosses_5 24 rfl rfl
theorem dksX5_crosses_7 : cX5_crosses.data.toList.drop 167 = dktX5_crosses_7 := dk_seg dksX5_crosses_6 23 rfl rfl
theorem dX5_crosses_0 : decode cX5_crosses 0 = .ok (.aload_n 0, 1) := dk_42 (dk_at dksX5_crosses_0 0 rfl rfl)
theorem dX5_crosses_1 : decode cX5_crosses 1 = .ok (.getfield 33, 3) := dk_180 0 33 (dk_at dksX5_crosses_0 1 rfl rfl)
theorem dX5_crosses_4 : decode cX5_crosses 4 = .ok (.bipush 108, 2) := dk_16 108 (dk_at dksX5_crosses_0 4 rfl rfl)
theorem dX5_crosses_6 : decode cX5_crosses 6 = .ok (.iload_n 1, 1) := dk_27 (dk_at dksX5_crosses_0 6 rfl rfl)
theorem dX5_crosses_7 : decode cX5_crosses 7 = .ok (.iadd, 1) := dk_96 (dk_at dksX5_crosses_0 7 rfl rfl)
theorem dX5_crosses_8 : decode cX5_crosses 8 = .ok (.iload_n 2, 1) := dk_28 (dk_at dksX5_crosses_0 8 rfl rfl)
theorem dX5_crosses_9 : decode cX5_crosses 9 = .ok (.iastore, 1) := dk_79 (dk_at dksX5_crosses_0 9 rfl rfl)
theorem dX5_crosses_10 : decode cX5_crosses 10 = .ok (.aload_n 0, 1) := dk_42 (dk_at dksX5_crosses_0 10 rfl rfl)
theorem dX5_crosses_11 : decode cX5_crosses 11 = .ok (.getfield 33, 3) := dk_180 0 33 (dk_at dksX5_crosses_0 11 rfl rfl)
theorem dX5_crosses_14 : decode cX5_crosses 14 = .ok (.sipush 132, 3) := dk_17 0 132 (dk_at dksX5_crosses_0 14 rfl rfl)
theorem dX5_crosses_17 : decode cX5_crosses 17 = .ok (.iload_n 1, 1) := dk_27 (dk_at dksX5_crosses_0 17 rfl rfl)
theorem dX5_crosses_18 : decode cX5_crosses 18 = .ok (.iadd, 1) := dk_96 (dk_at dksX5_crosses_0 18 rfl rfl)
theorem dX5_crosses_19 : decode cX5_crosses 19 = .ok (.dup2, 1) := dk_92 (dk_at dksX5_crosses_0 19 rfl rfl)
theorem dX5_crosses_20 : decode cX5_crosses 20 = .ok (.iaload, 1) := dk_46 (dk_at dksX5_crosses_0 20 rfl rfl)
theorem dX5_crosses_21 : decode cX5_crosses 21 = .ok (.iconst 1, 1) := dk_4 (dk_at dksX5_crosses_0 21 rfl rfl)
theorem dX5_crosses_22 : decode cX5_crosses 22 = .ok (.iadd, 1) := dk_96 (dk_at dksX5_crosses_0 22 rfl rfl)
theorem dX5_crosses_23 : decode cX5_crosses 23 = .ok (.iastore, 1) := dk_79 (dk_at dksX5_crosses_0 23 rfl rfl)
theorem dX5_crosses_24 : decode cX5_crosses 24 = .ok (.aload_n 0, 1) := dk_42 (dk_at dksX5_crosses_1 0 rfl rfl)
theorem dX5_crosses_25 : decode cX5_crosses 25 = .ok (.getfield 33, 3) := dk_180 0 33 (dk_at dksX5_crosses_1 1 rfl rfl)
theorem dX5_crosses_28 : decode cX5_crosses 28 = .ok (.bipush 92, 2) := dk_16 92 (dk_at dksX5_crosses_1 4 rfl rfl)
theorem dX5_crosses_30 : decode cX5_crosses 30 = .ok (.dup2, 1) := dk_92 (dk_at dksX5_crosses_1 6 rfl rfl)
theorem dX5_crosses_31 : decode cX5_crosses 31 = .ok (.iaload, 1) := dk_46 (dk_at dksX5_crosses_1 7 rfl rfl)
theorem dX5_crosses_32 : decode cX5_crosses 32 = .ok (.iconst 1, 1) := dk_4 (dk_at dksX5_crosses_1 8 rfl rfl)
theorem dX5_crosses_33 : decode cX5_crosses 33 = .ok (.iadd, 1) := dk_96 (dk_at dksX5_crosses_1 9 rfl rfl)
theorem dX5_crosses_34 : decode cX5_crosses 34 = .ok (.iastore, 1) := dk_79 (dk_at dksX5_crosses_1 10 rfl rfl)
theorem dX5_crosses_35 : decode cX5_crosses 35 = .ok (.iload_n 2, 1) := dk_28 (dk_at dksX5_crosses_1 11 rfl rfl)
theorem dX5_crosses_36 : decode cX5_crosses 36 = .ok (.aload_n 0, 1) := dk_42 (dk_at dksX5_crosses_1 12 rfl rfl)
theorem dX5_crosses_37 : decode cX5_crosses 37 = .ok (.getfield 33, 3) := dk_180 0 33 (dk_at dksX5_crosses_1 13 rfl rfl)
theorem dX5_crosses_40 : decode cX5_crosses 40 = .ok (.bipush 79, 2) := dk_16 79 (dk_at dksX5_crosses_1 16 rfl rfl)
theorem dX5_crosses_42 : decode cX5_crosses 42 = .ok (.iload_n 1, 1) := dk_27 (dk_at dksX5_crosses_1 18 rfl rfl)
theorem dX5_crosses_43 : decode cX5_crosses 43 = .ok (.iadd, 1) := dk_96 (dk_at dksX5_crosses_1 19 rfl rfl)
theorem dX5_crosses_44 : decode cX5_crosses 44 = .ok (.iaload, 1) := dk_46 (dk_at dksX5_crosses_1 20 rfl rfl)
theorem dX5_crosses_45 : decode cX5_crosses 45 = .ok (.if_icmp .ne 69, 3) := dk_160 0 69 (dk_at dksX5_crosses_1 21 rfl rfl)
theorem dX5_crosses_48 : decode cX5_crosses 48 = .ok (.aload_n 0, 1) := dk_42 (dk_at dksX5_crosses_2 0 rfl rfl)
theorem dX5_crosses_49 : decode cX5_crosses 49 = .ok (.iload_n 2, 1) := dk_28 (dk_at dksX5_crosses_2 1 rfl rfl)
theorem dX5_crosses_50 : decode cX5_crosses 50 = .ok (.aload_n 0, 1) := dk_42 (dk_at dksX5_crosses_2 2 rfl rfl)
theorem dX5_crosses_51 : decode cX5_crosses 51 = .ok (.getfield 33, 3) := dk_180 0 33 (dk_at dksX5_crosses_2 3 rfl rfl)
theorem dX5_crosses_54 : decode cX5_crosses 54 = .ok (.bipush 114, 2) := dk_16 114 (dk_at dksX5_crosses_2 6 rfl rfl)
theorem dX5_crosses_56 : decode cX5_crosses 56 = .ok (.iload_n 1, 1) := dk_27 (dk_at dksX5_crosses_2 8 rfl rfl)
theorem dX5_crosses_57 : decode cX5_crosses 57 = .ok (.iadd, 1) := dk_96 (dk_at dksX5_crosses_2 9 rfl rfl)
theorem dX5_crosses_58 : decode cX5_crosses 58 = .ok (.iaload, 1) := dk_46 (dk_at dksX5_crosses_2 10 rfl rfl)
theorem dX5_crosses_59 : decode cX5_crosses 59 = .ok (.aload_n 0, 1) := dk_42 (dk_at dksX5_crosses_2 11 rfl rfl)
theorem dX5_crosses_60 : decode cX5_crosses 60 = .ok (.getfield 33, 3) := dk_180 0 33 (dk_at dksX5_crosses_2 12 rfl rfl)
theorem dX5_crosses_63 : decode cX5_crosses 63 = .ok (.bipush 94, 2) := dk_16 94 (dk_at dksX5_crosses_2 15 rfl rfl)
theorem dX5_crosses_65 : decode cX5_crosses 65 = .ok (.iload_n 2, 1) := dk_28 (dk_at dksX5_crosses_2 17 rfl rfl)
theorem dX5_crosses_66 : decode cX5_crosses 66 = .ok (.iadd, 1) := dk_96 (dk_at dksX5_crosses_2 18 rfl rfl)
theorem dX5_crosses_67 : decode cX5_crosses 67 = .ok (.iaload, 1) := dk_46 (dk_at dksX5_crosses_2 19 rfl rfl)
theorem dX5_crosses_68 : decode cX5_crosses 68 = .ok (.invokevirtual 298, 3) := dk_182 1 42 (dk_at dksX5_crosses_2 20 rfl rfl)
theorem dX5_crosses_71 : decode cX5_crosses 71 = .ok (.istore_n 3, 1) := dk_62 (dk_at dksX5_crosses_2 23 rfl rfl)
theorem dX5_crosses_72 : decode cX5_crosses 72 = .ok (.aload_n 0, 1) := dk_42 (dk_at dksX5_crosses_3 0 rfl rfl)
theorem dX5_crosses_73 : decode cX5_crosses 73 = .ok (.getfield 33, 3) := dk_180 0 33 (dk_at dksX5_crosses_3 1 rfl rfl)
theorem dX5_crosses_76 : decode cX5_crosses 76 = .ok (.bipush 94, 2) := dk_16 94 (dk_at dksX5_crosses_3 4 rfl rfl)
theorem dX5_crosses_78 : decode cX5_crosses 78 = .ok (.iload_n 2, 1) := dk_28 (dk_at dksX5_crosses_3 6 rfl rfl)
theorem dX5_crosses_79 : decode cX5_crosses 79 = .ok (.iadd, 1) := dk_96 (dk_at dksX5_crosses_3 7 rfl rfl)
theorem dX5_crosses_80 : decode cX5_crosses 80 = .ok (.dup2, 1) := dk_92 (dk_at dksX5_crosses_3 8 rfl rfl)
theorem dX5_crosses_81 : decode cX5_crosses 81 = .ok (.iaload, 1) := dk_46 (dk_at dksX5_crosses_3 9 rfl rfl)
theorem dX5_crosses_82 : decode cX5_crosses 82 = .ok (.iload_n 3, 1) := dk_29 (dk_at dksX5_crosses_3 10 rfl rfl)
theorem dX5_crosses_83 : decode cX5_crosses 83 = .ok (.isub, 1) := dk_100 (dk_at dksX5_crosses_3 11 rfl rfl)
theorem dX5_crosses_84 : decode cX5_crosses 84 = .ok (.iastore, 1) := dk_79 (dk_at dksX5_crosses_3 12 rfl rfl)
theorem dX5_crosses_85 : decode cX5_crosses 85 = .ok (.aload_n 0, 1) := dk_42 (dk_at dksX5_crosses_3 13 rfl rfl)
theorem dX5_crosses_86 : decode cX5_crosses 86 = .ok (.getfield 33, 3) := dk_180 0 33 (dk_at dksX5_crosses_3 14 rfl rfl)
theorem dX5_crosses_89 : decode cX5_crosses 89 = .ok (.bipush 114, 2) := dk_16 114 (dk_at dksX5_crosses_3 17 rfl rfl)
theorem dX5_crosses_91 : decode cX5_crosses 91 = .ok (.iload_n 1, 1) := dk_27 (dk_at dksX5_crosses_3 19 rfl rfl)
theorem dX5_crosses_92 : decode cX5_crosses 92 = .ok (.iadd, 1) := dk_96 (dk_at dksX5_crosses_3 20 rfl rfl)
theorem dX5_crosses_93 : decode cX5_crosses 93 = .ok (.dup2, 1) := dk_92 (dk_at dksX5_crosses_3 21 rfl rfl)
theorem dX5_crosses_94 : decode cX5_crosses 94 = .ok (.iaload, 1) := dk_46 (dk_at dksX5_crosses_3 22 rfl rfl)
theorem dX5_crosses_95 : decode cX5_crosses 95 = .ok (.iload_n 3, 1) := dk_29 (dk_at dksX5_crosses_3 23 rfl rfl)
theorem dX5_crosses_96 : decode cX5_crosses 96 = .ok (.iadd, 1) := dk_96 (dk_at dksX5_crosses_4 0 rfl rfl)
theorem dX5_crosses_97 : decode cX5_crosses 97 = .ok (.iastore, 1) := dk_79 (dk_at dksX5_crosses_4 1 rfl rfl)
theorem dX5_crosses_98 : decode cX5_crosses 98 = .ok (.aload_n 0, 1) := dk_42 (dk_at dksX5_crosses_4 2 rfl rfl)
theorem dX5_crosses_99 : decode cX5_crosses 99 = .ok (.getfield 33, 3) := dk_180 0 33 (dk_at dksX5_crosses_4 3 rfl rfl)
theorem dX5_crosses_102 : decode cX5_crosses 102 = .ok (.bipush 126, 2) := dk_16 126 (dk_at dksX5_crosses_4 6 rfl rfl)
theorem dX5_crosses_104 : decode cX5_crosses 104 = .ok (.iload_n 1, 1) := dk_27 (dk_at dksX5_crosses_4 8 rfl rfl)
theorem dX5_crosses_105 : decode cX5_crosses 105 = .ok (.iadd, 1) := dk_96 (dk_at dksX5_crosses_4 9 rfl rfl)
theorem dX5_crosses_106 : decode cX5_crosses 106 = .ok (.dup2, 1) := dk_92 (dk_at dksX5_crosses_4 10 rfl rfl)
theorem dX5_crosses_107 : decode cX5_crosses 107 = .ok (.iaload, 1) := dk_46 (dk_at dksX5_crosses_4 11 rfl rfl)
theorem dX5_crosses_108 : decode cX5_crosses 108 = .ok (.iload_n 3, 1) := dk_29 (dk_at dksX5_crosses_4 12 rfl rfl)
theorem dX5_crosses_109 : decode cX5_crosses 109 = .ok (.iadd, 1) := dk_96 (dk_at dksX5_crosses_4 13 rfl rfl)
theorem dX5_crosses_110 : decode cX5_crosses 110 = .ok (.iastore, 1) := dk_79 (dk_at dksX5_crosses_4 14 rfl rfl)
theorem dX5_crosses_111 : decode cX5_crosses 111 = .ok (.goto 75, 3) := dk_167 0 75 (dk_at dksX5_crosses_4 15 rfl rfl)
theorem dX5_crosses_114 : decode cX5_crosses 114 = .ok (.aload_n 0, 1) := dk_42 (dk_at dksX5_crosses_4 18 rfl rfl)
theorem dX5_crosses_115 : decode cX5_crosses 115 = .ok (.iload_n 1, 1) := dk_27 (dk_at dksX5_crosses_4 19 rfl rfl)
theorem dX5_crosses_116 : decode cX5_crosses 116 = .ok (.invokevirtual 284, 3) := dk_182 1 28 (dk_at dksX5_crosses_4 20 rfl rfl)
theorem dX5_crosses_119 : decode cX5_crosses 119 = .ok (.iload_n 2, 1) := dk_28 (dk_at dksX5_crosses_4 23 rfl rfl)
theorem dX5_crosses_120 : decode cX5_crosses 120 = .ok (.invokestatic 257, 3) := dk_184 1 1 (dk_at dksX5_crosses_5 0 rfl rfl)
theorem dX5_crosses_123 : decode cX5_crosses 123 = .ok (.ifCond .ne 63, 3) := dk_154 0 63 (dk_at dksX5_crosses_5 3 rfl rfl)
theorem dX5_crosses_126 : decode cX5_crosses 126 = .ok (.aload_n 0, 1) := dk_42 (dk_at dksX5_crosses_5 6 rfl rfl)
theorem dX5_crosses_127 : decode cX5_crosses 127 = .ok (.getfield 33, 3) := dk_180 0 33 (dk_at dksX5_crosses_5 7 rfl rfl)
theorem dX5_crosses_130 : decode cX5_crosses 130 = .ok (.bipush 114, 2) := dk_16 114 (dk_at dksX5_crosses_5 10 rfl rfl)
theorem dX5_crosses_132 : decode cX5_crosses 132 = .ok (.iload_n 1, 1) := dk_27 (dk_at dksX5_crosses_5 12 rfl rfl)
theorem dX5_crosses_133 : decode cX5_crosses 133 = .ok (.iadd, 1) := dk_96 (dk_at dksX5_crosses_5 13 rfl rfl)
theorem dX5_crosses_134 : decode cX5_crosses 134 = .ok (.dup2, 1) := dk_92 (dk_at dksX5_crosses_5 14 rfl rfl)
theorem dX5_crosses_135 : decode cX5_crosses 135 = .ok (.iaload, 1) := dk_46 (dk_at dksX5_crosses_5 15 rfl rfl)
theorem dX5_crosses_136 : decode cX5_crosses 136 = .ok (.aload_n 0, 1) := dk_42 (dk_at dksX5_crosses_5 16 rfl rfl)
theorem dX5_crosses_137 : decode cX5_crosses 137 = .ok (.getfield 33, 3) := dk_180 0 33 (dk_at dksX5_crosses_5 17 rfl rfl)
theorem dX5_crosses_140 : decode cX5_crosses 140 = .ok (.iconst 3, 1) := dk_6 (dk_at dksX5_crosses_5 20 rfl rfl)
theorem dX5_crosses_141 : decode cX5_crosses 141 = .ok (.iload_n 2, 1) := dk_28 (dk_at dksX5_crosses_5 21 rfl rfl)
theorem dX5_crosses_142 : decode cX5_crosses 142 = .ok (.iadd, 1) := dk_96 (dk_at dksX5_crosses_5 22 rfl rfl)
theorem dX5_crosses_143 : decode cX5_crosses 143 = .ok (.iaload, 1) := dk_46 (dk_at dksX5_crosses_5 23 rfl rfl)
theorem dX5_crosses_144 : decode cX5_crosses 144 = .ok (.isub, 1) := dk_100 (dk_at dksX5_crosses_6 0 rfl rfl)
theorem dX5_crosses_145 : decode cX5_crosses 145 = .ok (.iastore, 1) := dk_79 (dk_at dksX5_crosses_6 1 rfl rfl)
theorem dX5_crosses_146 : decode cX5_crosses 146 = .ok (.aload_n 0, 1) := dk_42 (dk_at dksX5_crosses_6 2 rfl rfl)
theorem dX5_crosses_147 : decode cX5_crosses 147 = .ok (.getfield 33, 3) := dk_180 0 33 (dk_at dksX5_crosses_6 3 rfl rfl)
theorem dX5_crosses_150 : decode cX5_crosses 150 = .ok (.bipush 94, 2) := dk_16 94 (dk_at dksX5_crosses_6 6 rfl rfl)
theorem dX5_crosses_152 : decode cX5_crosses 152 = .ok (.iload_n 2, 1) := dk_28 (dk_at dksX5_crosses_6 8 rfl rfl)
theorem dX5_crosses_153 : decode cX5_crosses 153 = .ok (.iadd, 1) := dk_96 (dk_at dksX5_crosses_6 9 rfl rfl)
theorem dX5_crosses_154 : decode cX5_crosses 154 = .ok (.dup2, 1) := dk_92 (dk_at dksX5_crosses_6 10 rfl rfl)
theorem dX5_crosses_155 : decode cX5_crosses 155 = .ok (.iaload, 1) := dk_46 (dk_at dksX5_crosses_6 11 rfl rfl)
theorem dX5_crosses_156 : decode cX5_crosses 156 = .ok (.aload_n 0, 1) := dk_42 (dk_at dksX5_crosses_6 12 rfl rfl)
theorem dX5_crosses_157 : decode cX5_crosses 157 = .ok (.getfield 33, 3) := dk_180 0 33 (dk_at dksX5_crosses_6 13 rfl rfl)
theorem dX5_crosses_160 : decode cX5_crosses 160 = .ok (.iconst 3, 1) := dk_6 (dk_at dksX5_crosses_6 16 rfl rfl)
theorem dX5_crosses_161 : decode cX5_crosses 161 = .ok (.iload_n 2, 1) := dk_28 (dk_at dksX5_crosses_6 17 rfl rfl)
theorem dX5_crosses_162 : decode cX5_crosses 162 = .ok (.iadd, 1) := dk_96 (dk_at dksX5_crosses_6 18 rfl rfl)
theorem dX5_crosses_163 : decode cX5_crosses 163 = .ok (.iaload, 1) := dk_46 (dk_at dksX5_crosses_6 19 rfl rfl)
theorem dX5_crosses_164 : decode cX5_crosses 164 = .ok (.iadd, 1) := dk_96 (dk_at dksX5_crosses_6 20 rfl rfl)
theorem dX5_crosses_165 : decode cX5_crosses 165 = .ok (.iastore, 1) := dk_79 (dk_at dksX5_crosses_6 21 rfl rfl)
theorem dX5_crosses_166 : decode cX5_crosses 166 = .ok (.aload_n 0, 1) := dk_42 (dk_at dksX5_crosses_6 22 rfl rfl)
theorem dX5_crosses_167 : decode cX5_crosses 167 = .ok (.getfield 33, 3) := dk_180 0 33 (dk_at dksX5_crosses_7 0 rfl rfl)
theorem dX5_crosses_170 : decode cX5_crosses 170 = .ok (.bipush 120, 2) := dk_16 120 (dk_at dksX5_crosses_7 3 rfl rfl)
theorem dX5_crosses_172 : decode cX5_crosses 172 = .ok (.iload_n 1, 1) := dk_27 (dk_at dksX5_crosses_7 5 rfl rfl)
theorem dX5_crosses_173 : decode cX5_crosses 173 = .ok (.iadd, 1) := dk_96 (dk_at dksX5_crosses_7 6 rfl rfl)
theorem dX5_crosses_174 : decode cX5_crosses 174 = .ok (.dup2, 1) := dk_92 (dk_at dksX5_crosses_7 7 rfl rfl)
theorem dX5_crosses_175 : decode cX5_crosses 175 = .ok (.iaload, 1) := dk_46 (dk_at dksX5_crosses_7 8 rfl rfl)
theorem dX5_crosses_176 : decode cX5_crosses 176 = .ok (.aload_n 0, 1) := dk_42 (dk_at dksX5_crosses_7 9 rfl rfl)
theorem dX5_crosses_177 : decode cX5_crosses 177 = .ok (.getfield 33, 3) := dk_180 0 33 (dk_at dksX5_crosses_7 10 rfl rfl)
theorem dX5_crosses_180 : decode cX5_crosses 180 = .ok (.iconst 3, 1) := dk_6 (dk_at dksX5_crosses_7 13 rfl rfl)
theorem dX5_crosses_181 : decode cX5_crosses 181 = .ok (.iload_n 2, 1) := dk_28 (dk_at dksX5_crosses_7 14 rfl rfl)
theorem dX5_crosses_182 : decode cX5_crosses 182 = .ok (.iadd, 1) := dk_96 (dk_at dksX5_crosses_7 15 rfl rfl)
theorem dX5_crosses_183 : decode cX5_crosses 183 = .ok (.iaload, 1) := dk_46 (dk_at dksX5_crosses_7 16 rfl rfl)
theorem dX5_crosses_184 : decode cX5_crosses 184 = .ok (.iadd, 1) := dk_96 (dk_at dksX5_crosses_7 17 rfl rfl)
theorem dX5_crosses_185 : decode cX5_crosses 185 = .ok (.iastore, 1) := dk_79 (dk_at dksX5_crosses_7 18 rfl rfl)
theorem dX5_crosses_186 : decode cX5_crosses 186 = .ok (.return_, 1) := dk_177 (dk_at dksX5_crosses_7 19 rfl rfl)
abbrev cX5_given : ByteArray := prog_32_method_46_code
def yX5_given : MethodName := ⟨RX5, "given", "(III)I"⟩
def dkwX5_given_0 : List UInt8 := [42, 180, 0, 33, 16, 10, 27, 96, 46, 29, 17, 0, 240, 28, 100, 184, 1, 39, 184, 1, 39, 172]
abbrev dktX5_given_0 : List UInt8 := dkwX5_given_0 ++ []
theorem dksX5_given_0 : cX5_given.data.toList.drop 0 = dktX5_given_0 := by decide +kernel
theorem dX5_given_0 : decode cX5_given 0 = .ok (.aload_n 0, 1) := dk_42 (dk_at dksX5_given_0 0 rfl rfl)
theorem dX5_given_1 : decode cX5_given 1 = .ok (.getfield 33, 3) := dk_180 0 33 (dk_at dksX5_given_0 1 rfl rfl)
theorem dX5_given_4 : decode cX5_given 4 = .ok (.bipush 10, 2) := dk_16 10 (dk_at dksX5_given_0 4 rfl rfl)
theorem dX5_given_6 : decode cX5_given 6 = .ok (.iload_n 1, 1) := dk_27 (dk_at dksX5_given_0 6 rfl rfl)
theorem dX5_given_7 : decode cX5_given 7 = .ok (.iadd, 1) := dk_96 (dk_at dksX5_given_0 7 rfl rfl)
theorem dX5_given_8 : decode cX5_given 8 = .ok (.iaload, 1) := dk_46 (dk_at dksX5_given_0 8 rfl rfl)
theorem dX5_given_9 : decode cX5_given 9 = .ok (.iload_n 3, 1) := dk_29 (dk_at dksX5_given_0 9 rfl rfl)
theorem dX5_given_10 : decode cX5_given 10 = .ok (.sipush 240, 3) := dk_17 0 240 (dk_at dksX5_given_0 10 rfl rfl)
theorem dX5_given_13 : decode cX5_given 13 = .ok (.iload_n 2, 1) := dk_28 (dk_at dksX5_given_0 13 rfl rfl)
theorem dX5_given_14 : decode cX5_given 14 = .ok (.isub, 1) := dk_100 (dk_at dksX5_given_0 14 rfl rfl)
theorem dX5_given_15 : decode cX5_given 15 = .ok (.invokestatic 295, 3) := dk_184 1 39 (dk_at dksX5_given_0 15 rfl rfl)
theorem dX5_given_18 : decode cX5_given 18 = .ok (.invokestatic 295, 3) := dk_184 1 39 (dk_at dksX5_given_0 18 rfl rfl)
theorem dX5_given_21 : decode cX5_given 21 = .ok (.ireturn, 1) := dk_172 (dk_at dksX5_given_0 21 rfl rfl)
abbrev cX5_lesser : ByteArray := prog_32_method_9_code
def yX5_lesser : MethodName := ⟨RX5, "lesser", "(II)I"⟩
def dkwX5_lesser_0 : List UInt8 := [26, 27, 162, 0, 7, 26, 167, 0, 4, 27, 172]
abbrev dktX5_lesser_0 : List UInt8 := dkwX5_lesser_0 ++ []
theorem dksX5_lesser_0 : cX5_lesser.data.toList.drop 0 = dktX5_lesser_0 := by decide +kernel
theorem dX5_lesser_0 : decode cX5_lesser 0 = .ok (.iload_n 0, 1) := dk_26 (dk_at dksX5_lesser_0 0 rfl rfl)
theorem dX5_lesser_1 : decode cX5_lesser 1 = .ok (.iload_n 1, 1) := dk_27 (dk_at dksX5_lesser_0 1 rfl rfl)
theorem dX5_lesser_2 : decode cX5_lesser 2 = .ok (.if_icmp .ge 7, 3) := dk_162 0 7 (dk_at dksX5_lesser_0 2 rfl rfl)
theorem dX5_lesser_5 : decode cX5_lesser 5 = .ok (.iload_n 0, 1) := dk_26 (dk_at dksX5_lesser_0 5 rfl rfl)
theorem dX5_lesser_6 : decode cX5_lesser 6 = .ok (.goto 4, 3) := dk_167 0 4 (dk_at dksX5_lesser_0 6 rfl rfl)
theorem dX5_lesser_9 : decode cX5_lesser 9 = .ok (.iload_n 1, 1) := dk_27 (dk_at dksX5_lesser_0 9 rfl rfl)
theorem dX5_lesser_10 : decode cX5_lesser 10 = .ok (.ireturn, 1) := dk_172 (dk_at dksX5_lesser_0 10 rfl rfl)
abbrev cX5_pact : ByteArray := prog_32_method_61_code
def yX5_pact : MethodName := ⟨RX5, "pact", "(II)I"⟩
def dkwX5_pact_2 : List UInt8 := [92, 46, 4, 28, 120, 128, 79, 3, 172]
abbrev dktX5_pact_2 : List UInt8 := dkwX5_pact_2 ++ []
def dkwX5_pact_1 : List UInt8 := [27, 28, 182, 1, 78, 62, 29, 158, 0, 5, 29, 172, 42, 182, 1, 71, 42, 180, 0, 33, 16, 101, 27, 96]
abbrev dktX5_pact_1 : List UInt8 := dkwX5_pact_1 ++ dktX5_pact_2
def dkwX5_pact_0 : List UInt8 := [42, 3, 181, 0, 1, 42, 27, 182, 1, 56, 153, 0, 11, 42, 28, 182, 1, 56, 154, 0, 5, 2, 172, 42]
abbrev dktX5_pact_0 : List UInt8 := dkwX5_pact_0 ++ dktX5_pact_1
theorem dksX5_pact_0 : cX5_pact.data.toList.drop 0 = dktX5_pact_0 := by decide +kernel
theorem dksX5_pact_1 : cX5_pact.data.toList.drop 24 = dktX5_pact_1 := dk_seg dksX5_pact_0 24 rfl rfl
theorem dksX5_pact_2 : cX5_pact.data.toList.drop 48 = dktX5_pact_2 := dk_seg dksX5_pact_1 24 rfl rfl
theorem dX5_pact_0 : decode cX5_pact 0 = .ok (.aload_n 0, 1) := dk_42 (dk_at dksX5_pact_0 0 rfl rfl)
theorem dX5_pact_1 : decode cX5_pact 1 = .ok (.iconst 0, 1) := dk_3 (dk_at dksX5_pact_0 1 rfl rfl)
theorem dX5_pact_2 : decode cX5_pact 2 = .ok (.putfield 1, 3) := dk_181 0 1 (dk_at dksX5_pact_0 2 rfl rfl)
theorem dX5_pact_5 : decode cX5_pact 5 = .ok (.aload_n 0, 1) := dk_42 (dk_at dksX5_pact_0 5 rfl rfl)
theorem dX5_pact_6 : decode cX5_pact 6 = .ok (.iload_n 1, 1) := dk_27 (dk_at dksX5_pact_0 6 rfl rfl)
theorem dX5_pact_7 : decode cX5_pact 7 = .ok (.invokevirtual 312, 3) := dk_182 1 56 (dk_at dksX5_pact_0 7 rfl rfl)
theorem dX5_pact_10 : decode cX5_pact 10 = .ok (.ifCond .eq 11, 3) := dk_153 0 11 (dk_at dksX5_pact_0 10 rfl rfl)
theorem dX5_pact_13 : decode cX5_pact 13 = .ok (.aload_n 0, 1) := dk_42 (dk_at dksX5_pact_0 13 rfl rfl)
theorem dX5_pact_14 : decode cX5_pact 14 = .ok (.iload_n 2, 1) := dk_28 (dk_at dksX5_pact_0 14 rfl rfl)
theorem dX5_pact_15 : decode cX5_pact 15 = .ok (.invokevirtual 312, 3) := dk_182 1 56 (dk_at dksX5_pact_0 15 rfl rfl)
theorem dX5_pact_18 : decode cX5_pact 18 = .ok (.ifCond .ne 5, 3) := dk_154 0 5 (dk_at dksX5_pact_0 18 rfl rfl)
theorem dX5_pact_21 : decode cX5_pact 21 = .ok (.iconst (-1), 1) := dk_2 (dk_at dksX5_pact_0 21 rfl rfl)
theorem dX5_pact_22 : decode cX5_pact 22 = .ok (.ireturn, 1) := dk_172 (dk_at dksX5_pact_0 22 rfl rfl)
theorem dX5_pact_23 : decode cX5_pact 23 = .ok (.aload_n 0, 1) := dk_42 (dk_at dksX5_pact_0 23 rfl rfl)
theorem dX5_pact_24 : decode cX5_pact 24 = .ok (.iload_n 1, 1) := dk_27 (dk_at dksX5_pact_1 0 rfl rfl)
theorem dX5_pact_25 : decode cX5_pact 25 = .ok (.iload_n 2, 1) := dk_28 (dk_at dksX5_pact_1 1 rfl rfl)
theorem dX5_pact_26 : decode cX5_pact 26 = .ok (.invokevirtual 334, 3) := dk_182 1 78 (dk_at dksX5_pact_1 2 rfl rfl)
theorem dX5_pact_29 : decode cX5_pact 29 = .ok (.istore_n 3, 1) := dk_62 (dk_at dksX5_pact_1 5 rfl rfl)
theorem dX5_pact_30 : decode cX5_pact 30 = .ok (.iload_n 3, 1) := dk_29 (dk_at dksX5_pact_1 6 rfl rfl)
theorem dX5_pact_31 : decode cX5_pact 31 = .ok (.ifCond .le 5, 3) := dk_158 0 5 (dk_at dksX5_pact_1 7 rfl rfl)
theorem dX5_pact_34 : decode cX5_pact 34 = .ok (.iload_n 3, 1) := dk_29 (dk_at dksX5_pact_1 10 rfl rfl)
theorem dX5_pact_35 : decode cX5_pact 35 = .ok (.ireturn, 1) := dk_172 (dk_at dksX5_pact_1 11 rfl rfl)
theorem dX5_pact_36 : decode cX5_pact 36 = .ok (.aload_n 0, 1) := dk_42 (dk_at dksX5_pact_1 12 rfl rfl)
theorem dX5_pact_37 : decode cX5_pact 37 = .ok (.invokevirtual 327, 3) := dk_182 1 71 (dk_at dksX5_pact_1 13 rfl rfl)
theorem dX5_pact_40 : decode cX5_pact 40 = .ok (.aload_n 0, 1) := dk_42 (dk_at dksX5_pact_1 16 rfl rfl)
theorem dX5_pact_41 : decode cX5_pact 41 = .ok (.getfield 33, 3) := dk_180 0 33 (dk_at dksX5_pact_1 17 rfl rfl)
theorem dX5_pact_44 : decode cX5_pact 44 = .ok (.bipush 101, 2) := dk_16 101 (dk_at dksX5_pact_1 20 rfl rfl)
theorem dX5_pact_46 : decode cX5_pact 46 = .ok (.iload_n 1, 1) := dk_27 (dk_at dksX5_pact_1 22 rfl rfl)
theorem dX5_pact_47 : decode cX5_pact 47 = .ok (.iadd, 1) := dk_96 (dk_at dksX5_pact_1 23 rfl rfl)
theorem dX5_pact_48 : decode cX5_pact 48 = .ok (.dup2, 1) := dk_92 (dk_at dksX5_pact_2 0 rfl rfl)
theorem dX5_pact_49 : decode cX5_pact 49 = .ok (.iaload, 1) := dk_46 (dk_at dksX5_pact_2 1 rfl rfl)
theorem dX5_pact_50 : decode cX5_pact 50 = .ok (.iconst 1, 1) := dk_4 (dk_at dksX5_pact_2 2 rfl rfl)
theorem dX5_pact_51 : decode cX5_pact 51 = .ok (.iload_n 2, 1) := dk_28 (dk_at dksX5_pact_2 3 rfl rfl)
theorem dX5_pact_52 : decode cX5_pact 52 = .ok (.ishl, 1) := dk_120 (dk_at dksX5_pact_2 4 rfl rfl)
theorem dX5_pact_53 : decode cX5_pact 53 = .ok (.ior, 1) := dk_128 (dk_at dksX5_pact_2 5 rfl rfl)
theorem dX5_pact_54 : decode cX5_pact 54 = .ok (.iastore, 1) := dk_79 (dk_at dksX5_pact_2 6 rfl rfl)
theorem dX5_pact_55 : decode cX5_pact 55 = .ok (.iconst 0, 1) := dk_3 (dk_at dksX5_pact_2 7 rfl rfl)
theorem dX5_pact_56 : decode cX5_pact 56 = .ok (.ireturn, 1) := dk_172 (dk_at dksX5_pact_2 8 rfl rfl)
abbrev cX5_whyPact : ByteArray := prog_32_method_53_code
def yX5_whyPact : MethodName := ⟨RX5, "whyPact", "(II)I"⟩
def dkwX5_whyPact_1 : List UInt8 := [153, 0, 7, 5, 167, 0, 4, 3, 172]
abbrev dktX5_whyPact_1 : List UInt8 := dkwX5_whyPact_1 ++ []
def dkwX5_whyPact_0 : List UInt8 := [27, 28, 160, 0, 7, 4, 167, 0, 24, 42, 180, 0, 33, 16, 101, 27, 96, 46, 28, 184, 1, 1]
abbrev dktX5_whyPact_0 : List UInt8 := dkwX5_whyPact_0 ++ dktX5_whyPact_1
theorem dksX5_whyPact_0 : cX5_whyPact.data.toList.drop 0 = dktX5_whyPact_0 := by decide +kernel
theorem dksX5_whyPact_1 : cX5_whyPact.data.toList.drop 22 = dktX5_whyPact_1 := dk_seg dksX5_whyPact_0 22 rfl rfl
theorem dX5_whyPact_0 : decode cX5_whyPact 0 = .ok (.iload_n 1, 1) := dk_27 (dk_at dksX5_whyPact_0 0 rfl rfl)
theorem dX5_whyPact_1 : decode cX5_whyPact 1 = .ok (.iload_n 2, 1) := dk_28 (dk_at dksX5_whyPact_0 1 rfl rfl)
theorem dX5_whyPact_2 : decode cX5_whyPact 2 = .ok (.if_icmp .ne 7, 3) := dk_160 0 7 (dk_at dksX5_whyPact_0 2 rfl rfl)
theorem dX5_whyPact_5 : decode cX5_whyPact 5 = .ok (.iconst 1, 1) := dk_4 (dk_at dksX5_whyPact_0 5 rfl rfl)
theorem dX5_whyPact_6 : decode cX5_whyPact 6 = .ok (.goto 24, 3) := dk_167 0 24 (dk_at dksX5_whyPact_0 6 rfl rfl)
theorem dX5_whyPact_9 : decode cX5_whyPact 9 = .ok (.aload_n 0, 1) := dk_42 (dk_at dksX5_whyPact_0 9 rfl rfl)
theorem dX5_whyPact_10 : decode cX5_whyPact 10 = .ok (.getfield 33, 3) := dk_180 0 33 (dk_at dksX5_whyPact_0 10 rfl rfl)
theorem dX5_whyPact_13 : decode cX5_whyPact 13 = .ok (.bipush 101, 2) := dk_16 101 (dk_at dksX5_whyPact_0 13 rfl rfl)
theorem dX5_whyPact_15 : decode cX5_whyPact 15 = .ok (.iload_n 1, 1) := dk_27 (dk_at dksX5_whyPact_0 15 rfl rfl)
theorem dX5_whyPact_16 : decode cX5_whyPact 16 = .ok (.iadd, 1) := dk_96 (dk_at dksX5_whyPact_0 16 rfl rfl)
theorem dX5_whyPact_17 : decode cX5_whyPact 17 = .ok (.iaload, 1) := dk_46 (dk_at dksX5_whyPact_0 17 rfl rfl)
theorem dX5_whyPact_18 : decode cX5_whyPact 18 = .ok (.iload_n 2, 1) := dk_28 (dk_at dksX5_whyPact_0 18 rfl rfl)
theorem dX5_whyPact_19 : decode cX5_whyPact 19 = .ok (.invokestatic 257, 3) := dk_184 1 1 (dk_at dksX5_whyPact_0 19 rfl rfl)
theorem dX5_whyPact_22 : decode cX5_whyPact 22 = .ok (.ifCond .eq 7, 3) := dk_153 0 7 (dk_at dksX5_whyPact_1 0 rfl rfl)
theorem dX5_whyPact_25 : decode cX5_whyPact 25 = .ok (.iconst 2, 1) := dk_5 (dk_at dksX5_whyPact_1 3 rfl rfl)
theorem dX5_whyPact_26 : decode cX5_whyPact 26 = .ok (.goto 4, 3) := dk_167 0 4 (dk_at dksX5_whyPact_1 4 rfl rfl)
theorem dX5_whyPact_29 : decode cX5_whyPact 29 = .ok (.iconst 0, 1) := dk_3 (dk_at dksX5_whyPact_1 7 rfl rfl)
theorem dX5_whyPact_30 : decode cX5_whyPact 30 = .ok (.ireturn, 1) := dk_172 (dk_at dksX5_whyPact_1 8 rfl rfl)
abbrev cX5_breaks : ByteArray := prog_32_method_62_code
def yX5_breaks : MethodName := ⟨RX5, "breaks", "(II)I"⟩
def dkwX5_breaks_2 : List UInt8 := [180, 0, 33, 16, 101, 27, 96, 92, 46, 4, 28, 120, 130, 79, 3, 172]
abbrev dktX5_breaks_2 : List UInt8 := dkwX5_breaks_2 ++ []
def dkwX5_breaks_1 : List UInt8 := [180, 0, 33, 16, 101, 27, 96, 46, 28, 184, 1, 1, 154, 0, 5, 4, 172, 42, 182, 1, 71, 42]
abbrev dktX5_breaks_1 : List UInt8 := dkwX5_breaks_1 ++ dktX5_breaks_2
def dkwX5_breaks_0 : List UInt8 := [42, 3, 181, 0, 1, 42, 27, 182, 1, 56, 153, 0, 11, 42, 28, 182, 1, 56, 154, 0, 5, 2, 172, 42]
abbrev dktX5_breaks_0 : List UInt8 := dkwX5_breaks_0 ++ dktX5_breaks_1
theorem dksX5_breaks_0 : cX5_breaks.data.toList.drop 0 = dktX5_breaks_0 := by decide +kernel
theorem dksX5_breaks_1 : cX5_breaks.data.toList.drop 24 = dktX5_breaks_1 := dk_seg dksX5_breaks_0 24 rfl rfl
theorem dksX5_breaks_2 : cX5_breaks.data.toList.drop 46 = dktX5_breaks_2 := dk_seg dksX5_breaks_1 22 rfl rfl
theorem dX5_breaks_0 : decode cX5_breaks 0 = .ok (.aload_n 0, 1) := dk_42 (dk_at dksX5_breaks_0 0 rfl rfl)
theorem dX5_breaks_1 : decode cX5_breaks 1 = .ok (.iconst 0, 1) := dk_3 (dk_at dksX5_breaks_0 1 rfl rfl)
theorem dX5_breaks_2 : decode cX5_breaks 2 = .ok (.putfield 1, 3) := dk_181 0 1 (dk_at dksX5_breaks_0 2 rfl rfl)
theorem dX5_breaks_5 : decode cX5_breaks 5 = .ok (.aload_n 0, 1) := dk_42 (dk_at dksX5_breaks_0 5 rfl rfl)
theorem dX5_breaks_6 : decode cX5_breaks 6 = .ok (.iload_n 1, 1) := dk_27 (dk_at dksX5_breaks_0 6 rfl rfl)
theorem dX5_breaks_7 : decode cX5_breaks 7 = .ok (.invokevirtual 312, 3) := dk_182 1 56 (dk_at dksX5_breaks_0 7 rfl rfl)
theorem dX5_breaks_10 : decode cX5_breaks 10 = .ok (.ifCond .eq 11, 3) := dk_153 0 11 (dk_at dksX5_breaks_0 10 rfl rfl)
theorem dX5_breaks_13 : decode cX5_breaks 13 = .ok (.aload_n 0, 1) := dk_42 (dk_at dksX5_breaks_0 13 rfl rfl)
theorem dX5_breaks_14 : decode cX5_breaks 14 = .ok (.iload_n 2, 1) := dk_28 (dk_at dksX5_breaks_0 14 rfl rfl)
theorem dX5_breaks_15 : decode cX5_breaks 15 = .ok (.invokevirtual 312, 3) := dk_182 1 56 (dk_at dksX5_breaks_0 15 rfl rfl)
theorem dX5_breaks_18 : decode cX5_breaks 18 = .ok (.ifCond .ne 5, 3) := dk_154 0 5 (dk_at dksX5_breaks_0 18 rfl rfl)
theorem dX5_breaks_21 : decode cX5_breaks 21 = .ok (.iconst (-1), 1) := dk_2 (dk_at dksX5_breaks_0 21 rfl rfl)
theorem dX5_breaks_22 : decode cX5_breaks 22 = .ok (.ireturn, 1) := dk_172 (dk_at dksX5_breaks_0 22 rfl rfl)
theorem dX5_breaks_23 : decode cX5_breaks 23 = .ok (.aload_n 0, 1) := dk_42 (dk_at dksX5_breaks_0 23 rfl rfl)
theorem dX5_breaks_24 : decode cX5_breaks 24 = .ok (.getfield 33, 3) := dk_180 0 33 (dk_at dksX5_breaks_1 0 rfl rfl)
theorem dX5_breaks_27 : decode cX5_breaks 27 = .ok (.bipush 101, 2) := dk_16 101 (dk_at dksX5_breaks_1 3 rfl rfl)
theorem dX5_breaks_29 : decode cX5_breaks 29 = .ok (.iload_n 1, 1) := dk_27 (dk_at dksX5_breaks_1 5 rfl rfl)
theorem dX5_breaks_30 : decode cX5_breaks 30 = .ok (.iadd, 1) := dk_96 (dk_at dksX5_breaks_1 6 rfl rfl)
theorem dX5_breaks_31 : decode cX5_breaks 31 = .ok (.iaload, 1) := dk_46 (dk_at dksX5_breaks_1 7 rfl rfl)
theorem dX5_breaks_32 : decode cX5_breaks 32 = .ok (.iload_n 2, 1) := dk_28 (dk_at dksX5_breaks_1 8 rfl rfl)
theorem dX5_breaks_33 : decode cX5_breaks 33 = .ok (.invokestatic 257, 3) := dk_184 1 1 (dk_at dksX5_breaks_1 9 rfl rfl)
theorem dX5_breaks_36 : decode cX5_breaks 36 = .ok (.ifCond .ne 5, 3) := dk_154 0 5 (dk_at dksX5_breaks_1 12 rfl rfl)
theorem dX5_breaks_39 : decode cX5_breaks 39 = .ok (.iconst 1, 1) := dk_4 (dk_at dksX5_breaks_1 15 rfl rfl)
theorem dX5_breaks_40 : decode cX5_breaks 40 = .ok (.ireturn, 1) := dk_172 (dk_at dksX5_breaks_1 16 rfl rfl)
theorem dX5_breaks_41 : decode cX5_breaks 41 = .ok (.aload_n 0, 1) := dk_42 (dk_at dksX5_breaks_1 17 rfl rfl)
theorem dX5_breaks_42 : decode cX5_breaks 42 = .ok (.invokevirtual 327, 3) := dk_182 1 71 (dk_at dksX5_breaks_1 18 rfl rfl)
theorem dX5_breaks_45 : decode cX5_breaks 45 = .ok (.aload_n 0, 1) := dk_42 (dk_at dksX5_breaks_1 21 rfl rfl)
theorem dX5_breaks_46 : decode cX5_breaks 46 = .ok (.getfield 33, 3) := dk_180 0 33 (dk_at dksX5_breaks_2 0 rfl rfl)
theorem dX5_breaks_49 : decode cX5_breaks 49 = .ok (.bipush 101, 2) := dk_16 101 (dk_at dksX5_breaks_2 3 rfl rfl)
theorem dX5_breaks_51 : decode cX5_breaks 51 = .ok (.iload_n 1, 1) := dk_27 (dk_at dksX5_breaks_2 5 rfl rfl)
theorem dX5_breaks_52 : decode cX5_breaks 52 = .ok (.iadd, 1) := dk_96 (dk_at dksX5_breaks_2 6 rfl rfl)
theorem dX5_breaks_53 : decode cX5_breaks 53 = .ok (.dup2, 1) := dk_92 (dk_at dksX5_breaks_2 7 rfl rfl)
theorem dX5_breaks_54 : decode cX5_breaks 54 = .ok (.iaload, 1) := dk_46 (dk_at dksX5_breaks_2 8 rfl rfl)
theorem dX5_breaks_55 : decode cX5_breaks 55 = .ok (.iconst 1, 1) := dk_4 (dk_at dksX5_breaks_2 9 rfl rfl)
theorem dX5_breaks_56 : decode cX5_breaks 56 = .ok (.iload_n 2, 1) := dk_28 (dk_at dksX5_breaks_2 10 rfl rfl)
theorem dX5_breaks_57 : decode cX5_breaks 57 = .ok (.ishl, 1) := dk_120 (dk_at dksX5_breaks_2 11 rfl rfl)
theorem dX5_breaks_58 : decode cX5_breaks 58 = .ok (.ixor, 1) := dk_130 (dk_at dksX5_breaks_2 12 rfl rfl)
theorem dX5_breaks_59 : decode cX5_breaks 59 = .ok (.iastore, 1) := dk_79 (dk_at dksX5_breaks_2 13 rfl rfl)
theorem dX5_breaks_60 : decode cX5_breaks 60 = .ok (.iconst 0, 1) := dk_3 (dk_at dksX5_breaks_2 14 rfl rfl)
theorem dX5_breaks_61 : decode cX5_breaks 61 = .ok (.ireturn, 1) := dk_172 (dk_at dksX5_breaks_2 15 rfl rfl)
abbrev cX5_close : ByteArray := prog_32_method_64_code
def yX5_close : MethodName := ⟨RX5, "close", "(I)I"⟩
def dkwX5_close_0 : List UInt8 := [42, 27, 4, 182, 1, 85, 172]
abbrev dktX5_close_0 : List UInt8 := dkwX5_close_0 ++ []
theorem dksX5_close_0 : cX5_close.data.toList.drop 0 = dktX5_close_0 := by decide +kernel
theorem dX5_close_0 : decode cX5_close 0 = .ok (.aload_n 0, 1) := dk_42 (dk_at dksX5_close_0 0 rfl rfl)
theorem dX5_close_1 : decode cX5_close 1 = .ok (.iload_n 1, 1) := dk_27 (dk_at dksX5_close_0 1 rfl rfl)
theorem dX5_close_2 : decode cX5_close 2 = .ok (.iconst 1, 1) := dk_4 (dk_at dksX5_close_0 2 rfl rfl)
theorem dX5_close_3 : decode cX5_close 3 = .ok (.invokevirtual 341, 3) := dk_182 1 85 (dk_at dksX5_close_0 3 rfl rfl)
theorem dX5_close_6 : decode cX5_close 6 = .ok (.ireturn, 1) := dk_172 (dk_at dksX5_close_0 6 rfl rfl)
abbrev cX5_turns : ByteArray := prog_32_method_63_code
def yX5_turns : MethodName := ⟨RX5, "turns", "(IZ)I"⟩
def dkwX5_turns_2 : List UInt8 := [172]
abbrev dktX5_turns_2 : List UInt8 := dkwX5_turns_2 ++ []
def dkwX5_turns_1 : List UInt8 := [29, 158, 0, 5, 29, 172, 42, 182, 1, 71, 42, 180, 0, 33, 16, 93, 92, 46, 4, 27, 120, 130, 79, 3]
abbrev dktX5_turns_1 : List UInt8 := dkwX5_turns_1 ++ dktX5_turns_2
def dkwX5_turns_0 : List UInt8 := [42, 3, 181, 0, 1, 27, 3, 16, 11, 184, 0, 207, 154, 0, 5, 2, 172, 42, 27, 28, 182, 1, 81, 62]
abbrev dktX5_turns_0 : List UInt8 := dkwX5_turns_0 ++ dktX5_turns_1
theorem dksX5_turns_0 : cX5_turns.data.toList.drop 0 = dktX5_turns_0 := by decide +kernel
theorem dksX5_turns_1 : cX5_turns.data.toList.drop 24 = dktX5_turns_1 := dk_seg dksX5_turns_0 24 rfl rfl
theorem dksX5_turns_2 : cX5_turns.data.toList.drop 48 = dktX5_turns_2 := dk_seg dksX5_turns_1 24 rfl rfl
theorem dX5_turns_0 : decode cX5_turns 0 = .ok (.aload_n 0, 1) := dk_42 (dk_at dksX5_turns_0 0 rfl rfl)
theorem dX5_turns_1 : decode cX5_turns 1 = .ok (.iconst 0, 1) := dk_3 (dk_at dksX5_turns_0 1 rfl rfl)
theorem dX5_turns_2 : decode cX5_turns 2 = .ok (.putfield 1, 3) := dk_181 0 1 (dk_at dksX5_turns_0 2 rfl rfl)
theorem dX5_turns_5 : decode cX5_turns 5 = .ok (.iload_n 1, 1) := dk_27 (dk_at dksX5_turns_0 5 rfl rfl)
theorem dX5_turns_6 : decode cX5_turns 6 = .ok (.iconst 0, 1) := dk_3 (dk_at dksX5_turns_0 6 rfl rfl)
theorem dX5_turns_7 : decode cX5_turns 7 = .ok (.bipush 11, 2) := dk_16 11 (dk_at dksX5_turns_0 7 rfl rfl)
theorem dX5_turns_9 : decode cX5_turns 9 = .ok (.invokestatic 207, 3) := dk_184 0 207 (dk_at dksX5_turns_0 9 rfl rfl)
theorem dX5_turns_12 : decode cX5_turns 12 = .ok (.ifCond .ne 5, 3) := dk_154 0 5 (dk_at dksX5_turns_0 12 rfl rfl)
theorem dX5_turns_15 : decode cX5_turns 15 = .ok (.iconst (-1), 1) := dk_2 (dk_at dksX5_turns_0 15 rfl rfl)
theorem dX5_turns_16 : decode cX5_turns 16 = .ok (.ireturn, 1) := dk_172 (dk_at dksX5_turns_0 16 rfl rfl)
theorem dX5_turns_17 : decode cX5_turns 17 = .ok (.aload_n 0, 1) := dk_42 (dk_at dksX5_turns_0 17 rfl rfl)
theorem dX5_turns_18 : decode cX5_turns 18 = .ok (.iload_n 1, 1) := dk_27 (dk_at dksX5_turns_0 18 rfl rfl)
theorem dX5_turns_19 : decode cX5_turns 19 = .ok (.iload_n 2, 1) := dk_28 (dk_at dksX5_turns_0 19 rfl rfl)
theorem dX5_turns_20 : decode cX5_turns 20 = .ok (.invokevirtual 337, 3) := dk_182 1 81 (dk_at dksX5_turns_0 20 rfl rfl)
theorem dX5_turns_23 : decode cX5_turns 23 = .ok (.istore_n 3, 1) := dk_62 (dk_at dksX5_turns_0 23 rfl rfl)
theorem dX5_turns_24 : decode cX5_turns 24 = .ok (.iload_n 3, 1) := dk_29 (dk_at dksX5_turns_1 0 rfl rfl)
theorem dX5_turns_25 : decode cX5_turns 25 = .ok (.ifCond .le 5, 3) := dk_158 0 5 (dk_at dksX5_turns_1 1 rfl rfl)
theorem dX5_turns_28 : decode cX5_turns 28 = .ok (.iload_n 3, 1) := dk_29 (dk_at dksX5_turns_1 4 rfl rfl)
theorem dX5_turns_29 : decode cX5_turns 29 = .ok (.ireturn, 1) := dk_172 (dk_at dksX5_turns_1 5 rfl rfl)
theorem dX5_turns_30 : decode cX5_turns 30 = .ok (.aload_n 0, 1) := dk_42 (dk_at dksX5_turns_1 6 rfl rfl)
theorem dX5_turns_31 : decode cX5_turns 31 = .ok (.invokevirtual 327, 3) := dk_182 1 71 (dk_at dksX5_turns_1 7 rfl rfl)
theorem dX5_turns_34 : decode cX5_turns 34 = .ok (.aload_n 0, 1) := dk_42 (dk_at dksX5_turns_1 10 rfl rfl)
theorem dX5_turns_35 : decode cX5_turns 35 = .ok (.getfield 33, 3) := dk_180 0 33 (dk_at dksX5_turns_1 11 rfl rfl)
theorem dX5_turns_38 : decode cX5_turns 38 = .ok (.bipush 93, 2) := dk_16 93 (dk_at dksX5_turns_1 14 rfl rfl)
theorem dX5_turns_40 : decode cX5_turns 40 = .ok (.dup2, 1) := dk_92 (dk_at dksX5_turns_1 16 rfl rfl)
theorem dX5_turns_41 : decode cX5_turns 41 = .ok (.iaload, 1) := dk_46 (dk_at dksX5_turns_1 17 rfl rfl)
theorem dX5_turns_42 : decode cX5_turns 42 = .ok (.iconst 1, 1) := dk_4 (dk_at dksX5_turns_1 18 rfl rfl)
theorem dX5_turns_43 : decode cX5_turns 43 = .ok (.iload_n 1, 1) := dk_27 (dk_at dksX5_turns_1 19 rfl rfl)
theorem dX5_turns_44 : decode cX5_turns 44 = .ok (.ishl, 1) := dk_120 (dk_at dksX5_turns_1 20 rfl rfl)
theorem dX5_turns_45 : decode cX5_turns 45 = .ok (.ixor, 1) := dk_130 (dk_at dksX5_turns_1 21 rfl rfl)
theorem dX5_turns_46 : decode cX5_turns 46 = .ok (.iastore, 1) := dk_79 (dk_at dksX5_turns_1 22 rfl rfl)
theorem dX5_turns_47 : decode cX5_turns 47 = .ok (.iconst 0, 1) := dk_3 (dk_at dksX5_turns_1 23 rfl rfl)
theorem dX5_turns_48 : decode cX5_turns 48 = .ok (.ireturn, 1) := dk_172 (dk_at dksX5_turns_2 0 rfl rfl)
abbrev cX5_whyTurn : ByteArray := prog_32_method_54_code
def yX5_whyTurn : MethodName := ⟨RX5, "whyTurn", "(IZ)I"⟩
def dkwX5_whyTurn_1 : List UInt8 := [167, 0, 4, 3, 172]
abbrev dktX5_whyTurn_1 : List UInt8 := dkwX5_whyTurn_1 ++ []
def dkwX5_whyTurn_0 : List UInt8 := [27, 42, 180, 0, 33, 4, 46, 161, 0, 7, 4, 167, 0, 17, 42, 27, 182, 1, 25, 28, 159, 0, 7, 5]
abbrev dktX5_whyTurn_0 : List UInt8 := dkwX5_whyTurn_0 ++ dktX5_whyTurn_1
theorem dksX5_whyTurn_0 : cX5_whyTurn.data.toList.drop 0 = dktX5_whyTurn_0 := by decide +kernel
theorem dksX5_whyTurn_1 : cX5_whyTurn.data.toList.drop 24 = dktX5_whyTurn_1 := dk_seg dksX5_whyTurn_0 24 rfl rfl
theorem dX5_whyTurn_0 : decode cX5_whyTurn 0 = .ok (.iload_n 1, 1) := dk_27 (dk_at dksX5_whyTurn_0 0 rfl rfl)
theorem dX5_whyTurn_1 : decode cX5_whyTurn 1 = .ok (.aload_n 0, 1) := dk_42 (dk_at dksX5_whyTurn_0 1 rfl rfl)
theorem dX5_whyTurn_2 : decode cX5_whyTurn 2 = .ok (.getfield 33, 3) := dk_180 0 33 (dk_at dksX5_whyTurn_0 2 rfl rfl)
theorem dX5_whyTurn_5 : decode cX5_whyTurn 5 = .ok (.iconst 1, 1) := dk_4 (dk_at dksX5_whyTurn_0 5 rfl rfl)
theorem dX5_whyTurn_6 : decode cX5_whyTurn 6 = .ok (.iaload, 1) := dk_46 (dk_at dksX5_whyTurn_0 6 rfl rfl)
theorem dX5_whyTurn_7 : decode cX5_whyTurn 7 = .ok (.if_icmp .lt 7, 3) := dk_161 0 7 (dk_at dksX5_whyTurn_0 7 rfl rfl)
theorem dX5_whyTurn_10 : decode cX5_whyTurn 10 = .ok (.iconst 1, 1) := dk_4 (dk_at dksX5_whyTurn_0 10 rfl rfl)
theorem dX5_whyTurn_11 : decode cX5_whyTurn 11 = .ok (.goto 17, 3) := dk_167 0 17 (dk_at dksX5_whyTurn_0 11 rfl rfl)
theorem dX5_whyTurn_14 : decode cX5_whyTurn 14 = .ok (.aload_n 0, 1) := dk_42 (dk_at dksX5_whyTurn_0 14 rfl rfl)
theorem dX5_whyTurn_15 : decode cX5_whyTurn 15 = .ok (.iload_n 1, 1) := dk_27 (dk_at dksX5_whyTurn_0 15 rfl rfl)
theorem dX5_whyTurn_16 : decode cX5_whyTurn 16 = .ok (.invokevirtual 281, 3) := dk_182 1 25 (dk_at dksX5_whyTurn_0 16 rfl rfl)
theorem dX5_whyTurn_19 : decode cX5_whyTurn 19 = .ok (.iload_n 2, 1) := dk_28 (dk_at dksX5_whyTurn_0 19 rfl rfl)
theorem dX5_whyTurn_20 : decode cX5_whyTurn 20 = .ok (.if_icmp .eq 7, 3) := dk_159 0 7 (dk_at dksX5_whyTurn_0 20 rfl rfl)
theorem dX5_whyTurn_23 : decode cX5_whyTurn 23 = .ok (.iconst 2, 1) := dk_5 (dk_at dksX5_whyTurn_0 23 rfl rfl)
theorem dX5_whyTurn_24 : decode cX5_whyTurn 24 = .ok (.goto 4, 3) := dk_167 0 4 (dk_at dksX5_whyTurn_1 0 rfl rfl)
theorem dX5_whyTurn_27 : decode cX5_whyTurn 27 = .ok (.iconst 0, 1) := dk_3 (dk_at dksX5_whyTurn_1 3 rfl rfl)
theorem dX5_whyTurn_28 : decode cX5_whyTurn 28 = .ok (.ireturn, 1) := dk_172 (dk_at dksX5_whyTurn_1 4 rfl rfl)
abbrev cX5_open : ByteArray := prog_32_method_65_code
def yX5_open : MethodName := ⟨RX5, "open", "(I)I"⟩
def dkwX5_open_0 : List UInt8 := [42, 27, 3, 182, 1, 85, 172]
abbrev dktX5_open_0 : List UInt8 := dkwX5_open_0 ++ []
theorem dksX5_open_0 : cX5_open.data.toList.drop 0 = dktX5_open_0 := by decide +kernel
theorem dX5_open_0 : decode cX5_open 0 = .ok (.aload_n 0, 1) := dk_42 (dk_at dksX5_open_0 0 rfl rfl)
theorem dX5_open_1 : decode cX5_open 1 = .ok (.iload_n 1, 1) := dk_27 (dk_at dksX5_open_0 1 rfl rfl)
theorem dX5_open_2 : decode cX5_open 2 = .ok (.iconst 0, 1) := dk_3 (dk_at dksX5_open_0 2 rfl rfl)
theorem dX5_open_3 : decode cX5_open 3 = .ok (.invokevirtual 341, 3) := dk_182 1 85 (dk_at dksX5_open_0 3 rfl rfl)
theorem dX5_open_6 : decode cX5_open 6 = .ok (.ireturn, 1) := dk_172 (dk_at dksX5_open_0 6 rfl rfl)
abbrev cX5_lend : ByteArray := prog_32_method_66_code
def yX5_lend : MethodName := ⟨RX5, "lend", "(III)I"⟩
def dkwX5_lend_2 : List UInt8 := [21, 4, 172, 42, 182, 1, 71, 42, 27, 28, 29, 182, 1, 91, 3, 172]
abbrev dktX5_lend_2 : List UInt8 := dkwX5_lend_2 ++ []
def dkwX5_lend_1 : List UInt8 := [16, 99, 184, 0, 207, 154, 0, 5, 2, 172, 42, 27, 28, 29, 182, 1, 88, 54, 4, 21, 4, 158, 0, 6]
abbrev dktX5_lend_1 : List UInt8 := dkwX5_lend_1 ++ dktX5_lend_2
def dkwX5_lend_0 : List UInt8 := [42, 3, 181, 0, 1, 42, 27, 182, 1, 56, 153, 0, 21, 42, 28, 182, 1, 56, 153, 0, 13, 29, 4]
abbrev dktX5_lend_0 : List UInt8 := dkwX5_lend_0 ++ dktX5_lend_1
theorem dksX5_lend_0 : cX5_lend.data.toList.drop 0 = dktX5_lend_0 := by decide +kernel
theorem dksX5_lend_1 : cX5_lend.data.toList.drop 23 = dktX5_lend_1 := dk_seg dksX5_lend_0 23 rfl rfl
theorem dksX5_lend_2 : cX5_lend.data.toList.drop 47 = dktX5_lend_2 := dk_seg dksX5_lend_1 24 rfl rfl
theorem dX5_lend_0 : decode cX5_lend 0 = .ok (.aload_n 0, 1) := dk_42 (dk_at dksX5_lend_0 0 rfl rfl)
theorem dX5_lend_1 : decode cX5_lend 1 = .ok (.iconst 0, 1) := dk_3 (dk_at dksX5_lend_0 1 rfl rfl)
theorem dX5_lend_2 : decode cX5_lend 2 = .ok (.putfield 1, 3) := dk_181 0 1 (dk_at dksX5_lend_0 2 rfl rfl)
theorem dX5_lend_5 : decode cX5_lend 5 = .ok (.aload_n 0, 1) := dk_42 (dk_at dksX5_lend_0 5 rfl rfl)
theorem dX5_lend_6 : decode cX5_lend 6 = .ok (.iload_n 1, 1) := dk_27 (dk_at dksX5_lend_0 6 rfl rfl)
theorem dX5_lend_7 : decode cX5_lend 7 = .ok (.invokevirtual 312, 3) := dk_182 1 56 (dk_at dksX5_lend_0 7 rfl rfl)
theorem dX5_lend_10 : decode cX5_lend 10 = .ok (.ifCond .eq 21, 3) := dk_153 0 21 (dk_at dksX5_lend_0 10 rfl rfl)
theorem dX5_lend_13 : decode cX5_lend 13 = .ok (.aload_n 0, 1) := dk_42 (dk_at dksX5_lend_0 13 rfl rfl)
theorem dX5_lend_14 : decode cX5_lend 14 = .ok (.iload_n 2, 1) := dk_28 (dk_at dksX5_lend_0 14 rfl rfl)
theorem dX5_lend_15 : decode cX5_lend 15 = .ok (.invokevirtual 312, 3) := dk_182 1 56 (dk_at dksX5_lend_0 15 rfl rfl)
theorem dX5_lend_18 : decode cX5_lend 18 = .ok (.ifCond .eq 13, 3) := dk_153 0 13 (dk_at dksX5_lend_0 18 rfl rfl)
theorem dX5_lend_21 : decode cX5_lend 21 = .ok (.iload_n 3, 1) := dk_29 (dk_at dksX5_lend_0 21 rfl rfl)
theorem dX5_lend_22 : decode cX5_lend 22 = .ok (.iconst 1, 1) := dk_4 (dk_at dksX5_lend_0 22 rfl rfl)
theorem dX5_lend_23 : decode cX5_lend 23 = .ok (.bipush 99, 2) := dk_16 99 (dk_at dksX5_lend_1 0 rfl rfl)
theorem dX5_lend_25 : decode cX5_lend 25 = .ok (.invokestatic 207, 3) := dk_184 0 207 (dk_at dksX5_lend_1 2 rfl rfl)
theorem dX5_lend_28 : decode cX5_lend 28 = .ok (.ifCond .ne 5, 3) := dk_154 0 5 (dk_at dksX5_lend_1 5 rfl rfl)
theorem dX5_lend_31 : decode cX5_lend 31 = .ok (.iconst (-1), 1) := dk_2 (dk_at dksX5_lend_1 8 rfl rfl)
theorem dX5_lend_32 : decode cX5_lend 32 = .ok (.ireturn, 1) := dk_172 (dk_at dksX5_lend_1 9 rfl rfl)
theorem dX5_lend_33 : decode cX5_lend 33 = .ok (.aload_n 0, 1) := dk_42 (dk_at dksX5_lend_1 10 rfl rfl)
theorem dX5_lend_34 : decode cX5_lend 34 = .ok (.iload_n 1, 1) := dk_27 (dk_at dksX5_lend_1 11 rfl rfl)
theorem dX5_lend_35 : decode cX5_lend 35 = .ok (.iload_n 2, 1) := dk_28 (dk_at dksX5_lend_1 12 rfl rfl)
theorem dX5_lend_36 : decode cX5_lend 36 = .ok (.iload_n 3, 1) := dk_29 (dk_at dksX5_lend_1 13 rfl rfl)
theorem dX5_lend_37 : decode cX5_lend 37 = .ok (.invokevirtual 344, 3) := dk_182 1 88 (dk_at dksX5_lend_1 14 rfl rfl)
theorem dX5_lend_40 : decode cX5_lend 40 = .ok (.istore 4, 2) := dk_54 4 (dk_at dksX5_lend_1 17 rfl rfl)
theorem dX5_lend_42 : decode cX5_lend 42 = .ok (.iload 4, 2) := dk_21 4 (dk_at dksX5_lend_1 19 rfl rfl)
theorem dX5_lend_44 : decode cX5_lend 44 = .ok (.ifCond .le 6, 3) := dk_158 0 6 (dk_at dksX5_lend_1 21 rfl rfl)
theorem dX5_lend_47 : decode cX5_lend 47 = .ok (.iload 4, 2) := dk_21 4 (dk_at dksX5_lend_2 0 rfl rfl)
theorem dX5_lend_49 : decode cX5_lend 49 = .ok (.ireturn, 1) := dk_172 (dk_at dksX5_lend_2 2 rfl rfl)
theorem dX5_lend_50 : decode cX5_lend 50 = .ok (.aload_n 0, 1) := dk_42 (dk_at dksX5_lend_2 3 rfl rfl)
theorem dX5_lend_51 : decode cX5_lend 51 = .ok (.invokevirtual 327, 3) := dk_182 1 71 (dk_at dksX5_lend_2 4 rfl rfl)
theorem dX5_lend_54 : decode cX5_lend 54 = .ok (.aload_n 0, 1) := dk_42 (dk_at dksX5_lend_2 7 rfl rfl)
theorem dX5_lend_55 : decode cX5_lend 55 = .ok (.iload_n 1, 1) := dk_27 (dk_at dksX5_lend_2 8 rfl rfl)
theorem dX5_lend_56 : decode cX5_lend 56 = .ok (.iload_n 2, 1) := dk_28 (dk_at dksX5_lend_2 9 rfl rfl)
theorem dX5_lend_57 : decode cX5_lend 57 = .ok (.iload_n 3, 1) := dk_29 (dk_at dksX5_lend_2 10 rfl rfl)
theorem dX5_lend_58 : decode cX5_lend 58 = .ok (.invokevirtual 347, 3) := dk_182 1 91 (dk_at dksX5_lend_2 11 rfl rfl)
theorem dX5_lend_61 : decode cX5_lend 61 = .ok (.iconst 0, 1) := dk_3 (dk_at dksX5_lend_2 14 rfl rfl)
theorem dX5_lend_62 : decode cX5_lend 62 = .ok (.ireturn, 1) := dk_172 (dk_at dksX5_lend_2 15 rfl rfl)
abbrev cX5_whyLend : ByteArray := prog_32_method_55_code
def yX5_whyLend : MethodName := ⟨RX5, "whyLend", "(III)I"⟩
def dkwX5_whyLend_1 : List UInt8 := [167, 0, 4, 3, 172]
abbrev dktX5_whyLend_1 : List UInt8 := dkwX5_whyLend_1 ++ []
def dkwX5_whyLend_0 : List UInt8 := [27, 28, 160, 0, 7, 4, 167, 0, 21, 42, 180, 0, 33, 16, 94, 27, 96, 46, 29, 162, 0, 7, 5]
abbrev dktX5_whyLend_0 : List UInt8 := dkwX5_whyLend_0 ++ dktX5_whyLend_1
theorem dksX5_whyLend_0 : cX5_whyLend.data.toList.drop 0 = dktX5_whyLend_0 := by decide +kernel
theorem dksX5_whyLend_1 : cX5_whyLend.data.toList.drop 23 = dktX5_whyLend_1 := dk_seg dksX5_whyLend_0 23 rfl rfl
theorem dX5_whyLend_0 : decode cX5_whyLend 0 = .ok (.iload_n 1, 1) := dk_27 (dk_at dksX5_whyLend_0 0 rfl rfl)
theorem dX5_whyLend_1 : decode cX5_whyLend 1 = .ok (.iload_n 2, 1) := dk_28 (dk_at dksX5_whyLend_0 1 rfl rfl)
theorem dX5_whyLend_2 : decode cX5_whyLend 2 = .ok (.if_icmp .ne 7, 3) := dk_160 0 7 (dk_at dksX5_whyLend_0 2 rfl rfl)
theorem dX5_whyLend_5 : decode cX5_whyLend 5 = .ok (.iconst 1, 1) := dk_4 (dk_at dksX5_whyLend_0 5 rfl rfl)
theorem dX5_whyLend_6 : decode cX5_whyLend 6 = .ok (.goto 21, 3) := dk_167 0 21 (dk_at dksX5_whyLend_0 6 rfl rfl)
theorem dX5_whyLend_9 : decode cX5_whyLend 9 = .ok (.aload_n 0, 1) := dk_42 (dk_at dksX5_whyLend_0 9 rfl rfl)
theorem dX5_whyLend_10 : decode cX5_whyLend 10 = .ok (.getfield 33, 3) := dk_180 0 33 (dk_at dksX5_whyLend_0 10 rfl rfl)
theorem dX5_whyLend_13 : decode cX5_whyLend 13 = .ok (.bipush 94, 2) := dk_16 94 (dk_at dksX5_whyLend_0 13 rfl rfl)
theorem dX5_whyLend_15 : decode cX5_whyLend 15 = .ok (.iload_n 1, 1) := dk_27 (dk_at dksX5_whyLend_0 15 rfl rfl)
theorem dX5_whyLend_16 : decode cX5_whyLend 16 = .ok (.iadd, 1) := dk_96 (dk_at dksX5_whyLend_0 16 rfl rfl)
theorem dX5_whyLend_17 : decode cX5_whyLend 17 = .ok (.iaload, 1) := dk_46 (dk_at dksX5_whyLend_0 17 rfl rfl)
theorem dX5_whyLend_18 : decode cX5_whyLend 18 = .ok (.iload_n 3, 1) := dk_29 (dk_at dksX5_whyLend_0 18 rfl rfl)
theorem dX5_whyLend_19 : decode cX5_whyLend 19 = .ok (.if_icmp .ge 7, 3) := dk_162 0 7 (dk_at dksX5_whyLend_0 19 rfl rfl)
theorem dX5_whyLend_22 : decode cX5_whyLend 22 = .ok (.iconst 2, 1) := dk_5 (dk_at dksX5_whyLend_0 22 rfl rfl)
theorem dX5_whyLend_23 : decode cX5_whyLend 23 = .ok (.goto 4, 3) := dk_167 0 4 (dk_at dksX5_whyLend_1 0 rfl rfl)
theorem dX5_whyLend_26 : decode cX5_whyLend 26 = .ok (.iconst 0, 1) := dk_3 (dk_at dksX5_whyLend_1 3 rfl rfl)
theorem dX5_whyLend_27 : decode cX5_whyLend 27 = .ok (.ireturn, 1) := dk_172 (dk_at dksX5_whyLend_1 4 rfl rfl)
abbrev cX5_lends : ByteArray := prog_32_method_56_code
def yX5_lends : MethodName := ⟨RX5, "lends", "(III)V"⟩
def dkwX5_lends_1 : List UInt8 := [96, 79, 177]
abbrev dktX5_lends_1 : List UInt8 := dkwX5_lends_1 ++ []
def dkwX5_lends_0 : List UInt8 := [42, 180, 0, 33, 16, 94, 27, 96, 92, 46, 29, 100, 79, 42, 180, 0, 33, 16, 94, 28, 96, 92, 46, 29]
abbrev dktX5_lends_0 : List UInt8 := dkwX5_lends_0 ++ dktX5_lends_1
theorem dksX5_lends_0 : cX5_lends.data.toList.drop 0 = dktX5_lends_0 := by decide +kernel
theorem dksX5_lends_1 : cX5_lends.data.toList.drop 24 = dktX5_lends_1 := dk_seg dksX5_lends_0 24 rfl rfl
theorem dX5_lends_0 : decode cX5_lends 0 = .ok (.aload_n 0, 1) := dk_42 (dk_at dksX5_lends_0 0 rfl rfl)
theorem dX5_lends_1 : decode cX5_lends 1 = .ok (.getfield 33, 3) := dk_180 0 33 (dk_at dksX5_lends_0 1 rfl rfl)
theorem dX5_lends_4 : decode cX5_lends 4 = .ok (.bipush 94, 2) := dk_16 94 (dk_at dksX5_lends_0 4 rfl rfl)
theorem dX5_lends_6 : decode cX5_lends 6 = .ok (.iload_n 1, 1) := dk_27 (dk_at dksX5_lends_0 6 rfl rfl)
theorem dX5_lends_7 : decode cX5_lends 7 = .ok (.iadd, 1) := dk_96 (dk_at dksX5_lends_0 7 rfl rfl)
theorem dX5_lends_8 : decode cX5_lends 8 = .ok (.dup2, 1) := dk_92 (dk_at dksX5_lends_0 8 rfl rfl)
theorem dX5_lends_9 : decode cX5_lends 9 = .ok (.iaload, 1) := dk_46 (dk_at dksX5_lends_0 9 rfl rfl)
theorem dX5_lends_10 : decode cX5_lends 10 = .ok (.iload_n 3, 1) := dk_29 (dk_at dksX5_lends_0 10 rfl rfl)
theorem dX5_lends_11 : decode cX5_lends 11 = .ok (.isub, 1) := dk_100 (dk_at dksX5_lends_0 11 rfl rfl)
theorem dX5_lends_12 : decode cX5_lends 12 = .ok (.iastore, 1) := dk_79 (dk_at dksX5_lends_0 12 rfl rfl)
theorem dX5_lends_13 : decode cX5_lends 13 = .ok (.aload_n 0, 1) := dk_42 (dk_at dksX5_lends_0 13 rfl rfl)
theorem dX5_lends_14 : decode cX5_lends 14 = .ok (.getfield 33, 3) := dk_180 0 33 (dk_at dksX5_lends_0 14 rfl rfl)
theorem dX5_lends_17 : decode cX5_lends 17 = .ok (.bipush 94, 2) := dk_16 94 (dk_at dksX5_lends_0 17 rfl rfl)
theorem dX5_lends_19 : decode cX5_lends 19 = .ok (.iload_n 2, 1) := dk_28 (dk_at dksX5_lends_0 19 rfl rfl)
theorem dX5_lends_20 : decode cX5_lends 20 = .ok (.iadd, 1) := dk_96 (dk_at dksX5_lends_0 20 rfl rfl)
theorem dX5_lends_21 : decode cX5_lends 21 = .ok (.dup2, 1) := dk_92 (dk_at dksX5_lends_0 21 rfl rfl)
theorem dX5_lends_22 : decode cX5_lends 22 = .ok (.iaload, 1) := dk_46 (dk_at dksX5_lends_0 22 rfl rfl)
theorem dX5_lends_23 : decode cX5_lends 23 = .ok (.iload_n 3, 1) := dk_29 (dk_at dksX5_lends_0 23 rfl rfl)
theorem dX5_lends_24 : decode cX5_lends 24 = .ok (.iadd, 1) := dk_96 (dk_at dksX5_lends_1 0 rfl rfl)
theorem dX5_lends_25 : decode cX5_lends 25 = .ok (.iastore, 1) := dk_79 (dk_at dksX5_lends_1 1 rfl rfl)
theorem dX5_lends_26 : decode cX5_lends 26 = .ok (.return_, 1) := dk_177 (dk_at dksX5_lends_1 2 rfl rfl)
abbrev cX5_days : ByteArray := prog_32_method_67_code
def yX5_days : MethodName := ⟨RX5, "days", "(I)I"⟩
def dkwX5_days_1 : List UInt8 := [17, 1, 144, 160, 0, 5, 3, 172, 42, 182, 1, 71, 42, 27, 182, 1, 95, 172]
abbrev dktX5_days_1 : List UInt8 := dkwX5_days_1 ++ []
def dkwX5_days_0 : List UInt8 := [42, 3, 181, 0, 1, 27, 4, 16, 60, 184, 0, 207, 154, 0, 5, 2, 172, 42, 180, 0, 33, 16, 91, 46]
abbrev dktX5_days_0 : List UInt8 := dkwX5_days_0 ++ dktX5_days_1
theorem dksX5_days_0 : cX5_days.data.toList.drop 0 = dktX5_days_0 := by decide +kernel
theorem dksX5_days_1 : cX5_days.data.toList.drop 24 = dktX5_days_1 := dk_seg dksX5_days_0 24 rfl rfl
theorem dX5_days_0 : decode cX5_days 0 = .ok (.aload_n 0, 1) := dk_42 (dk_at dksX5_days_0 0 rfl rfl)
theorem dX5_days_1 : decode cX5_days 1 = .ok (.iconst 0, 1) := dk_3 (dk_at dksX5_days_0 1 rfl rfl)
theorem dX5_days_2 : decode cX5_days 2 = .ok (.putfield 1, 3) := dk_181 0 1 (dk_at dksX5_days_0 2 rfl rfl)
theorem dX5_days_5 : decode cX5_days 5 = .ok (.iload_n 1, 1) := dk_27 (dk_at dksX5_days_0 5 rfl rfl)
theorem dX5_days_6 : decode cX5_days 6 = .ok (.iconst 1, 1) := dk_4 (dk_at dksX5_days_0 6 rfl rfl)
theorem dX5_days_7 : decode cX5_days 7 = .ok (.bipush 60, 2) := dk_16 60 (dk_at dksX5_days_0 7 rfl rfl)
theorem dX5_days_9 : decode cX5_days 9 = .ok (.invokestatic 207, 3) := dk_184 0 207 (dk_at dksX5_days_0 9 rfl rfl)
theorem dX5_days_12 : decode cX5_days 12 = .ok (.ifCond .ne 5, 3) := dk_154 0 5 (dk_at dksX5_days_0 12 rfl rfl)
theorem dX5_days_15 : decode cX5_days 15 = .ok (.iconst (-1), 1) := dk_2 (dk_at dksX5_days_0 15 rfl rfl)
theorem dX5_days_16 : decode cX5_days 16 = .ok (.ireturn, 1) := dk_172 (dk_at dksX5_days_0 16 rfl rfl)
theorem dX5_days_17 : decode cX5_days 17 = .ok (.aload_n 0, 1) := dk_42 (dk_at dksX5_days_0 17 rfl rfl)
theorem dX5_days_18 : decode cX5_days 18 = .ok (.getfield 33, 3) := dk_180 0 33 (dk_at dksX5_days_0 18 rfl rfl)
theorem dX5_days_21 : decode cX5_days 21 = .ok (.bipush 91, 2) := dk_16 91 (dk_at dksX5_days_0 21 rfl rfl)
theorem dX5_days_23 : decode cX5_days 23 = .ok (.iaload, 1) := dk_46 (dk_at dksX5_days_0 23 rfl rfl)
theorem dX5_days_24 : decode cX5_days 24 = .ok (.sipush 400, 3) := dk_17 1 144 (dk_at dksX5_days_1 0 rfl rfl)
theorem dX5_days_27 : decode cX5_days 27 = .ok (.if_icmp .ne 5, 3) := dk_160 0 5 (dk_at dksX5_days_1 3 rfl rfl)
theorem dX5_days_30 : decode cX5_days 30 = .ok (.iconst 0, 1) := dk_3 (dk_at dksX5_days_1 6 rfl rfl)
theorem dX5_days_31 : decode cX5_days 31 = .ok (.ireturn, 1) := dk_172 (dk_at dksX5_days_1 7 rfl rfl)
theorem dX5_days_32 : decode cX5_days 32 = .ok (.aload_n 0, 1) := dk_42 (dk_at dksX5_days_1 8 rfl rfl)
theorem dX5_days_33 : decode cX5_days 33 = .ok (.invokevirtual 327, 3) := dk_182 1 71 (dk_at dksX5_days_1 9 rfl rfl)
theorem dX5_days_36 : decode cX5_days 36 = .ok (.aload_n 0, 1) := dk_42 (dk_at dksX5_days_1 12 rfl rfl)
theorem dX5_days_37 : decode cX5_days 37 = .ok (.iload_n 1, 1) := dk_27 (dk_at dksX5_days_1 13 rfl rfl)
theorem dX5_days_38 : decode cX5_days 38 = .ok (.invokevirtual 351, 3) := dk_182 1 95 (dk_at dksX5_days_1 14 rfl rfl)
theorem dX5_days_41 : decode cX5_days 41 = .ok (.ireturn, 1) := dk_172 (dk_at dksX5_days_1 17 rfl rfl)
abbrev cX5_goesOn : ByteArray := prog_32_method_59_code
def yX5_goesOn : MethodName := ⟨RX5, "goesOn", "(I)I"⟩
def dkwX5_goesOn_1 : List UInt8 := [132, 2, 1, 167, 255, 231, 28, 172]
abbrev dktX5_goesOn_1 : List UInt8 := dkwX5_goesOn_1 ++ []
def dkwX5_goesOn_0 : List UInt8 := [3, 61, 28, 27, 162, 0, 26, 42, 180, 0, 33, 16, 91, 46, 17, 1, 144, 162, 0, 13, 42, 182, 1, 68]
abbrev dktX5_goesOn_0 : List UInt8 := dkwX5_goesOn_0 ++ dktX5_goesOn_1
theorem dksX5_goesOn_0 : cX5_goesOn.data.toList.drop 0 = dktX5_goesOn_0 := by decide +kernel
theorem dksX5_goesOn_1 : cX5_goesOn.data.toList.drop 24 = dktX5_goesOn_1 := dk_seg dksX5_goesOn_0 24 rfl rfl
theorem dX5_goesOn_0 : decode cX5_goesOn 0 = .ok (.iconst 0, 1) := dk_3 (dk_at dksX5_goesOn_0 0 rfl rfl)
theorem dX5_goesOn_1 : decode cX5_goesOn 1 = .ok (.istore_n 2, 1) := dk_61 (dk_at dksX5_goesOn_0 1 rfl rfl)
theorem dX5_goesOn_2 : decode cX5_goesOn 2 = .ok (.iload_n 2, 1) := dk_28 (dk_at dksX5_goesOn_0 2 rfl rfl)
theorem dX5_goesOn_3 : decode cX5_goesOn 3 = .ok (.iload_n 1, 1) := dk_27 (dk_at dksX5_goesOn_0 3 rfl rfl)
theorem dX5_goesOn_4 : decode cX5_goesOn 4 = .ok (.if_icmp .ge 26, 3) := dk_162 0 26 (dk_at dksX5_goesOn_0 4 rfl rfl)
theorem dX5_goesOn_7 : decode cX5_goesOn 7 = .ok (.aload_n 0, 1) := dk_42 (dk_at dksX5_goesOn_0 7 rfl rfl)
theorem dX5_goesOn_8 : decode cX5_goesOn 8 = .ok (.getfield 33, 3) := dk_180 0 33 (dk_at dksX5_goesOn_0 8 rfl rfl)
theorem dX5_goesOn_11 : decode cX5_goesOn 11 = .ok (.bipush 91, 2) := dk_16 91 (dk_at dksX5_goesOn_0 11 rfl rfl)
theorem dX5_goesOn_13 : decode cX5_goesOn 13 = .ok (.iaload, 1) := dk_46 (dk_at dksX5_goesOn_0 13 rfl rfl)
theorem dX5_goesOn_14 : decode cX5_goesOn 14 = .ok (.sipush 400, 3) := dk_17 1 144 (dk_at dksX5_goesOn_0 14 rfl rfl)
theorem dX5_goesOn_17 : decode cX5_goesOn 17 = .ok (.if_icmp .ge 13, 3) := dk_162 0 13 (dk_at dksX5_goesOn_0 17 rfl rfl)
theorem dX5_goesOn_20 : decode cX5_goesOn 20 = .ok (.aload_n 0, 1) := dk_42 (dk_at dksX5_goesOn_0 20 rfl rfl)
theorem dX5_goesOn_21 : decode cX5_goesOn 21 = .ok (.invokevirtual 324, 3) := dk_182 1 68 (dk_at dksX5_goesOn_0 21 rfl rfl)
theorem dX5_goesOn_24 : decode cX5_goesOn 24 = .ok (.iinc 2 1, 3) := dk_132 2 1 (dk_at dksX5_goesOn_1 0 rfl rfl)
theorem dX5_goesOn_27 : decode cX5_goesOn 27 = .ok (.goto (-25), 3) := dk_167 255 231 (dk_at dksX5_goesOn_1 3 rfl rfl)
theorem dX5_goesOn_30 : decode cX5_goesOn 30 = .ok (.iload_n 2, 1) := dk_28 (dk_at dksX5_goesOn_1 6 rfl rfl)
theorem dX5_goesOn_31 : decode cX5_goesOn 31 = .ok (.ireturn, 1) := dk_172 (dk_at dksX5_goesOn_1 7 rfl rfl)
abbrev cX5_day : ByteArray := prog_32_method_58_code
def yX5_day : MethodName := ⟨RX5, "day", "()V"⟩
def dkwX5_day_3 : List UInt8 := [96, 79, 177]
abbrev dktX5_day_3 : List UInt8 := dkwX5_day_3 ++ []
def dkwX5_day_2 : List UInt8 := [27, 96, 46, 96, 92, 46, 4, 100, 79, 132, 1, 1, 167, 255, 198, 42, 180, 0, 33, 16, 91, 92, 46, 4]
abbrev dktX5_day_2 : List UInt8 := dkwX5_day_2 ++ dktX5_day_3
def dkwX5_day_1 : List UInt8 := [180, 0, 33, 16, 114, 27, 96, 92, 46, 4, 96, 79, 42, 180, 0, 33, 16, 94, 42, 180, 0, 33, 16, 79]
abbrev dktX5_day_1 : List UInt8 := dkwX5_day_1 ++ dktX5_day_2
def dkwX5_day_0 : List UInt8 := [3, 60, 27, 42, 180, 0, 33, 5, 46, 162, 0, 54, 42, 27, 182, 1, 65, 154, 0, 6, 167, 0, 37, 42]
abbrev dktX5_day_0 : List UInt8 := dkwX5_day_0 ++ dktX5_day_1
theorem dksX5_day_0 : cX5_day.data.toList.drop 0 = dktX5_day_0 := by decide +kernel
theorem dksX5_day_1 : cX5_day.data.toList.drop 24 = dktX5_day_1 := dk_seg dksX5_day_0 24 rfl rfl
theorem dksX5_day_2 : cX5_day.data.toList.drop 48 = dktX5_day_2 := dk_seg dksX5_day_1 24 rfl rfl
theorem dksX5_day_3 : cX5_day.data.toList.drop 72 = dktX5_day_3 := dk_seg dksX5_day_2 24 rfl rfl
theorem dX5_day_0 : decode cX5_day 0 = .ok (.iconst 0, 1) := dk_3 (dk_at dksX5_day_0 0 rfl rfl)
theorem dX5_day_1 : decode cX5_day 1 = .ok (.istore_n 1, 1) := dk_60 (dk_at dksX5_day_0 1 rfl rfl)
theorem dX5_day_2 : decode cX5_day 2 = .ok (.iload_n 1, 1) := dk_27 (dk_at dksX5_day_0 2 rfl rfl)
theorem dX5_day_3 : decode cX5_day 3 = .ok (.aload_n 0, 1) := dk_42 (dk_at dksX5_day_0 3 rfl rfl)
theorem dX5_day_4 : decode cX5_day 4 = .ok (.getfield 33, 3) := dk_180 0 33 (dk_at dksX5_day_0 4 rfl rfl)
theorem dX5_day_7 : decode cX5_day 7 = .ok (.iconst 2, 1) := dk_5 (dk_at dksX5_day_0 7 rfl rfl)
theorem dX5_day_8 : decode cX5_day 8 = .ok (.iaload, 1) := dk_46 (dk_at dksX5_day_0 8 rfl rfl)
theorem dX5_day_9 : decode cX5_day 9 = .ok (.if_icmp .ge 54, 3) := dk_162 0 54 (dk_at dksX5_day_0 9 rfl rfl)
theorem dX5_day_12 : decode cX5_day 12 = .ok (.aload_n 0, 1) := dk_42 (dk_at dksX5_day_0 12 rfl rfl)
theorem dX5_day_13 : decode cX5_day 13 = .ok (.iload_n 1, 1) := dk_27 (dk_at dksX5_day_0 13 rfl rfl)
theorem dX5_day_14 : decode cX5_day 14 = .ok (.invokevirtual 321, 3) := dk_182 1 65 (dk_at dksX5_day_0 14 rfl rfl)
theorem dX5_day_17 : decode cX5_day 17 = .ok (.ifCond .ne 6, 3) := dk_154 0 6 (dk_at dksX5_day_0 17 rfl rfl)
theorem dX5_day_20 : decode cX5_day 20 = .ok (.goto 37, 3) := dk_167 0 37 (dk_at dksX5_day_0 20 rfl rfl)
theorem dX5_day_23 : decode cX5_day 23 = .ok (.aload_n 0, 1) := dk_42 (dk_at dksX5_day_0 23 rfl rfl)
theorem dX5_day_24 : decode cX5_day 24 = .ok (.getfield 33, 3) := dk_180 0 33 (dk_at dksX5_day_1 0 rfl rfl)
theorem dX5_day_27 : decode cX5_day 27 = .ok (.bipush 114, 2) := dk_16 114 (dk_at dksX5_day_1 3 rfl rfl)
theorem dX5_day_29 : decode cX5_day 29 = .ok (.iload_n 1, 1) := dk_27 (dk_at dksX5_day_1 5 rfl rfl)
theorem dX5_day_30 : decode cX5_day 30 = .ok (.iadd, 1) := dk_96 (dk_at dksX5_day_1 6 rfl rfl)
theorem dX5_day_31 : decode cX5_day 31 = .ok (.dup2, 1) := dk_92 (dk_at dksX5_day_1 7 rfl rfl)
theorem dX5_day_32 : decode cX5_day 32 = .ok (.iaload, 1) := dk_46 (dk_at dksX5_day_1 8 rfl rfl)
theorem dX5_day_33 : decode cX5_day 33 = .ok (.iconst 1, 1) := dk_4 (dk_at dksX5_day_1 9 rfl rfl)
theorem dX5_day_34 : decode cX5_day 34 = .ok (.iadd, 1) := dk_96 (dk_at dksX5_day_1 10 rfl rfl)
theorem dX5_day_35 : decode cX5_day 35 = .ok (.iastore, 1) := dk_79 (dk_at dksX5_day_1 11 rfl rfl)
theorem dX5_day_36 : decode cX5_day 36 = .ok (.aload_n 0, 1) := dk_42 (dk_at dksX5_day_1 12 rfl rfl)
theorem dX5_day_37 : decode cX5_day 37 = .ok (.getfield 33, 3) := dk_180 0 33 (dk_at dksX5_day_1 13 rfl rfl)
theorem dX5_day_40 : decode cX5_day 40 = .ok (.bipush 94, 2) := dk_16 94 (dk_at dksX5_day_1 16 rfl rfl)
theorem dX5_day_42 : decode cX5_day 42 = .ok (.aload_n 0, 1) := dk_42 (dk_at dksX5_day_1 18 rfl rfl)
theorem dX5_day_43 : decode cX5_day 43 = .ok (.getfield 33, 3) := dk_180 0 33 (dk_at dksX5_day_1 19 rfl rfl)
theorem dX5_day_46 : decode cX5_day 46 = .ok (.bipush 79, 2) := dk_16 79 (dk_at dksX5_day_1 22 rfl rfl)
theorem dX5_day_48 : decode cX5_day 48 = .ok (.iload_n 1, 1) := dk_27 (dk_at dksX5_day_2 0 rfl rfl)
theorem dX5_day_49 : decode cX5_day 49 = .ok (.iadd, 1) := dk_96 (dk_at dksX5_day_2 1 rfl rfl)
theorem dX5_day_50 : decode cX5_day 50 = .ok (.iaload, 1) := dk_46 (dk_at dksX5_day_2 2 rfl rfl)
theorem dX5_day_51 : decode cX5_day 51 = .ok (.iadd, 1) := dk_96 (dk_at dksX5_day_2 3 rfl rfl)
theorem dX5_day_52 : decode cX5_day 52 = .ok (.dup2, 1) := dk_92 (dk_at dksX5_day_2 4 rfl rfl)
theorem dX5_day_53 : decode cX5_day 53 = .ok (.iaload, 1) := dk_46 (dk_at dksX5_day_2 5 rfl rfl)
theorem dX5_day_54 : decode cX5_day 54 = .ok (.iconst 1, 1) := dk_4 (dk_at dksX5_day_2 6 rfl rfl)
theorem dX5_day_55 : decode cX5_day 55 = .ok (.isub, 1) := dk_100 (dk_at dksX5_day_2 7 rfl rfl)
theorem dX5_day_56 : decode cX5_day 56 = .ok (.iastore, 1) := dk_79 (dk_at dksX5_day_2 8 rfl rfl)
theorem dX5_day_57 : decode cX5_day 57 = .ok (.iinc 1 1, 3) := dk_132 1 1 (dk_at dksX5_day_2 9 rfl rfl)
theorem dX5_day_60 : decode cX5_day 60 = .ok (.goto (-58), 3) := dk_167 255 198 (dk_at dksX5_day_2 12 rfl rfl)
theorem dX5_day_63 : decode cX5_day 63 = .ok (.aload_n 0, 1) := dk_42 (dk_at dksX5_day_2 15 rfl rfl)
theorem dX5_day_64 : decode cX5_day 64 = .ok (.getfield 33, 3) := dk_180 0 33 (dk_at dksX5_day_2 16 rfl rfl)
theorem dX5_day_67 : decode cX5_day 67 = .ok (.bipush 91, 2) := dk_16 91 (dk_at dksX5_day_2 19 rfl rfl)
theorem dX5_day_69 : decode cX5_day 69 = .ok (.dup2, 1) := dk_92 (dk_at dksX5_day_2 21 rfl rfl)
theorem dX5_day_70 : decode cX5_day 70 = .ok (.iaload, 1) := dk_46 (dk_at dksX5_day_2 22 rfl rfl)
theorem dX5_day_71 : decode cX5_day 71 = .ok (.iconst 1, 1) := dk_4 (dk_at dksX5_day_2 23 rfl rfl)
theorem dX5_day_72 : decode cX5_day 72 = .ok (.iadd, 1) := dk_96 (dk_at dksX5_day_3 0 rfl rfl)
theorem dX5_day_73 : decode cX5_day 73 = .ok (.iastore, 1) := dk_79 (dk_at dksX5_day_3 1 rfl rfl)
theorem dX5_day_74 : decode cX5_day 74 = .ok (.return_, 1) := dk_177 (dk_at dksX5_day_3 2 rfl rfl)
abbrev cX5_grows : ByteArray := prog_32_method_57_code
def yX5_grows : MethodName := ⟨RX5, "grows", "(I)Z"⟩
def dkwX5_grows_2 : List UInt8 := [16, 79, 27, 96, 46, 96, 46, 158, 0, 7, 4, 167, 0, 4, 3, 172]
abbrev dktX5_grows_2 : List UInt8 := dkwX5_grows_2 ++ []
def dkwX5_grows_1 : List UInt8 := [180, 0, 33, 16, 114, 27, 96, 46, 17, 0, 240, 162, 0, 27, 42, 180, 0, 33, 16, 94, 42, 180, 0, 33]
abbrev dktX5_grows_1 : List UInt8 := dkwX5_grows_1 ++ dktX5_grows_2
def dkwX5_grows_0 : List UInt8 := [42, 180, 0, 33, 16, 108, 27, 96, 46, 42, 180, 0, 33, 16, 79, 27, 96, 46, 160, 0, 42, 42]
abbrev dktX5_grows_0 : List UInt8 := dkwX5_grows_0 ++ dktX5_grows_1
theorem dksX5_grows_0 : cX5_grows.data.toList.drop 0 = dktX5_grows_0 := by decide +kernel
theorem dksX5_grows_1 : cX5_grows.data.toList.drop 22 = dktX5_grows_1 := dk_seg dksX5_grows_0 22 rfl rfl
theorem dksX5_grows_2 : cX5_grows.data.toList.drop 46 = dktX5_grows_2 := dk_seg dksX5_grows_1 24 rfl rfl
theorem dX5_grows_0 : decode cX5_grows 0 = .ok (.aload_n 0, 1) := dk_42 (dk_at dksX5_grows_0 0 rfl rfl)
theorem dX5_grows_1 : decode cX5_grows 1 = .ok (.getfield 33, 3) := dk_180 0 33 (dk_at dksX5_grows_0 1 rfl rfl)
theorem dX5_grows_4 : decode cX5_grows 4 = .ok (.bipush 108, 2) := dk_16 108 (dk_at dksX5_grows_0 4 rfl rfl)
theorem dX5_grows_6 : decode cX5_grows 6 = .ok (.iload_n 1, 1) := dk_27 (dk_at dksX5_grows_0 6 rfl rfl)
theorem dX5_grows_7 : decode cX5_grows 7 = .ok (.iadd, 1) := dk_96 (dk_at dksX5_grows_0 7 rfl rfl)
theorem dX5_grows_8 : decode cX5_grows 8 = .ok (.iaload, 1) := dk_46 (dk_at dksX5_grows_0 8 rfl rfl)
theorem dX5_grows_9 : decode cX5_grows 9 = .ok (.aload_n 0, 1) := dk_42 (dk_at dksX5_grows_0 9 rfl rfl)
theorem dX5_grows_10 : decode cX5_grows 10 = .ok (.getfield 33, 3) := dk_180 0 33 (dk_at dksX5_grows_0 10 rfl rfl)
theorem dX5_grows_13 : decode cX5_grows 13 = .ok (.bipush 79, 2) := dk_16 79 (dk_at dksX5_grows_0 13 rfl rfl)
theorem dX5_grows_15 : decode cX5_grows 15 = .ok (.iload_n 1, 1) := dk_27 (dk_at dksX5_grows_0 15 rfl rfl)
theorem dX5_grows_16 : decode cX5_grows 16 = .ok (.iadd, 1) := dk_96 (dk_at dksX5_grows_0 16 rfl rfl)
theorem dX5_grows_17 : decode cX5_grows 17 = .ok (.iaload, 1) := dk_46 (dk_at dksX5_grows_0 17 rfl rfl)
theorem dX5_grows_18 : decode cX5_grows 18 = .ok (.if_icmp .ne 42, 3) := dk_160 0 42 (dk_at dksX5_grows_0 18 rfl rfl)
theorem dX5_grows_21 : decode cX5_grows 21 = .ok (.aload_n 0, 1) := dk_42 (dk_at dksX5_grows_0 21 rfl rfl)
theorem dX5_grows_22 : decode cX5_grows 22 = .ok (.getfield 33, 3) := dk_180 0 33 (dk_at dksX5_grows_1 0 rfl rfl)
theorem dX5_grows_25 : decode cX5_grows 25 = .ok (.bipush 114, 2) := dk_16 114 (dk_at dksX5_grows_1 3 rfl rfl)
theorem dX5_grows_27 : decode cX5_grows 27 = .ok (.iload_n 1, 1) := dk_27 (dk_at dksX5_grows_1 5 rfl rfl)
theorem dX5_grows_28 : decode cX5_grows 28 = .ok (.iadd, 1) := dk_96 (dk_at dksX5_grows_1 6 rfl rfl)
theorem dX5_grows_29 : decode cX5_grows 29 = .ok (.iaload, 1) := dk_46 (dk_at dksX5_grows_1 7 rfl rfl)
theorem dX5_grows_30 : decode cX5_grows 30 = .ok (.sipush 240, 3) := dk_17 0 240 (dk_at dksX5_grows_1 8 rfl rfl)
theorem dX5_grows_33 : decode cX5_grows 33 = .ok (.if_icmp .ge 27, 3) := dk_162 0 27 (dk_at dksX5_grows_1 11 rfl rfl)
theorem dX5_grows_36 : decode cX5_grows 36 = .ok (.aload_n 0, 1) := dk_42 (dk_at dksX5_grows_1 14 rfl rfl)
theorem dX5_grows_37 : decode cX5_grows 37 = .ok (.getfield 33, 3) := dk_180 0 33 (dk_at dksX5_grows_1 15 rfl rfl)
theorem dX5_grows_40 : decode cX5_grows 40 = .ok (.bipush 94, 2) := dk_16 94 (dk_at dksX5_grows_1 18 rfl rfl)
theorem dX5_grows_42 : decode cX5_grows 42 = .ok (.aload_n 0, 1) := dk_42 (dk_at dksX5_grows_1 20 rfl rfl)
theorem dX5_grows_43 : decode cX5_grows 43 = .ok (.getfield 33, 3) := dk_180 0 33 (dk_at dksX5_grows_1 21 rfl rfl)
theorem dX5_grows_46 : decode cX5_grows 46 = .ok (.bipush 79, 2) := dk_16 79 (dk_at dksX5_grows_2 0 rfl rfl)
theorem dX5_grows_48 : decode cX5_grows 48 = .ok (.iload_n 1, 1) := dk_27 (dk_at dksX5_grows_2 2 rfl rfl)
theorem dX5_grows_49 : decode cX5_grows 49 = .ok (.iadd, 1) := dk_96 (dk_at dksX5_grows_2 3 rfl rfl)
theorem dX5_grows_50 : decode cX5_grows 50 = .ok (.iaload, 1) := dk_46 (dk_at dksX5_grows_2 4 rfl rfl)
theorem dX5_grows_51 : decode cX5_grows 51 = .ok (.iadd, 1) := dk_96 (dk_at dksX5_grows_2 5 rfl rfl)
theorem dX5_grows_52 : decode cX5_grows 52 = .ok (.iaload, 1) := dk_46 (dk_at dksX5_grows_2 6 rfl rfl)
theorem dX5_grows_53 : decode cX5_grows 53 = .ok (.ifCond .le 7, 3) := dk_158 0 7 (dk_at dksX5_grows_2 7 rfl rfl)
theorem dX5_grows_56 : decode cX5_grows 56 = .ok (.iconst 1, 1) := dk_4 (dk_at dksX5_grows_2 10 rfl rfl)
theorem dX5_grows_57 : decode cX5_grows 57 = .ok (.goto 4, 3) := dk_167 0 4 (dk_at dksX5_grows_2 11 rfl rfl)
theorem dX5_grows_60 : decode cX5_grows 60 = .ok (.iconst 0, 1) := dk_3 (dk_at dksX5_grows_2 14 rfl rfl)
theorem dX5_grows_61 : decode cX5_grows 61 = .ok (.ireturn, 1) := dk_172 (dk_at dksX5_grows_2 15 rfl rfl)
abbrev cX5_undo : ByteArray := prog_32_method_69_code
def yX5_undo : MethodName := ⟨RX5, "undo", "()I"⟩
def dkwX5_undo_2 : List UInt8 := [180, 1, 19, 104, 27, 96, 46, 79, 132, 1, 1, 167, 255, 224, 42, 180, 1, 19, 172]
abbrev dktX5_undo_2 : List UInt8 := dkwX5_undo_2 ++ []
def dkwX5_undo_1 : List UInt8 := [3, 60, 27, 16, 47, 162, 0, 32, 42, 180, 0, 33, 16, 91, 27, 96, 42, 180, 0, 50, 16, 47, 42]
abbrev dktX5_undo_1 : List UInt8 := dkwX5_undo_1 ++ dktX5_undo_2
def dkwX5_undo_0 : List UInt8 := [42, 3, 181, 0, 1, 42, 180, 1, 19, 154, 0, 5, 2, 172, 42, 89, 180, 1, 19, 4, 100, 181, 1, 19]
abbrev dktX5_undo_0 : List UInt8 := dkwX5_undo_0 ++ dktX5_undo_1
theorem dksX5_undo_0 : cX5_undo.data.toList.drop 0 = dktX5_undo_0 := by decide +kernel
theorem dksX5_undo_1 : cX5_undo.data.toList.drop 24 = dktX5_undo_1 := dk_seg dksX5_undo_0 24 rfl rfl
theorem dksX5_undo_2 : cX5_undo.data.toList.drop 47 = dktX5_undo_2 := dk_seg dksX5_undo_1 23 rfl rfl
theorem dX5_undo_0 : decode cX5_undo 0 = .ok (.aload_n 0, 1) := dk_42 (dk_at dksX5_undo_0 0 rfl rfl)
theorem dX5_undo_1 : decode cX5_undo 1 = .ok (.iconst 0, 1) := dk_3 (dk_at dksX5_undo_0 1 rfl rfl)
theorem dX5_undo_2 : decode cX5_undo 2 = .ok (.putfield 1, 3) := dk_181 0 1 (dk_at dksX5_undo_0 2 rfl rfl)
theorem dX5_undo_5 : decode cX5_undo 5 = .ok (.aload_n 0, 1) := dk_42 (dk_at dksX5_undo_0 5 rfl rfl)
theorem dX5_undo_6 : decode cX5_undo 6 = .ok (.getfield 275, 3) := dk_180 1 19 (dk_at dksX5_undo_0 6 rfl rfl)
theorem dX5_undo_9 : decode cX5_undo 9 = .ok (.ifCond .ne 5, 3) := dk_154 0 5 (dk_at dksX5_undo_0 9 rfl rfl)
theorem dX5_undo_12 : decode cX5_undo 12 = .ok (.iconst (-1), 1) := dk_2 (dk_at dksX5_undo_0 12 rfl rfl)
theorem dX5_undo_13 : decode cX5_undo 13 = .ok (.ireturn, 1) := dk_172 (dk_at dksX5_undo_0 13 rfl rfl)
theorem dX5_undo_14 : decode cX5_undo 14 = .ok (.aload_n 0, 1) := dk_42 (dk_at dksX5_undo_0 14 rfl rfl)
theorem dX5_undo_15 : decode cX5_undo 15 = .ok (.dup, 1) := dk_89 (dk_at dksX5_undo_0 15 rfl rfl)
theorem dX5_undo_16 : decode cX5_undo 16 = .ok (.getfield 275, 3) := dk_180 1 19 (dk_at dksX5_undo_0 16 rfl rfl)
theorem dX5_undo_19 : decode cX5_undo 19 = .ok (.iconst 1, 1) := dk_4 (dk_at dksX5_undo_0 19 rfl rfl)
theorem dX5_undo_20 : decode cX5_undo 20 = .ok (.isub, 1) := dk_100 (dk_at dksX5_undo_0 20 rfl rfl)
theorem dX5_undo_21 : decode cX5_undo 21 = .ok (.putfield 275, 3) := dk_181 1 19 (dk_at dksX5_undo_0 21 rfl rfl)
theorem dX5_undo_24 : decode cX5_undo 24 = .ok (.iconst 0, 1) := dk_3 (dk_at dksX5_undo_1 0 rfl rfl)
theorem dX5_undo_25 : decode cX5_undo 25 = .ok (.istore_n 1, 1) := dk_60 (dk_at dksX5_undo_1 1 rfl rfl)
theorem dX5_undo_26 : decode cX5_undo 26 = .ok (.iload_n 1, 1) := dk_27 (dk_at dksX5_undo_1 2 rfl rfl)
theorem dX5_undo_27 : decode cX5_undo 27 = .ok (.bipush 47, 2) := dk_16 47 (dk_at dksX5_undo_1 3 rfl rfl)
theorem dX5_undo_29 : decode cX5_undo 29 = .ok (.if_icmp .ge 32, 3) := dk_162 0 32 (dk_at dksX5_undo_1 5 rfl rfl)
theorem dX5_undo_32 : decode cX5_undo 32 = .ok (.aload_n 0, 1) := dk_42 (dk_at dksX5_undo_1 8 rfl rfl)
theorem dX5_undo_33 : decode cX5_undo 33 = .ok (.getfield 33, 3) := dk_180 0 33 (dk_at dksX5_undo_1 9 rfl rfl)
theorem dX5_undo_36 : decode cX5_undo 36 = .ok (.bipush 91, 2) := dk_16 91 (dk_at dksX5_undo_1 12 rfl rfl)
theorem dX5_undo_38 : decode cX5_undo 38 = .ok (.iload_n 1, 1) := dk_27 (dk_at dksX5_undo_1 14 rfl rfl)
theorem dX5_undo_39 : decode cX5_undo 39 = .ok (.iadd, 1) := dk_96 (dk_at dksX5_undo_1 15 rfl rfl)
theorem dX5_undo_40 : decode cX5_undo 40 = .ok (.aload_n 0, 1) := dk_42 (dk_at dksX5_undo_1 16 rfl rfl)
theorem dX5_undo_41 : decode cX5_undo 41 = .ok (.getfield 50, 3) := dk_180 0 50 (dk_at dksX5_undo_1 17 rfl rfl)
theorem dX5_undo_44 : decode cX5_undo 44 = .ok (.bipush 47, 2) := dk_16 47 (dk_at dksX5_undo_1 20 rfl rfl)
theorem dX5_undo_46 : decode cX5_undo 46 = .ok (.aload_n 0, 1) := dk_42 (dk_at dksX5_undo_1 22 rfl rfl)
theorem dX5_undo_47 : decode cX5_undo 47 = .ok (.getfield 275, 3) := dk_180 1 19 (dk_at dksX5_undo_2 0 rfl rfl)
theorem dX5_undo_50 : decode cX5_undo 50 = .ok (.imul, 1) := dk_104 (dk_at dksX5_undo_2 3 rfl rfl)
theorem dX5_undo_51 : decode cX5_undo 51 = .ok (.iload_n 1, 1) := dk_27 (dk_at dksX5_undo_2 4 rfl rfl)
theorem dX5_undo_52 : decode cX5_undo 52 = .ok (.iadd, 1) := dk_96 (dk_at dksX5_undo_2 5 rfl rfl)
theorem dX5_undo_53 : decode cX5_undo 53 = .ok (.iaload, 1) := dk_46 (dk_at dksX5_undo_2 6 rfl rfl)
theorem dX5_undo_54 : decode cX5_undo 54 = .ok (.iastore, 1) := dk_79 (dk_at dksX5_undo_2 7 rfl rfl)
theorem dX5_undo_55 : decode cX5_undo 55 = .ok (.iinc 1 1, 3) := dk_132 1 1 (dk_at dksX5_undo_2 8 rfl rfl)
theorem dX5_undo_58 : decode cX5_undo 58 = .ok (.goto (-32), 3) := dk_167 255 224 (dk_at dksX5_undo_2 11 rfl rfl)
theorem dX5_undo_61 : decode cX5_undo 61 = .ok (.aload_n 0, 1) := dk_42 (dk_at dksX5_undo_2 14 rfl rfl)
theorem dX5_undo_62 : decode cX5_undo 62 = .ok (.getfield 275, 3) := dk_180 1 19 (dk_at dksX5_undo_2 15 rfl rfl)
theorem dX5_undo_65 : decode cX5_undo 65 = .ok (.ireturn, 1) := dk_172 (dk_at dksX5_undo_2 18 rfl rfl)
abbrev cX5_way : ByteArray := prog_32_method_76_code
def yX5_way : MethodName := ⟨RX5, "way", "(III)I"⟩
def dkwX5_way_3 : List UInt8 := [42, 180, 0, 68, 21, 5, 42, 180, 0, 65, 21, 5, 46, 79, 132, 5, 1, 167, 255, 232, 21, 4, 172]
abbrev dktX5_way_3 : List UInt8 := dkwX5_way_3 ++ []
def dkwX5_way_2 : List UInt8 := [19, 1, 116, 160, 0, 5, 2, 172, 42, 21, 4, 181, 0, 77, 3, 54, 5, 21, 5, 21, 4, 162, 0, 23]
abbrev dktX5_way_2 : List UInt8 := dkwX5_way_2 ++ dktX5_way_3
def dkwX5_way_1 : List UInt8 := [17, 0, 240, 184, 0, 207, 154, 0, 5, 2, 172, 42, 27, 28, 29, 3, 182, 1, 117, 54, 4, 21, 4]
abbrev dktX5_way_1 : List UInt8 := dkwX5_way_1 ++ dktX5_way_2
def dkwX5_way_0 : List UInt8 := [42, 3, 181, 0, 1, 42, 27, 182, 1, 46, 153, 0, 22, 42, 28, 182, 1, 56, 153, 0, 14, 29, 3]
abbrev dktX5_way_0 : List UInt8 := dkwX5_way_0 ++ dktX5_way_1
theorem dksX5_way_0 : cX5_way.data.toList.drop 0 = dktX5_way_0 := by decide +kernel
theorem dksX5_way_1 : cX5_way.data.toList.drop 23 = dktX5_way_1 := dk_seg dksX5_way_0 23 rfl rfl
theorem dksX5_way_2 : cX5_way.data.toList.drop 46 = dktX5_way_2 := dk_seg dksX5_way_1 23 rfl rfl
theorem dksX5_way_3 : cX5_way.data.toList.drop 70 = dktX5_way_3 := dk_seg dksX5_way_2 24 rfl rfl
theorem dX5_way_0 : decode cX5_way 0 = .ok (.aload_n 0, 1) := dk_42 (dk_at dksX5_way_0 0 rfl rfl)
theorem dX5_way_1 : decode cX5_way 1 = .ok (.iconst 0, 1) := dk_3 (dk_at dksX5_way_0 1 rfl rfl)
theorem dX5_way_2 : decode cX5_way 2 = .ok (.putfield 1, 3) := dk_181 0 1 (dk_at dksX5_way_0 2 rfl rfl)
theorem dX5_way_5 : decode cX5_way 5 = .ok (.aload_n 0, 1) := dk_42 (dk_at dksX5_way_0 5 rfl rfl)
theorem dX5_way_6 : decode cX5_way 6 = .ok (.iload_n 1, 1) := dk_27 (dk_at dksX5_way_0 6 rfl rfl)
theorem dX5_way_7 : decode cX5_way 7 = .ok (.invokevirtual 302, 3) := dk_182 1 46 (dk_at dksX5_way_0 7 rfl rfl)
theorem dX5_way_10 : decode cX5_way 10 = .ok (.ifCond .eq 22, 3) := dk_153 0 22 (dk_at dksX5_way_0 10 rfl rfl)
theorem dX5_way_13 : decode cX5_way 13 = .ok (.aload_n 0, 1) := dk_42 (dk_at dksX5_way_0 13 rfl rfl)
theorem dX5_way_14 : decode cX5_way 14 = .ok (.iload_n 2, 1) := dk_28 (dk_at dksX5_way_0 14 rfl rfl)
theorem dX5_way_15 : decode cX5_way 15 = .ok (.invokevirtual 312, 3) := dk_182 1 56 (dk_at dksX5_way_0 15 rfl rfl)
theorem dX5_way_18 : decode cX5_way 18 = .ok (.ifCond .eq 14, 3) := dk_153 0 14 (dk_at dksX5_way_0 18 rfl rfl)
theorem dX5_way_21 : decode cX5_way 21 = .ok (.iload_n 3, 1) := dk_29 (dk_at dksX5_way_0 21 rfl rfl)
theorem dX5_way_22 : decode cX5_way 22 = .ok (.iconst 0, 1) := dk_3 (dk_at dksX5_way_0 22 rfl rfl)
theorem dX5_way_23 : decode cX5_way 23 = .ok (.sipush 240, 3) := dk_17 0 240 (dk_at dksX5_way_1 0 rfl rfl)
theorem dX5_way_26 : decode cX5_way 26 = .ok (.invokestatic 207, 3) := dk_184 0 207 (dk_at dksX5_way_1 3 rfl rfl)
theorem dX5_way_29 : decode cX5_way 29 = .ok (.ifCond .ne 5, 3) := dk_154 0 5 (dk_at dksX5_way_1 6 rfl rfl)
theorem dX5_way_32 : decode cX5_way 32 = .ok (.iconst (-1), 1) := dk_2 (dk_at dksX5_way_1 9 rfl rfl)
theorem dX5_way_33 : decode cX5_way 33 = .ok (.ireturn, 1) := dk_172 (dk_at dksX5_way_1 10 rfl rfl)
theorem dX5_way_34 : decode cX5_way 34 = .ok (.aload_n 0, 1) := dk_42 (dk_at dksX5_way_1 11 rfl rfl)
theorem dX5_way_35 : decode cX5_way 35 = .ok (.iload_n 1, 1) := dk_27 (dk_at dksX5_way_1 12 rfl rfl)
theorem dX5_way_36 : decode cX5_way 36 = .ok (.iload_n 2, 1) := dk_28 (dk_at dksX5_way_1 13 rfl rfl)
theorem dX5_way_37 : decode cX5_way 37 = .ok (.iload_n 3, 1) := dk_29 (dk_at dksX5_way_1 14 rfl rfl)
theorem dX5_way_38 : decode cX5_way 38 = .ok (.iconst 0, 1) := dk_3 (dk_at dksX5_way_1 15 rfl rfl)
theorem dX5_way_39 : decode cX5_way 39 = .ok (.invokevirtual 373, 3) := dk_182 1 117 (dk_at dksX5_way_1 16 rfl rfl)
theorem dX5_way_42 : decode cX5_way 42 = .ok (.istore 4, 2) := dk_54 4 (dk_at dksX5_way_1 19 rfl rfl)
theorem dX5_way_44 : decode cX5_way 44 = .ok (.iload 4, 2) := dk_21 4 (dk_at dksX5_way_1 21 rfl rfl)
theorem dX5_way_46 : decode cX5_way 46 = .ok (.ldc_w 372, 3) := dk_19 1 116 (dk_at dksX5_way_2 0 rfl rfl)
theorem dX5_way_49 : decode cX5_way 49 = .ok (.if_icmp .ne 5, 3) := dk_160 0 5 (dk_at dksX5_way_2 3 rfl rfl)
theorem dX5_way_52 : decode cX5_way 52 = .ok (.iconst (-1), 1) := dk_2 (dk_at dksX5_way_2 6 rfl rfl)
theorem dX5_way_53 : decode cX5_way 53 = .ok (.ireturn, 1) := dk_172 (dk_at dksX5_way_2 7 rfl rfl)
theorem dX5_way_54 : decode cX5_way 54 = .ok (.aload_n 0, 1) := dk_42 (dk_at dksX5_way_2 8 rfl rfl)
theorem dX5_way_55 : decode cX5_way 55 = .ok (.iload 4, 2) := dk_21 4 (dk_at dksX5_way_2 9 rfl rfl)
theorem dX5_way_57 : decode cX5_way 57 = .ok (.putfield 77, 3) := dk_181 0 77 (dk_at dksX5_way_2 11 rfl rfl)
theorem dX5_way_60 : decode cX5_way 60 = .ok (.iconst 0, 1) := dk_3 (dk_at dksX5_way_2 14 rfl rfl)
theorem dX5_way_61 : decode cX5_way 61 = .ok (.istore 5, 2) := dk_54 5 (dk_at dksX5_way_2 15 rfl rfl)
theorem dX5_way_63 : decode cX5_way 63 = .ok (.iload 5, 2) := dk_21 5 (dk_at dksX5_way_2 17 rfl rfl)
theorem dX5_way_65 : decode cX5_way 65 = .ok (.iload 4, 2) := dk_21 4 (dk_at dksX5_way_2 19 rfl rfl)
theorem dX5_way_67 : decode cX5_way 67 = .ok (.if_icmp .ge 23, 3) := dk_162 0 23 (dk_at dksX5_way_2 21 rfl rfl)
theorem dX5_way_70 : decode cX5_way 70 = .ok (.aload_n 0, 1) := dk_42 (dk_at dksX5_way_3 0 rfl rfl)
theorem dX5_way_71 : decode cX5_way 71 = .ok (.getfield 68, 3) := dk_180 0 68 (dk_at dksX5_way_3 1 rfl rfl)
theorem dX5_way_74 : decode cX5_way 74 = .ok (.iload 5, 2) := dk_21 5 (dk_at dksX5_way_3 4 rfl rfl)
theorem dX5_way_76 : decode cX5_way 76 = .ok (.aload_n 0, 1) := dk_42 (dk_at dksX5_way_3 6 rfl rfl)
theorem dX5_way_77 : decode cX5_way 77 = .ok (.getfield 65, 3) := dk_180 0 65 (dk_at dksX5_way_3 7 rfl rfl)
theorem dX5_way_80 : decode cX5_way 80 = .ok (.iload 5, 2) := dk_21 5 (dk_at dksX5_way_3 10 rfl rfl)
theorem dX5_way_82 : decode cX5_way 82 = .ok (.iaload, 1) := dk_46 (dk_at dksX5_way_3 12 rfl rfl)
theorem dX5_way_83 : decode cX5_way 83 = .ok (.iastore, 1) := dk_79 (dk_at dksX5_way_3 13 rfl rfl)
theorem dX5_way_84 : decode cX5_way 84 = .ok (.iinc 5 1, 3) := dk_132 5 1 (dk_at dksX5_way_3 14 rfl rfl)
theorem dX5_way_87 : decode cX5_way 87 = .ok (.goto (-24), 3) := dk_167 255 232 (dk_at dksX5_way_3 17 rfl rfl)
theorem dX5_way_90 : decode cX5_way 90 = .ok (.iload 4, 2) := dk_21 4 (dk_at dksX5_way_3 20 rfl rfl)
theorem dX5_way_92 : decode cX5_way 92 = .ok (.ireturn, 1) := dk_172 (dk_at dksX5_way_3 22 rfl rfl)
abbrev cX5_fewest : ByteArray := prog_32_method_75_code
def yX5_fewest : MethodName := ⟨RX5, "fewest", "(IIII)I"⟩
def dkwX5_fewest_4 : List UInt8 := [167, 255, 165, 19, 1, 116, 172]
abbrev dktX5_fewest_4 : List UInt8 := dkwX5_fewest_4 ++ []
def dkwX5_fewest_3 : List UInt8 := [21, 5, 46, 28, 160, 255, 234, 42, 180, 0, 59, 21, 5, 46, 29, 161, 255, 223, 21, 5, 172, 132, 5, 1]
abbrev dktX5_fewest_3 : List UInt8 := dkwX5_fewest_3 ++ dktX5_fewest_4
def dkwX5_fewest_2 : List UInt8 := [29, 161, 0, 5, 3, 172, 21, 5, 158, 0, 37, 42, 21, 5, 182, 1, 113, 153, 0, 28, 42, 180, 0, 56]
abbrev dktX5_fewest_2 : List UInt8 := dkwX5_fewest_2 ++ dktX5_fewest_3
def dkwX5_fewest_1 : List UInt8 := [181, 1, 101, 21, 5, 154, 0, 25, 42, 180, 0, 56, 3, 46, 28, 160, 0, 15, 42, 180, 0, 59, 3, 46]
abbrev dktX5_fewest_1 : List UInt8 := dkwX5_fewest_1 ++ dktX5_fewest_2
def dkwX5_fewest_0 : List UInt8 := [3, 54, 5, 21, 5, 8, 163, 0, 91, 42, 27, 182, 1, 110, 42, 89, 180, 1, 101, 21, 4, 128]
abbrev dktX5_fewest_0 : List UInt8 := dkwX5_fewest_0 ++ dktX5_fewest_1
theorem dksX5_fewest_0 : cX5_fewest.data.toList.drop 0 = dktX5_fewest_0 := by decide +kernel
theorem dksX5_fewest_1 : cX5_fewest.data.toList.drop 22 = dktX5_fewest_1 := dk_seg dksX5_fewest_0 22 rfl rfl
theorem dksX5_fewest_2 : cX5_fewest.data.toList.drop 46 = dktX5_fewest_2 := dk_seg dksX5_fewest_1 24 rfl rfl
theorem dksX5_fewest_3 : cX5_fewest.data.toList.drop 70 = dktX5_fewest_3 := dk_seg dksX5_fewest_2 24 rfl rfl
theorem dksX5_fewest_4 : cX5_fewest.data.toList.drop 94 = dktX5_fewest_4 := dk_seg dksX5_fewest_3 24 rfl rfl
theorem dX5_fewest_0 : decode cX5_fewest 0 = .ok (.iconst 0, 1) := dk_3 (dk_at dksX5_fewest_0 0 rfl rfl)
theorem dX5_fewest_1 : decode cX5_fewest 1 = .ok (.istore 5, 2) := dk_54 5 (dk_at dksX5_fewest_0 1 rfl rfl)
theorem dX5_fewest_3 : decode cX5_fewest 3 = .ok (.iload 5, 2) := dk_21 5 (dk_at dksX5_fewest_0 3 rfl rfl)
theorem dX5_fewest_5 : decode cX5_fewest 5 = .ok (.iconst 5, 1) := dk_8 (dk_at dksX5_fewest_0 5 rfl rfl)
theorem dX5_fewest_6 : decode cX5_fewest 6 = .ok (.if_icmp .gt 91, 3) := dk_163 0 91 (dk_at dksX5_fewest_0 6 rfl rfl)
theorem dX5_fewest_9 : decode cX5_fewest 9 = .ok (.aload_n 0, 1) := dk_42 (dk_at dksX5_fewest_0 9 rfl rfl)
theorem dX5_fewest_10 : decode cX5_fewest 10 = .ok (.iload_n 1, 1) := dk_27 (dk_at dksX5_fewest_0 10 rfl rfl)
theorem dX5_fewest_11 : decode cX5_fewest 11 = .ok (.invokevirtual 366, 3) := dk_182 1 110 (dk_at dksX5_fewest_0 11 rfl rfl)
theorem dX5_fewest_14 : decode cX5_fewest 14 = .ok (.aload_n 0, 1) := dk_42 (dk_at dksX5_fewest_0 14 rfl rfl)
theorem dX5_fewest_15 : decode cX5_fewest 15 = .ok (.dup, 1) := dk_89 (dk_at dksX5_fewest_0 15 rfl rfl)
theorem dX5_fewest_16 : decode cX5_fewest 16 = .ok (.getfield 357, 3) := dk_180 1 101 (dk_at dksX5_fewest_0 16 rfl rfl)
theorem dX5_fewest_19 : decode cX5_fewest 19 = .ok (.iload 4, 2) := dk_21 4 (dk_at dksX5_fewest_0 19 rfl rfl)
theorem dX5_fewest_21 : decode cX5_fewest 21 = .ok (.ior, 1) := dk_128 (dk_at dksX5_fewest_0 21 rfl rfl)
theorem dX5_fewest_22 : decode cX5_fewest 22 = .ok (.putfield 357, 3) := dk_181 1 101 (dk_at dksX5_fewest_1 0 rfl rfl)
theorem dX5_fewest_25 : decode cX5_fewest 25 = .ok (.iload 5, 2) := dk_21 5 (dk_at dksX5_fewest_1 3 rfl rfl)
theorem dX5_fewest_27 : decode cX5_fewest 27 = .ok (.ifCond .ne 25, 3) := dk_154 0 25 (dk_at dksX5_fewest_1 5 rfl rfl)
theorem dX5_fewest_30 : decode cX5_fewest 30 = .ok (.aload_n 0, 1) := dk_42 (dk_at dksX5_fewest_1 8 rfl rfl)
theorem dX5_fewest_31 : decode cX5_fewest 31 = .ok (.getfield 56, 3) := dk_180 0 56 (dk_at dksX5_fewest_1 9 rfl rfl)
theorem dX5_fewest_34 : decode cX5_fewest 34 = .ok (.iconst 0, 1) := dk_3 (dk_at dksX5_fewest_1 12 rfl rfl)
theorem dX5_fewest_35 : decode cX5_fewest 35 = .ok (.iaload, 1) := dk_46 (dk_at dksX5_fewest_1 13 rfl rfl)
theorem dX5_fewest_36 : decode cX5_fewest 36 = .ok (.iload_n 2, 1) := dk_28 (dk_at dksX5_fewest_1 14 rfl rfl)
theorem dX5_fewest_37 : decode cX5_fewest 37 = .ok (.if_icmp .ne 15, 3) := dk_160 0 15 (dk_at dksX5_fewest_1 15 rfl rfl)
theorem dX5_fewest_40 : decode cX5_fewest 40 = .ok (.aload_n 0, 1) := dk_42 (dk_at dksX5_fewest_1 18 rfl rfl)
theorem dX5_fewest_41 : decode cX5_fewest 41 = .ok (.getfield 59, 3) := dk_180 0 59 (dk_at dksX5_fewest_1 19 rfl rfl)
theorem dX5_fewest_44 : decode cX5_fewest 44 = .ok (.iconst 0, 1) := dk_3 (dk_at dksX5_fewest_1 22 rfl rfl)
theorem dX5_fewest_45 : decode cX5_fewest 45 = .ok (.iaload, 1) := dk_46 (dk_at dksX5_fewest_1 23 rfl rfl)
theorem dX5_fewest_46 : decode cX5_fewest 46 = .ok (.iload_n 3, 1) := dk_29 (dk_at dksX5_fewest_2 0 rfl rfl)
theorem dX5_fewest_47 : decode cX5_fewest 47 = .ok (.if_icmp .lt 5, 3) := dk_161 0 5 (dk_at dksX5_fewest_2 1 rfl rfl)
theorem dX5_fewest_50 : decode cX5_fewest 50 = .ok (.iconst 0, 1) := dk_3 (dk_at dksX5_fewest_2 4 rfl rfl)
theorem dX5_fewest_51 : decode cX5_fewest 51 = .ok (.ireturn, 1) := dk_172 (dk_at dksX5_fewest_2 5 rfl rfl)
theorem dX5_fewest_52 : decode cX5_fewest 52 = .ok (.iload 5, 2) := dk_21 5 (dk_at dksX5_fewest_2 6 rfl rfl)
theorem dX5_fewest_54 : decode cX5_fewest 54 = .ok (.ifCond .le 37, 3) := dk_158 0 37 (dk_at dksX5_fewest_2 8 rfl rfl)
theorem dX5_fewest_57 : decode cX5_fewest 57 = .ok (.aload_n 0, 1) := dk_42 (dk_at dksX5_fewest_2 11 rfl rfl)
theorem dX5_fewest_58 : decode cX5_fewest 58 = .ok (.iload 5, 2) := dk_21 5 (dk_at dksX5_fewest_2 12 rfl rfl)
theorem dX5_fewest_60 : decode cX5_fewest 60 = .ok (.invokevirtual 369, 3) := dk_182 1 113 (dk_at dksX5_fewest_2 14 rfl rfl)
theorem dX5_fewest_63 : decode cX5_fewest 63 = .ok (.ifCond .eq 28, 3) := dk_153 0 28 (dk_at dksX5_fewest_2 17 rfl rfl)
theorem dX5_fewest_66 : decode cX5_fewest 66 = .ok (.aload_n 0, 1) := dk_42 (dk_at dksX5_fewest_2 20 rfl rfl)
theorem dX5_fewest_67 : decode cX5_fewest 67 = .ok (.getfield 56, 3) := dk_180 0 56 (dk_at dksX5_fewest_2 21 rfl rfl)
theorem dX5_fewest_70 : decode cX5_fewest 70 = .ok (.iload 5, 2) := dk_21 5 (dk_at dksX5_fewest_3 0 rfl rfl)
theorem dX5_fewest_72 : decode cX5_fewest 72 = .ok (.iaload, 1) := dk_46 (dk_at dksX5_fewest_3 2 rfl rfl)
theorem dX5_fewest_73 : decode cX5_fewest 73 = .ok (.iload_n 2, 1) := dk_28 (dk_at dksX5_fewest_3 3 rfl rfl)
theorem dX5_fewest_74 : decode cX5_fewest 74 = .ok (.if_icmp .ne (-22), 3) := dk_160 255 234 (dk_at dksX5_fewest_3 4 rfl rfl)
theorem dX5_fewest_77 : decode cX5_fewest 77 = .ok (.aload_n 0, 1) := dk_42 (dk_at dksX5_fewest_3 7 rfl rfl)
theorem dX5_fewest_78 : decode cX5_fewest 78 = .ok (.getfield 59, 3) := dk_180 0 59 (dk_at dksX5_fewest_3 8 rfl rfl)
theorem dX5_fewest_81 : decode cX5_fewest 81 = .ok (.iload 5, 2) := dk_21 5 (dk_at dksX5_fewest_3 11 rfl rfl)
theorem dX5_fewest_83 : decode cX5_fewest 83 = .ok (.iaload, 1) := dk_46 (dk_at dksX5_fewest_3 13 rfl rfl)
theorem dX5_fewest_84 : decode cX5_fewest 84 = .ok (.iload_n 3, 1) := dk_29 (dk_at dksX5_fewest_3 14 rfl rfl)
theorem dX5_fewest_85 : decode cX5_fewest 85 = .ok (.if_icmp .lt (-33), 3) := dk_161 255 223 (dk_at dksX5_fewest_3 15 rfl rfl)
theorem dX5_fewest_88 : decode cX5_fewest 88 = .ok (.iload 5, 2) := dk_21 5 (dk_at dksX5_fewest_3 18 rfl rfl)
theorem dX5_fewest_90 : decode cX5_fewest 90 = .ok (.ireturn, 1) := dk_172 (dk_at dksX5_fewest_3 20 rfl rfl)
theorem dX5_fewest_91 : decode cX5_fewest 91 = .ok (.iinc 5 1, 3) := dk_132 5 1 (dk_at dksX5_fewest_3 21 rfl rfl)
theorem dX5_fewest_94 : decode cX5_fewest 94 = .ok (.goto (-91), 3) := dk_167 255 165 (dk_at dksX5_fewest_4 0 rfl rfl)
theorem dX5_fewest_97 : decode cX5_fewest 97 = .ok (.ldc_w 372, 3) := dk_19 1 116 (dk_at dksX5_fewest_4 3 rfl rfl)
theorem dX5_fewest_100 : decode cX5_fewest 100 = .ok (.ireturn, 1) := dk_172 (dk_at dksX5_fewest_4 6 rfl rfl)
abbrev cX5_starts : ByteArray := prog_32_method_72_code
def yX5_starts : MethodName := ⟨RX5, "starts", "(I)V"⟩
def dkwX5_starts_3 : List UInt8 := [96, 46, 79, 42, 180, 0, 65, 3, 2, 79, 177]
abbrev dktX5_starts_3 : List UInt8 := dkwX5_starts_3 ++ []
def dkwX5_starts_2 : List UInt8 := [180, 0, 33, 16, 114, 27, 96, 46, 79, 42, 180, 0, 62, 3, 42, 180, 0, 33, 16, 94, 42, 180, 1, 98]
abbrev dktX5_starts_2 : List UInt8 := dkwX5_starts_2 ++ dktX5_starts_3
def dkwX5_starts_1 : List UInt8 := [181, 1, 104, 42, 180, 0, 56, 3, 42, 180, 0, 33, 16, 108, 27, 96, 46, 79, 42, 180, 0, 59, 3, 42]
abbrev dktX5_starts_1 : List UInt8 := dkwX5_starts_1 ++ dktX5_starts_2
def dkwX5_starts_0 : List UInt8 := [42, 42, 180, 0, 33, 16, 79, 27, 96, 46, 181, 1, 98, 42, 42, 27, 182, 1, 28, 181, 1, 101, 42, 3]
abbrev dktX5_starts_0 : List UInt8 := dkwX5_starts_0 ++ dktX5_starts_1
theorem dksX5_starts_0 : cX5_starts.data.toList.drop 0 = dktX5_starts_0 := by decide +kernel
theorem dksX5_starts_1 : cX5_starts.data.toList.drop 24 = dktX5_starts_1 := dk_seg dksX5_starts_0 24 rfl rfl
theorem dksX5_starts_2 : cX5_starts.data.toList.drop 48 = dktX5_starts_2 := dk_seg dksX5_starts_1 24 rfl rfl
theorem dksX5_starts_3 : cX5_starts.data.toList.drop 72 = dktX5_starts_3 := dk_seg dksX5_starts_2 24 rfl rfl
theorem dX5_starts_0 : decode cX5_starts 0 = .ok (.aload_n 0, 1) := dk_42 (dk_at dksX5_starts_0 0 rfl rfl)
theorem dX5_starts_1 : decode cX5_starts 1 = .ok (.aload_n 0, 1) := dk_42 (dk_at dksX5_starts_0 1 rfl rfl)
theorem dX5_starts_2 : decode cX5_starts 2 = .ok (.getfield 33, 3) := dk_180 0 33 (dk_at dksX5_starts_0 2 rfl rfl)
theorem dX5_starts_5 : decode cX5_starts 5 = .ok (.bipush 79, 2) := dk_16 79 (dk_at dksX5_starts_0 5 rfl rfl)
theorem dX5_starts_7 : decode cX5_starts 7 = .ok (.iload_n 1, 1) := dk_27 (dk_at dksX5_starts_0 7 rfl rfl)
theorem dX5_starts_8 : decode cX5_starts 8 = .ok (.iadd, 1) := dk_96 (dk_at dksX5_starts_0 8 rfl rfl)
theorem dX5_starts_9 : decode cX5_starts 9 = .ok (.iaload, 1) := dk_46 (dk_at dksX5_starts_0 9 rfl rfl)
theorem dX5_starts_10 : decode cX5_starts 10 = .ok (.putfield 354, 3) := dk_181 1 98 (dk_at dksX5_starts_0 10 rfl rfl)
theorem dX5_starts_13 : decode cX5_starts 13 = .ok (.aload_n 0, 1) := dk_42 (dk_at dksX5_starts_0 13 rfl rfl)
theorem dX5_starts_14 : decode cX5_starts 14 = .ok (.aload_n 0, 1) := dk_42 (dk_at dksX5_starts_0 14 rfl rfl)
theorem dX5_starts_15 : decode cX5_starts 15 = .ok (.iload_n 1, 1) := dk_27 (dk_at dksX5_starts_0 15 rfl rfl)
theorem dX5_starts_16 : decode cX5_starts 16 = .ok (.invokevirtual 284, 3) := dk_182 1 28 (dk_at dksX5_starts_0 16 rfl rfl)
theorem dX5_starts_19 : decode cX5_starts 19 = .ok (.putfield 357, 3) := dk_181 1 101 (dk_at dksX5_starts_0 19 rfl rfl)
theorem dX5_starts_22 : decode cX5_starts 22 = .ok (.aload_n 0, 1) := dk_42 (dk_at dksX5_starts_0 22 rfl rfl)
theorem dX5_starts_23 : decode cX5_starts 23 = .ok (.iconst 0, 1) := dk_3 (dk_at dksX5_starts_0 23 rfl rfl)
theorem dX5_starts_24 : decode cX5_starts 24 = .ok (.putfield 360, 3) := dk_181 1 104 (dk_at dksX5_starts_1 0 rfl rfl)
theorem dX5_starts_27 : decode cX5_starts 27 = .ok (.aload_n 0, 1) := dk_42 (dk_at dksX5_starts_1 3 rfl rfl)
theorem dX5_starts_28 : decode cX5_starts 28 = .ok (.getfield 56, 3) := dk_180 0 56 (dk_at dksX5_starts_1 4 rfl rfl)
theorem dX5_starts_31 : decode cX5_starts 31 = .ok (.iconst 0, 1) := dk_3 (dk_at dksX5_starts_1 7 rfl rfl)
theorem dX5_starts_32 : decode cX5_starts 32 = .ok (.aload_n 0, 1) := dk_42 (dk_at dksX5_starts_1 8 rfl rfl)
theorem dX5_starts_33 : decode cX5_starts 33 = .ok (.getfield 33, 3) := dk_180 0 33 (dk_at dksX5_starts_1 9 rfl rfl)
theorem dX5_starts_36 : decode cX5_starts 36 = .ok (.bipush 108, 2) := dk_16 108 (dk_at dksX5_starts_1 12 rfl rfl)
theorem dX5_starts_38 : decode cX5_starts 38 = .ok (.iload_n 1, 1) := dk_27 (dk_at dksX5_starts_1 14 rfl rfl)
theorem dX5_starts_39 : decode cX5_starts 39 = .ok (.iadd, 1) := dk_96 (dk_at dksX5_starts_1 15 rfl rfl)
theorem dX5_starts_40 : decode cX5_starts 40 = .ok (.iaload, 1) := dk_46 (dk_at dksX5_starts_1 16 rfl rfl)
theorem dX5_starts_41 : decode cX5_starts 41 = .ok (.iastore, 1) := dk_79 (dk_at dksX5_starts_1 17 rfl rfl)
theorem dX5_starts_42 : decode cX5_starts 42 = .ok (.aload_n 0, 1) := dk_42 (dk_at dksX5_starts_1 18 rfl rfl)
theorem dX5_starts_43 : decode cX5_starts 43 = .ok (.getfield 59, 3) := dk_180 0 59 (dk_at dksX5_starts_1 19 rfl rfl)
theorem dX5_starts_46 : decode cX5_starts 46 = .ok (.iconst 0, 1) := dk_3 (dk_at dksX5_starts_1 22 rfl rfl)
theorem dX5_starts_47 : decode cX5_starts 47 = .ok (.aload_n 0, 1) := dk_42 (dk_at dksX5_starts_1 23 rfl rfl)
theorem dX5_starts_48 : decode cX5_starts 48 = .ok (.getfield 33, 3) := dk_180 0 33 (dk_at dksX5_starts_2 0 rfl rfl)
theorem dX5_starts_51 : decode cX5_starts 51 = .ok (.bipush 114, 2) := dk_16 114 (dk_at dksX5_starts_2 3 rfl rfl)
theorem dX5_starts_53 : decode cX5_starts 53 = .ok (.iload_n 1, 1) := dk_27 (dk_at dksX5_starts_2 5 rfl rfl)
theorem dX5_starts_54 : decode cX5_starts 54 = .ok (.iadd, 1) := dk_96 (dk_at dksX5_starts_2 6 rfl rfl)
theorem dX5_starts_55 : decode cX5_starts 55 = .ok (.iaload, 1) := dk_46 (dk_at dksX5_starts_2 7 rfl rfl)
theorem dX5_starts_56 : decode cX5_starts 56 = .ok (.iastore, 1) := dk_79 (dk_at dksX5_starts_2 8 rfl rfl)
theorem dX5_starts_57 : decode cX5_starts 57 = .ok (.aload_n 0, 1) := dk_42 (dk_at dksX5_starts_2 9 rfl rfl)
theorem dX5_starts_58 : decode cX5_starts 58 = .ok (.getfield 62, 3) := dk_180 0 62 (dk_at dksX5_starts_2 10 rfl rfl)
theorem dX5_starts_61 : decode cX5_starts 61 = .ok (.iconst 0, 1) := dk_3 (dk_at dksX5_starts_2 13 rfl rfl)
theorem dX5_starts_62 : decode cX5_starts 62 = .ok (.aload_n 0, 1) := dk_42 (dk_at dksX5_starts_2 14 rfl rfl)
theorem dX5_starts_63 : decode cX5_starts 63 = .ok (.getfield 33, 3) := dk_180 0 33 (dk_at dksX5_starts_2 15 rfl rfl)
theorem dX5_starts_66 : decode cX5_starts 66 = .ok (.bipush 94, 2) := dk_16 94 (dk_at dksX5_starts_2 18 rfl rfl)
theorem dX5_starts_68 : decode cX5_starts 68 = .ok (.aload_n 0, 1) := dk_42 (dk_at dksX5_starts_2 20 rfl rfl)
theorem dX5_starts_69 : decode cX5_starts 69 = .ok (.getfield 354, 3) := dk_180 1 98 (dk_at dksX5_starts_2 21 rfl rfl)
theorem dX5_starts_72 : decode cX5_starts 72 = .ok (.iadd, 1) := dk_96 (dk_at dksX5_starts_3 0 rfl rfl)
theorem dX5_starts_73 : decode cX5_starts 73 = .ok (.iaload, 1) := dk_46 (dk_at dksX5_starts_3 1 rfl rfl)
theorem dX5_starts_74 : decode cX5_starts 74 = .ok (.iastore, 1) := dk_79 (dk_at dksX5_starts_3 2 rfl rfl)
theorem dX5_starts_75 : decode cX5_starts 75 = .ok (.aload_n 0, 1) := dk_42 (dk_at dksX5_starts_3 3 rfl rfl)
theorem dX5_starts_76 : decode cX5_starts 76 = .ok (.getfield 65, 3) := dk_180 0 65 (dk_at dksX5_starts_3 4 rfl rfl)
theorem dX5_starts_79 : decode cX5_starts 79 = .ok (.iconst 0, 1) := dk_3 (dk_at dksX5_starts_3 7 rfl rfl)
theorem dX5_starts_80 : decode cX5_starts 80 = .ok (.iconst (-1), 1) := dk_2 (dk_at dksX5_starts_3 8 rfl rfl)
theorem dX5_starts_81 : decode cX5_starts 81 = .ok (.iastore, 1) := dk_79 (dk_at dksX5_starts_3 9 rfl rfl)
theorem dX5_starts_82 : decode cX5_starts 82 = .ok (.return_, 1) := dk_177 (dk_at dksX5_starts_3 10 rfl rfl)
abbrev cX5_goesTo : ByteArray := prog_32_method_74_code
def yX5_goesTo : MethodName := ⟨RX5, "goesTo", "(I)Z"⟩
def dkwX5_goesTo_4 : List UInt8 := [180, 1, 104, 27, 160, 255, 176, 4, 172, 3, 172]
abbrev dktX5_goesTo_4 : List UInt8 := dkwX5_goesTo_4 ++ []
def dkwX5_goesTo_3 : List UInt8 := [42, 180, 1, 104, 182, 1, 107, 154, 0, 6, 167, 255, 194, 42, 89, 180, 1, 104, 4, 96, 181, 1, 104, 42]
abbrev dktX5_goesTo_3 : List UInt8 := dkwX5_goesTo_3 ++ dktX5_goesTo_4
def dkwX5_goesTo_2 : List UInt8 := [46, 42, 180, 0, 33, 3, 46, 161, 0, 16, 42, 89, 180, 1, 104, 4, 100, 181, 1, 104, 167, 255, 208, 42]
abbrev dktX5_goesTo_2 : List UInt8 := dkwX5_goesTo_2 ++ dktX5_goesTo_3
def dkwX5_goesTo_1 : List UInt8 := [155, 0, 81, 42, 180, 0, 65, 42, 180, 1, 104, 92, 46, 4, 96, 79, 42, 180, 0, 65, 42, 180, 1, 104]
abbrev dktX5_goesTo_1 : List UInt8 := dkwX5_goesTo_1 ++ dktX5_goesTo_2
def dkwX5_goesTo_0 : List UInt8 := [42, 180, 1, 104, 27, 160, 0, 13, 42, 89, 180, 1, 104, 4, 100, 181, 1, 104, 42, 180, 1, 104]
abbrev dktX5_goesTo_0 : List UInt8 := dkwX5_goesTo_0 ++ dktX5_goesTo_1
theorem dksX5_goesTo_0 : cX5_goesTo.data.toList.drop 0 = dktX5_goesTo_0 := by decide +kernel
theorem dksX5_goesTo_1 : cX5_goesTo.data.toList.drop 22 = dktX5_goesTo_1 := dk_seg dksX5_goesTo_0 22 rfl rfl
theorem dksX5_goesTo_2 : cX5_goesTo.data.toList.drop 46 = dktX5_goesTo_2 := dk_seg dksX5_goesTo_1 24 rfl rfl
theorem dksX5_goesTo_3 : cX5_goesTo.data.toList.drop 70 = dktX5_goesTo_3 := dk_seg dksX5_goesTo_2 24 rfl rfl
theorem dksX5_goesTo_4 : cX5_goesTo.data.toList.drop 94 = dktX5_goesTo_4 := dk_seg dksX5_goesTo_3 24 rfl rfl
theorem dX5_goesTo_0 : decode cX5_goesTo 0 = .ok (.aload_n 0, 1) := dk_42 (dk_at dksX5_goesTo_0 0 rfl rfl)
theorem dX5_goesTo_1 : decode cX5_goesTo 1 = .ok (.getfield 360, 3) := dk_180 1 104 (dk_at dksX5_goesTo_0 1 rfl rfl)
theorem dX5_goesTo_4 : decode cX5_goesTo 4 = .ok (.iload_n 1, 1) := dk_27 (dk_at dksX5_goesTo_0 4 rfl rfl)
theorem dX5_goesTo_5 : decode cX5_goesTo 5 = .ok (.if_icmp .ne 13, 3) := dk_160 0 13 (dk_at dksX5_goesTo_0 5 rfl rfl)
theorem dX5_goesTo_8 : decode cX5_goesTo 8 = .ok (.aload_n 0, 1) := dk_42 (dk_at dksX5_goesTo_0 8 rfl rfl)
theorem dX5_goesTo_9 : decode cX5_goesTo 9 = .ok (.dup, 1) := dk_89 (dk_at dksX5_goesTo_0 9 rfl rfl)
theorem dX5_goesTo_10 : decode cX5_goesTo 10 = .ok (.getfield 360, 3) := dk_180 1 104 (dk_at dksX5_goesTo_0 10 rfl rfl)
theorem dX5_goesTo_13 : decode cX5_goesTo 13 = .ok (.iconst 1, 1) := dk_4 (dk_at dksX5_goesTo_0 13 rfl rfl)
theorem dX5_goesTo_14 : decode cX5_goesTo 14 = .ok (.isub, 1) := dk_100 (dk_at dksX5_goesTo_0 14 rfl rfl)
theorem dX5_goesTo_15 : decode cX5_goesTo 15 = .ok (.putfield 360, 3) := dk_181 1 104 (dk_at dksX5_goesTo_0 15 rfl rfl)
theorem dX5_goesTo_18 : decode cX5_goesTo 18 = .ok (.aload_n 0, 1) := dk_42 (dk_at dksX5_goesTo_0 18 rfl rfl)
theorem dX5_goesTo_19 : decode cX5_goesTo 19 = .ok (.getfield 360, 3) := dk_180 1 104 (dk_at dksX5_goesTo_0 19 rfl rfl)
theorem dX5_goesTo_22 : decode cX5_goesTo 22 = .ok (.ifCond .lt 81, 3) := dk_155 0 81 (dk_at dksX5_goesTo_1 0 rfl rfl)
theorem dX5_goesTo_25 : decode cX5_goesTo 25 = .ok (.aload_n 0, 1) := dk_42 (dk_at dksX5_goesTo_1 3 rfl rfl)
theorem dX5_goesTo_26 : decode cX5_goesTo 26 = .ok (.getfield 65, 3) := dk_180 0 65 (dk_at dksX5_goesTo_1 4 rfl rfl)
theorem dX5_goesTo_29 : decode cX5_goesTo 29 = .ok (.aload_n 0, 1) := dk_42 (dk_at dksX5_goesTo_1 7 rfl rfl)
theorem dX5_goesTo_30 : decode cX5_goesTo 30 = .ok (.getfield 360, 3) := dk_180 1 104 (dk_at dksX5_goesTo_1 8 rfl rfl)
theorem dX5_goesTo_33 : decode cX5_goesTo 33 = .ok (.dup2, 1) := dk_92 (dk_at dksX5_goesTo_1 11 rfl rfl)
theorem dX5_goesTo_34 : decode cX5_goesTo 34 = .ok (.iaload, 1) := dk_46 (dk_at dksX5_goesTo_1 12 rfl rfl)
theorem dX5_goesTo_35 : decode cX5_goesTo 35 = .ok (.iconst 1, 1) := dk_4 (dk_at dksX5_goesTo_1 13 rfl rfl)
theorem dX5_goesTo_36 : decode cX5_goesTo 36 = .ok (.iadd, 1) := dk_96 (dk_at dksX5_goesTo_1 14 rfl rfl)
theorem dX5_goesTo_37 : decode cX5_goesTo 37 = .ok (.iastore, 1) := dk_79 (dk_at dksX5_goesTo_1 15 rfl rfl)
theorem dX5_goesTo_38 : decode cX5_goesTo 38 = .ok (.aload_n 0, 1) := dk_42 (dk_at dksX5_goesTo_1 16 rfl rfl)
theorem dX5_goesTo_39 : decode cX5_goesTo 39 = .ok (.getfield 65, 3) := dk_180 0 65 (dk_at dksX5_goesTo_1 17 rfl rfl)
theorem dX5_goesTo_42 : decode cX5_goesTo 42 = .ok (.aload_n 0, 1) := dk_42 (dk_at dksX5_goesTo_1 20 rfl rfl)
theorem dX5_goesTo_43 : decode cX5_goesTo 43 = .ok (.getfield 360, 3) := dk_180 1 104 (dk_at dksX5_goesTo_1 21 rfl rfl)
theorem dX5_goesTo_46 : decode cX5_goesTo 46 = .ok (.iaload, 1) := dk_46 (dk_at dksX5_goesTo_2 0 rfl rfl)
theorem dX5_goesTo_47 : decode cX5_goesTo 47 = .ok (.aload_n 0, 1) := dk_42 (dk_at dksX5_goesTo_2 1 rfl rfl)
theorem dX5_goesTo_48 : decode cX5_goesTo 48 = .ok (.getfield 33, 3) := dk_180 0 33 (dk_at dksX5_goesTo_2 2 rfl rfl)
theorem dX5_goesTo_51 : decode cX5_goesTo 51 = .ok (.iconst 0, 1) := dk_3 (dk_at dksX5_goesTo_2 5 rfl rfl)
theorem dX5_goesTo_52 : decode cX5_goesTo 52 = .ok (.iaload, 1) := dk_46 (dk_at dksX5_goesTo_2 6 rfl rfl)
theorem dX5_goesTo_53 : decode cX5_goesTo 53 = .ok (.if_icmp .lt 16, 3) := dk_161 0 16 (dk_at dksX5_goesTo_2 7 rfl rfl)
theorem dX5_goesTo_56 : decode cX5_goesTo 56 = .ok (.aload_n 0, 1) := dk_42 (dk_at dksX5_goesTo_2 10 rfl rfl)
theorem dX5_goesTo_57 : decode cX5_goesTo 57 = .ok (.dup, 1) := dk_89 (dk_at dksX5_goesTo_2 11 rfl rfl)
theorem dX5_goesTo_58 : decode cX5_goesTo 58 = .ok (.getfield 360, 3) := dk_180 1 104 (dk_at dksX5_goesTo_2 12 rfl rfl)
theorem dX5_goesTo_61 : decode cX5_goesTo 61 = .ok (.iconst 1, 1) := dk_4 (dk_at dksX5_goesTo_2 15 rfl rfl)
theorem dX5_goesTo_62 : decode cX5_goesTo 62 = .ok (.isub, 1) := dk_100 (dk_at dksX5_goesTo_2 16 rfl rfl)
theorem dX5_goesTo_63 : decode cX5_goesTo 63 = .ok (.putfield 360, 3) := dk_181 1 104 (dk_at dksX5_goesTo_2 17 rfl rfl)
theorem dX5_goesTo_66 : decode cX5_goesTo 66 = .ok (.goto (-48), 3) := dk_167 255 208 (dk_at dksX5_goesTo_2 20 rfl rfl)
theorem dX5_goesTo_69 : decode cX5_goesTo 69 = .ok (.aload_n 0, 1) := dk_42 (dk_at dksX5_goesTo_2 23 rfl rfl)
theorem dX5_goesTo_70 : decode cX5_goesTo 70 = .ok (.aload_n 0, 1) := dk_42 (dk_at dksX5_goesTo_3 0 rfl rfl)
theorem dX5_goesTo_71 : decode cX5_goesTo 71 = .ok (.getfield 360, 3) := dk_180 1 104 (dk_at dksX5_goesTo_3 1 rfl rfl)
theorem dX5_goesTo_74 : decode cX5_goesTo 74 = .ok (.invokevirtual 363, 3) := dk_182 1 107 (dk_at dksX5_goesTo_3 4 rfl rfl)
theorem dX5_goesTo_77 : decode cX5_goesTo 77 = .ok (.ifCond .ne 6, 3) := dk_154 0 6 (dk_at dksX5_goesTo_3 7 rfl rfl)
theorem dX5_goesTo_80 : decode cX5_goesTo 80 = .ok (.goto (-62), 3) := dk_167 255 194 (dk_at dksX5_goesTo_3 10 rfl rfl)
theorem dX5_goesTo_83 : decode cX5_goesTo 83 = .ok (.aload_n 0, 1) := dk_42 (dk_at dksX5_goesTo_3 13 rfl rfl)
theorem dX5_goesTo_84 : decode cX5_goesTo 84 = .ok (.dup, 1) := dk_89 (dk_at dksX5_goesTo_3 14 rfl rfl)
theorem dX5_goesTo_85 : decode cX5_goesTo 85 = .ok (.getfield 360, 3) := dk_180 1 104 (dk_at dksX5_goesTo_3 15 rfl rfl)
theorem dX5_goesTo_88 : decode cX5_goesTo 88 = .ok (.iconst 1, 1) := dk_4 (dk_at dksX5_goesTo_3 18 rfl rfl)
theorem dX5_goesTo_89 : decode cX5_goesTo 89 = .ok (.iadd, 1) := dk_96 (dk_at dksX5_goesTo_3 19 rfl rfl)
theorem dX5_goesTo_90 : decode cX5_goesTo 90 = .ok (.putfield 360, 3) := dk_181 1 104 (dk_at dksX5_goesTo_3 20 rfl rfl)
theorem dX5_goesTo_93 : decode cX5_goesTo 93 = .ok (.aload_n 0, 1) := dk_42 (dk_at dksX5_goesTo_3 23 rfl rfl)
theorem dX5_goesTo_94 : decode cX5_goesTo 94 = .ok (.getfield 360, 3) := dk_180 1 104 (dk_at dksX5_goesTo_4 0 rfl rfl)
theorem dX5_goesTo_97 : decode cX5_goesTo 97 = .ok (.iload_n 1, 1) := dk_27 (dk_at dksX5_goesTo_4 3 rfl rfl)
theorem dX5_goesTo_98 : decode cX5_goesTo 98 = .ok (.if_icmp .ne (-80), 3) := dk_160 255 176 (dk_at dksX5_goesTo_4 4 rfl rfl)
theorem dX5_goesTo_101 : decode cX5_goesTo 101 = .ok (.iconst 1, 1) := dk_4 (dk_at dksX5_goesTo_4 7 rfl rfl)
theorem dX5_goesTo_102 : decode cX5_goesTo 102 = .ok (.ireturn, 1) := dk_172 (dk_at dksX5_goesTo_4 8 rfl rfl)
theorem dX5_goesTo_103 : decode cX5_goesTo 103 = .ok (.iconst 0, 1) := dk_3 (dk_at dksX5_goesTo_4 9 rfl rfl)
theorem dX5_goesTo_104 : decode cX5_goesTo 104 = .ok (.ireturn, 1) := dk_172 (dk_at dksX5_goesTo_4 10 rfl rfl)
abbrev cX5_steps : ByteArray := prog_32_method_73_code
def yX5_steps : MethodName := ⟨RX5, "steps", "(I)Z"⟩
def dkwX5_steps_5 : List UInt8 := [167, 0, 11, 42, 180, 0, 33, 6, 28, 96, 46, 100, 79, 42, 180, 0, 65, 27, 4, 96, 2, 79, 4, 172]
abbrev dktX5_steps_5 : List UInt8 := dkwX5_steps_5 ++ []
def dkwX5_steps_4 : List UInt8 := [27, 4, 96, 42, 180, 0, 59, 27, 46, 29, 96, 42, 180, 1, 101, 28, 184, 1, 1, 153, 0, 7, 3]
abbrev dktX5_steps_4 : List UInt8 := dkwX5_steps_4 ++ dktX5_steps_5
def dkwX5_steps_3 : List UInt8 := [4, 96, 28, 79, 42, 180, 0, 62, 27, 4, 96, 42, 180, 0, 62, 27, 46, 29, 100, 79, 42, 180, 0, 59]
abbrev dktX5_steps_3 : List UInt8 := dkwX5_steps_3 ++ dktX5_steps_4
def dkwX5_steps_2 : List UInt8 := [180, 0, 59, 27, 46, 42, 180, 0, 62, 27, 46, 182, 1, 42, 167, 0, 4, 3, 62, 42, 180, 0, 56, 27]
abbrev dktX5_steps_2 : List UInt8 := dkwX5_steps_2 ++ dktX5_steps_3
def dkwX5_steps_1 : List UInt8 := [180, 1, 101, 182, 1, 32, 158, 0, 5, 3, 172, 28, 42, 180, 1, 98, 160, 0, 23, 42, 28, 42]
abbrev dktX5_steps_1 : List UInt8 := dkwX5_steps_1 ++ dktX5_steps_2
def dkwX5_steps_0 : List UInt8 := [42, 180, 0, 65, 27, 46, 61, 42, 42, 180, 0, 56, 27, 46, 28, 42, 180, 0, 59, 27, 46, 42]
abbrev dktX5_steps_0 : List UInt8 := dkwX5_steps_0 ++ dktX5_steps_1
theorem dksX5_steps_0 : cX5_steps.data.toList.drop 0 = dktX5_steps_0 := by decide +kernel
theorem dksX5_steps_1 : cX5_steps.data.toList.drop 22 = dktX5_steps_1 := dk_seg dksX5_steps_0 22 rfl rfl
theorem dksX5_steps_2 : cX5_steps.data.toList.drop 44 = dktX5_steps_2 := dk_seg dksX5_steps_1 22 rfl rfl
theorem dksX5_steps_3 : cX5_steps.data.toList.drop 68 = dktX5_steps_3 := dk_seg dksX5_steps_2 24 rfl rfl
theorem dksX5_steps_4 : cX5_steps.data.toList.drop 92 = dktX5_steps_4 := dk_seg dksX5_steps_3 24 rfl rfl
theorem dksX5_steps_5 : cX5_steps.data.toList.drop 115 = dktX5_steps_5 := dk_seg dksX5_steps_4 23 rfl rfl
theorem dX5_steps_0 : decode cX5_steps 0 = .ok (.aload_n 0, 1) := dk_42 (dk_at dksX5_steps_0 0 rfl rfl)
theorem dX5_steps_1 : decode cX5_steps 1 = .ok (.getfield 65, 3) := dk_180 0 65 (dk_at dksX5_steps_0 1 rfl rfl)
theorem dX5_steps_4 : decode cX5_steps 4 = .ok (.iload_n 1, 1) := dk_27 (dk_at dksX5_steps_0 4 rfl rfl)
theorem dX5_steps_5 : decode cX5_steps 5 = .ok (.iaload, 1) := dk_46 (dk_at dksX5_steps_0 5 rfl rfl)
theorem dX5_steps_6 : decode cX5_steps 6 = .ok (.istore_n 2, 1) := dk_61 (dk_at dksX5_steps_0 6 rfl rfl)
theorem dX5_steps_7 : decode cX5_steps 7 = .ok (.aload_n 0, 1) := dk_42 (dk_at dksX5_steps_0 7 rfl rfl)
theorem dX5_steps_8 : decode cX5_steps 8 = .ok (.aload_n 0, 1) := dk_42 (dk_at dksX5_steps_0 8 rfl rfl)
theorem dX5_steps_9 : decode cX5_steps 9 = .ok (.getfield 56, 3) := dk_180 0 56 (dk_at dksX5_steps_0 9 rfl rfl)
theorem dX5_steps_12 : decode cX5_steps 12 = .ok (.iload_n 1, 1) := dk_27 (dk_at dksX5_steps_0 12 rfl rfl)
theorem dX5_steps_13 : decode cX5_steps 13 = .ok (.iaload, 1) := dk_46 (dk_at dksX5_steps_0 13 rfl rfl)
theorem dX5_steps_14 : decode cX5_steps 14 = .ok (.iload_n 2, 1) := dk_28 (dk_at dksX5_steps_0 14 rfl rfl)
theorem dX5_steps_15 : decode cX5_steps 15 = .ok (.aload_n 0, 1) := dk_42 (dk_at dksX5_steps_0 15 rfl rfl)
theorem dX5_steps_16 : decode cX5_steps 16 = .ok (.getfield 59, 3) := dk_180 0 59 (dk_at dksX5_steps_0 16 rfl rfl)
theorem dX5_steps_19 : decode cX5_steps 19 = .ok (.iload_n 1, 1) := dk_27 (dk_at dksX5_steps_0 19 rfl rfl)
theorem dX5_steps_20 : decode cX5_steps 20 = .ok (.iaload, 1) := dk_46 (dk_at dksX5_steps_0 20 rfl rfl)
theorem dX5_steps_21 : decode cX5_steps 21 = .ok (.aload_n 0, 1) := dk_42 (dk_at dksX5_steps_0 21 rfl rfl)
theorem dX5_steps_22 : decode cX5_steps 22 = .ok (.getfield 357, 3) := dk_180 1 101 (dk_at dksX5_steps_1 0 rfl rfl)
theorem dX5_steps_25 : decode cX5_steps 25 = .ok (.invokevirtual 288, 3) := dk_182 1 32 (dk_at dksX5_steps_1 3 rfl rfl)
theorem dX5_steps_28 : decode cX5_steps 28 = .ok (.ifCond .le 5, 3) := dk_158 0 5 (dk_at dksX5_steps_1 6 rfl rfl)
theorem dX5_steps_31 : decode cX5_steps 31 = .ok (.iconst 0, 1) := dk_3 (dk_at dksX5_steps_1 9 rfl rfl)
theorem dX5_steps_32 : decode cX5_steps 32 = .ok (.ireturn, 1) := dk_172 (dk_at dksX5_steps_1 10 rfl rfl)
theorem dX5_steps_33 : decode cX5_steps 33 = .ok (.iload_n 2, 1) := dk_28 (dk_at dksX5_steps_1 11 rfl rfl)
theorem dX5_steps_34 : decode cX5_steps 34 = .ok (.aload_n 0, 1) := dk_42 (dk_at dksX5_steps_1 12 rfl rfl)
theorem dX5_steps_35 : decode cX5_steps 35 = .ok (.getfield 354, 3) := dk_180 1 98 (dk_at dksX5_steps_1 13 rfl rfl)
theorem dX5_steps_38 : decode cX5_steps 38 = .ok (.if_icmp .ne 23, 3) := dk_160 0 23 (dk_at dksX5_steps_1 16 rfl rfl)
theorem dX5_steps_41 : decode cX5_steps 41 = .ok (.aload_n 0, 1) := dk_42 (dk_at dksX5_steps_1 19 rfl rfl)
theorem dX5_steps_42 : decode cX5_steps 42 = .ok (.iload_n 2, 1) := dk_28 (dk_at dksX5_steps_1 20 rfl rfl)
theorem dX5_steps_43 : decode cX5_steps 43 = .ok (.aload_n 0, 1) := dk_42 (dk_at dksX5_steps_1 21 rfl rfl)
theorem dX5_steps_44 : decode cX5_steps 44 = .ok (.getfield 59, 3) := dk_180 0 59 (dk_at dksX5_steps_2 0 rfl rfl)
theorem dX5_steps_47 : decode cX5_steps 47 = .ok (.iload_n 1, 1) := dk_27 (dk_at dksX5_steps_2 3 rfl rfl)
theorem dX5_steps_48 : decode cX5_steps 48 = .ok (.iaload, 1) := dk_46 (dk_at dksX5_steps_2 4 rfl rfl)
theorem dX5_steps_49 : decode cX5_steps 49 = .ok (.aload_n 0, 1) := dk_42 (dk_at dksX5_steps_2 5 rfl rfl)
theorem dX5_steps_50 : decode cX5_steps 50 = .ok (.getfield 62, 3) := dk_180 0 62 (dk_at dksX5_steps_2 6 rfl rfl)
theorem dX5_steps_53 : decode cX5_steps 53 = .ok (.iload_n 1, 1) := dk_27 (dk_at dksX5_steps_2 9 rfl rfl)
theorem dX5_steps_54 : decode cX5_steps 54 = .ok (.iaload, 1) := dk_46 (dk_at dksX5_steps_2 10 rfl rfl)
theorem dX5_steps_55 : decode cX5_steps 55 = .ok (.invokevirtual 298, 3) := dk_182 1 42 (dk_at dksX5_steps_2 11 rfl rfl)
theorem dX5_steps_58 : decode cX5_steps 58 = .ok (.goto 4, 3) := dk_167 0 4 (dk_at dksX5_steps_2 14 rfl rfl)
theorem dX5_steps_61 : decode cX5_steps 61 = .ok (.iconst 0, 1) := dk_3 (dk_at dksX5_steps_2 17 rfl rfl)
theorem dX5_steps_62 : decode cX5_steps 62 = .ok (.istore_n 3, 1) := dk_62 (dk_at dksX5_steps_2 18 rfl rfl)
theorem dX5_steps_63 : decode cX5_steps 63 = .ok (.aload_n 0, 1) := dk_42 (dk_at dksX5_steps_2 19 rfl rfl)
theorem dX5_steps_64 : decode cX5_steps 64 = .ok (.getfield 56, 3) := dk_180 0 56 (dk_at dksX5_steps_2 20 rfl rfl)
theorem dX5_steps_67 : decode cX5_steps 67 = .ok (.iload_n 1, 1) := dk_27 (dk_at dksX5_steps_2 23 rfl rfl)
theorem dX5_steps_68 : decode cX5_steps 68 = .ok (.iconst 1, 1) := dk_4 (dk_at dksX5_steps_3 0 rfl rfl)
theorem dX5_steps_69 : decode cX5_steps 69 = .ok (.iadd, 1) := dk_96 (dk_at dksX5_steps_3 1 rfl rfl)
theorem dX5_steps_70 : decode cX5_steps 70 = .ok (.iload_n 2, 1) := dk_28 (dk_at dksX5_steps_3 2 rfl rfl)
theorem dX5_steps_71 : decode cX5_steps 71 = .ok (.iastore, 1) := dk_79 (dk_at dksX5_steps_3 3 rfl rfl)
theorem dX5_steps_72 : decode cX5_steps 72 = .ok (.aload_n 0, 1) := dk_42 (dk_at dksX5_steps_3 4 rfl rfl)
theorem dX5_steps_73 : decode cX5_steps 73 = .ok (.getfield 62, 3) := dk_180 0 62 (dk_at dksX5_steps_3 5 rfl rfl)
theorem dX5_steps_76 : decode cX5_steps 76 = .ok (.iload_n 1, 1) := dk_27 (dk_at dksX5_steps_3 8 rfl rfl)
theorem dX5_steps_77 : decode cX5_steps 77 = .ok (.iconst 1, 1) := dk_4 (dk_at dksX5_steps_3 9 rfl rfl)
theorem dX5_steps_78 : decode cX5_steps 78 = .ok (.iadd, 1) := dk_96 (dk_at dksX5_steps_3 10 rfl rfl)
theorem dX5_steps_79 : decode cX5_steps 79 = .ok (.aload_n 0, 1) := dk_42 (dk_at dksX5_steps_3 11 rfl rfl)
theorem dX5_steps_80 : decode cX5_steps 80 = .ok (.getfield 62, 3) := dk_180 0 62 (dk_at dksX5_steps_3 12 rfl rfl)
theorem dX5_steps_83 : decode cX5_steps 83 = .ok (.iload_n 1, 1) := dk_27 (dk_at dksX5_steps_3 15 rfl rfl)
theorem dX5_steps_84 : decode cX5_steps 84 = .ok (.iaload, 1) := dk_46 (dk_at dksX5_steps_3 16 rfl rfl)
theorem dX5_steps_85 : decode cX5_steps 85 = .ok (.iload_n 3, 1) := dk_29 (dk_at dksX5_steps_3 17 rfl rfl)
theorem dX5_steps_86 : decode cX5_steps 86 = .ok (.isub, 1) := dk_100 (dk_at dksX5_steps_3 18 rfl rfl)
theorem dX5_steps_87 : decode cX5_steps 87 = .ok (.iastore, 1) := dk_79 (dk_at dksX5_steps_3 19 rfl rfl)
theorem dX5_steps_88 : decode cX5_steps 88 = .ok (.aload_n 0, 1) := dk_42 (dk_at dksX5_steps_3 20 rfl rfl)
theorem dX5_steps_89 : decode cX5_steps 89 = .ok (.getfield 59, 3) := dk_180 0 59 (dk_at dksX5_steps_3 21 rfl rfl)
theorem dX5_steps_92 : decode cX5_steps 92 = .ok (.iload_n 1, 1) := dk_27 (dk_at dksX5_steps_4 0 rfl rfl)
theorem dX5_steps_93 : decode cX5_steps 93 = .ok (.iconst 1, 1) := dk_4 (dk_at dksX5_steps_4 1 rfl rfl)
theorem dX5_steps_94 : decode cX5_steps 94 = .ok (.iadd, 1) := dk_96 (dk_at dksX5_steps_4 2 rfl rfl)
theorem dX5_steps_95 : decode cX5_steps 95 = .ok (.aload_n 0, 1) := dk_42 (dk_at dksX5_steps_4 3 rfl rfl)
theorem dX5_steps_96 : decode cX5_steps 96 = .ok (.getfield 59, 3) := dk_180 0 59 (dk_at dksX5_steps_4 4 rfl rfl)
theorem dX5_steps_99 : decode cX5_steps 99 = .ok (.iload_n 1, 1) := dk_27 (dk_at dksX5_steps_4 7 rfl rfl)
theorem dX5_steps_100 : decode cX5_steps 100 = .ok (.iaload, 1) := dk_46 (dk_at dksX5_steps_4 8 rfl rfl)
theorem dX5_steps_101 : decode cX5_steps 101 = .ok (.iload_n 3, 1) := dk_29 (dk_at dksX5_steps_4 9 rfl rfl)
theorem dX5_steps_102 : decode cX5_steps 102 = .ok (.iadd, 1) := dk_96 (dk_at dksX5_steps_4 10 rfl rfl)
theorem dX5_steps_103 : decode cX5_steps 103 = .ok (.aload_n 0, 1) := dk_42 (dk_at dksX5_steps_4 11 rfl rfl)
theorem dX5_steps_104 : decode cX5_steps 104 = .ok (.getfield 357, 3) := dk_180 1 101 (dk_at dksX5_steps_4 12 rfl rfl)
theorem dX5_steps_107 : decode cX5_steps 107 = .ok (.iload_n 2, 1) := dk_28 (dk_at dksX5_steps_4 15 rfl rfl)
theorem dX5_steps_108 : decode cX5_steps 108 = .ok (.invokestatic 257, 3) := dk_184 1 1 (dk_at dksX5_steps_4 16 rfl rfl)
theorem dX5_steps_111 : decode cX5_steps 111 = .ok (.ifCond .eq 7, 3) := dk_153 0 7 (dk_at dksX5_steps_4 19 rfl rfl)
theorem dX5_steps_114 : decode cX5_steps 114 = .ok (.iconst 0, 1) := dk_3 (dk_at dksX5_steps_4 22 rfl rfl)
theorem dX5_steps_115 : decode cX5_steps 115 = .ok (.goto 11, 3) := dk_167 0 11 (dk_at dksX5_steps_5 0 rfl rfl)
theorem dX5_steps_118 : decode cX5_steps 118 = .ok (.aload_n 0, 1) := dk_42 (dk_at dksX5_steps_5 3 rfl rfl)
theorem dX5_steps_119 : decode cX5_steps 119 = .ok (.getfield 33, 3) := dk_180 0 33 (dk_at dksX5_steps_5 4 rfl rfl)
theorem dX5_steps_122 : decode cX5_steps 122 = .ok (.iconst 3, 1) := dk_6 (dk_at dksX5_steps_5 7 rfl rfl)
theorem dX5_steps_123 : decode cX5_steps 123 = .ok (.iload_n 2, 1) := dk_28 (dk_at dksX5_steps_5 8 rfl rfl)
theorem dX5_steps_124 : decode cX5_steps 124 = .ok (.iadd, 1) := dk_96 (dk_at dksX5_steps_5 9 rfl rfl)
theorem dX5_steps_125 : decode cX5_steps 125 = .ok (.iaload, 1) := dk_46 (dk_at dksX5_steps_5 10 rfl rfl)
theorem dX5_steps_126 : decode cX5_steps 126 = .ok (.isub, 1) := dk_100 (dk_at dksX5_steps_5 11 rfl rfl)
theorem dX5_steps_127 : decode cX5_steps 127 = .ok (.iastore, 1) := dk_79 (dk_at dksX5_steps_5 12 rfl rfl)
theorem dX5_steps_128 : decode cX5_steps 128 = .ok (.aload_n 0, 1) := dk_42 (dk_at dksX5_steps_5 13 rfl rfl)
theorem dX5_steps_129 : decode cX5_steps 129 = .ok (.getfield 65, 3) := dk_180 0 65 (dk_at dksX5_steps_5 14 rfl rfl)
theorem dX5_steps_132 : decode cX5_steps 132 = .ok (.iload_n 1, 1) := dk_27 (dk_at dksX5_steps_5 17 rfl rfl)
theorem dX5_steps_133 : decode cX5_steps 133 = .ok (.iconst 1, 1) := dk_4 (dk_at dksX5_steps_5 18 rfl rfl)
theorem dX5_steps_134 : decode cX5_steps 134 = .ok (.iadd, 1) := dk_96 (dk_at dksX5_steps_5 19 rfl rfl)
theorem dX5_steps_135 : decode cX5_steps 135 = .ok (.iconst (-1), 1) := dk_2 (dk_at dksX5_steps_5 20 rfl rfl)
theorem dX5_steps_136 : decode cX5_steps 136 = .ok (.iastore, 1) := dk_79 (dk_at dksX5_steps_5 21 rfl rfl)
theorem dX5_steps_137 : decode cX5_steps 137 = .ok (.iconst 1, 1) := dk_4 (dk_at dksX5_steps_5 22 rfl rfl)
theorem dX5_steps_138 : decode cX5_steps 138 = .ok (.ireturn, 1) := dk_172 (dk_at dksX5_steps_5 23 rfl rfl)
abbrev cX5_wayAt : ByteArray := prog_32_method_77_code
def yX5_wayAt : MethodName := ⟨RX5, "wayAt", "(I)I"⟩
def dkwX5_wayAt_1 : List UInt8 := [46, 167, 0, 4, 2, 172]
abbrev dktX5_wayAt_1 : List UInt8 := dkwX5_wayAt_1 ++ []
def dkwX5_wayAt_0 : List UInt8 := [42, 3, 181, 0, 1, 27, 3, 42, 180, 0, 77, 4, 100, 184, 0, 207, 153, 0, 12, 42, 180, 0, 68, 27]
abbrev dktX5_wayAt_0 : List UInt8 := dkwX5_wayAt_0 ++ dktX5_wayAt_1
theorem dksX5_wayAt_0 : cX5_wayAt.data.toList.drop 0 = dktX5_wayAt_0 := by decide +kernel
theorem dksX5_wayAt_1 : cX5_wayAt.data.toList.drop 24 = dktX5_wayAt_1 := dk_seg dksX5_wayAt_0 24 rfl rfl
theorem dX5_wayAt_0 : decode cX5_wayAt 0 = .ok (.aload_n 0, 1) := dk_42 (dk_at dksX5_wayAt_0 0 rfl rfl)
theorem dX5_wayAt_1 : decode cX5_wayAt 1 = .ok (.iconst 0, 1) := dk_3 (dk_at dksX5_wayAt_0 1 rfl rfl)
theorem dX5_wayAt_2 : decode cX5_wayAt 2 = .ok (.putfield 1, 3) := dk_181 0 1 (dk_at dksX5_wayAt_0 2 rfl rfl)
theorem dX5_wayAt_5 : decode cX5_wayAt 5 = .ok (.iload_n 1, 1) := dk_27 (dk_at dksX5_wayAt_0 5 rfl rfl)
theorem dX5_wayAt_6 : decode cX5_wayAt 6 = .ok (.iconst 0, 1) := dk_3 (dk_at dksX5_wayAt_0 6 rfl rfl)
theorem dX5_wayAt_7 : decode cX5_wayAt 7 = .ok (.aload_n 0, 1) := dk_42 (dk_at dksX5_wayAt_0 7 rfl rfl)
theorem dX5_wayAt_8 : decode cX5_wayAt 8 = .ok (.getfield 77, 3) := dk_180 0 77 (dk_at dksX5_wayAt_0 8 rfl rfl)
theorem dX5_wayAt_11 : decode cX5_wayAt 11 = .ok (.iconst 1, 1) := dk_4 (dk_at dksX5_wayAt_0 11 rfl rfl)
theorem dX5_wayAt_12 : decode cX5_wayAt 12 = .ok (.isub, 1) := dk_100 (dk_at dksX5_wayAt_0 12 rfl rfl)
theorem dX5_wayAt_13 : decode cX5_wayAt 13 = .ok (.invokestatic 207, 3) := dk_184 0 207 (dk_at dksX5_wayAt_0 13 rfl rfl)
theorem dX5_wayAt_16 : decode cX5_wayAt 16 = .ok (.ifCond .eq 12, 3) := dk_153 0 12 (dk_at dksX5_wayAt_0 16 rfl rfl)
theorem dX5_wayAt_19 : decode cX5_wayAt 19 = .ok (.aload_n 0, 1) := dk_42 (dk_at dksX5_wayAt_0 19 rfl rfl)
theorem dX5_wayAt_20 : decode cX5_wayAt 20 = .ok (.getfield 68, 3) := dk_180 0 68 (dk_at dksX5_wayAt_0 20 rfl rfl)
theorem dX5_wayAt_23 : decode cX5_wayAt 23 = .ok (.iload_n 1, 1) := dk_27 (dk_at dksX5_wayAt_0 23 rfl rfl)
theorem dX5_wayAt_24 : decode cX5_wayAt 24 = .ok (.iaload, 1) := dk_46 (dk_at dksX5_wayAt_1 0 rfl rfl)
theorem dX5_wayAt_25 : decode cX5_wayAt 25 = .ok (.goto 4, 3) := dk_167 0 4 (dk_at dksX5_wayAt_1 1 rfl rfl)
theorem dX5_wayAt_28 : decode cX5_wayAt 28 = .ok (.iconst (-1), 1) := dk_2 (dk_at dksX5_wayAt_1 4 rfl rfl)
theorem dX5_wayAt_29 : decode cX5_wayAt 29 = .ok (.ireturn, 1) := dk_172 (dk_at dksX5_wayAt_1 5 rfl rfl)
abbrev cX5_round : ByteArray := prog_32_method_78_code
def yX5_round : MethodName := ⟨RX5, "round", "(I)I"⟩
def dkwX5_round_3 : List UInt8 := [28, 172]
abbrev dktX5_round_3 : List UInt8 := dkwX5_round_3 ++ []
def dkwX5_round_2 : List UInt8 := [46, 160, 255, 236, 28, 42, 180, 0, 59, 29, 46, 184, 1, 120, 61, 167, 255, 222, 132, 3, 1, 167, 255, 206]
abbrev dktX5_round_2 : List UInt8 := dkwX5_round_2 ++ dktX5_round_3
def dkwX5_round_1 : List UInt8 := [42, 27, 182, 1, 110, 42, 29, 182, 1, 113, 153, 0, 32, 42, 180, 0, 56, 29, 46, 42, 180, 0, 56, 3]
abbrev dktX5_round_1 : List UInt8 := dkwX5_round_1 ++ dktX5_round_2
def dkwX5_round_0 : List UInt8 := [42, 3, 181, 0, 1, 42, 27, 182, 1, 46, 154, 0, 5, 2, 172, 2, 61, 4, 62, 29, 8, 163, 0, 51]
abbrev dktX5_round_0 : List UInt8 := dkwX5_round_0 ++ dktX5_round_1
theorem dksX5_round_0 : cX5_round.data.toList.drop 0 = dktX5_round_0 := by decide +kernel
theorem dksX5_round_1 : cX5_round.data.toList.drop 24 = dktX5_round_1 := dk_seg dksX5_round_0 24 rfl rfl
theorem dksX5_round_2 : cX5_round.data.toList.drop 48 = dktX5_round_2 := dk_seg dksX5_round_1 24 rfl rfl
theorem dksX5_round_3 : cX5_round.data.toList.drop 72 = dktX5_round_3 := dk_seg dksX5_round_2 24 rfl rfl
theorem dX5_round_0 : decode cX5_round 0 = .ok (.aload_n 0, 1) := dk_42 (dk_at dksX5_round_0 0 rfl rfl)
theorem dX5_round_1 : decode cX5_round 1 = .ok (.iconst 0, 1) := dk_3 (dk_at dksX5_round_0 1 rfl rfl)
theorem dX5_round_2 : decode cX5_round 2 = .ok (.putfield 1, 3) := dk_181 0 1 (dk_at dksX5_round_0 2 rfl rfl)
theorem dX5_round_5 : decode cX5_round 5 = .ok (.aload_n 0, 1) := dk_42 (dk_at dksX5_round_0 5 rfl rfl)
theorem dX5_round_6 : decode cX5_round 6 = .ok (.iload_n 1, 1) := dk_27 (dk_at dksX5_round_0 6 rfl rfl)
theorem dX5_round_7 : decode cX5_round 7 = .ok (.invokevirtual 302, 3) := dk_182 1 46 (dk_at dksX5_round_0 7 rfl rfl)
theorem dX5_round_10 : decode cX5_round 10 = .ok (.ifCond .ne 5, 3) := dk_154 0 5 (dk_at dksX5_round_0 10 rfl rfl)
theorem dX5_round_13 : decode cX5_round 13 = .ok (.iconst (-1), 1) := dk_2 (dk_at dksX5_round_0 13 rfl rfl)
theorem dX5_round_14 : decode cX5_round 14 = .ok (.ireturn, 1) := dk_172 (dk_at dksX5_round_0 14 rfl rfl)
theorem dX5_round_15 : decode cX5_round 15 = .ok (.iconst (-1), 1) := dk_2 (dk_at dksX5_round_0 15 rfl rfl)
theorem dX5_round_16 : decode cX5_round 16 = .ok (.istore_n 2, 1) := dk_61 (dk_at dksX5_round_0 16 rfl rfl)
theorem dX5_round_17 : decode cX5_round 17 = .ok (.iconst 1, 1) := dk_4 (dk_at dksX5_round_0 17 rfl rfl)
theorem dX5_round_18 : decode cX5_round 18 = .ok (.istore_n 3, 1) := dk_62 (dk_at dksX5_round_0 18 rfl rfl)
theorem dX5_round_19 : decode cX5_round 19 = .ok (.iload_n 3, 1) := dk_29 (dk_at dksX5_round_0 19 rfl rfl)
theorem dX5_round_20 : decode cX5_round 20 = .ok (.iconst 5, 1) := dk_8 (dk_at dksX5_round_0 20 rfl rfl)
theorem dX5_round_21 : decode cX5_round 21 = .ok (.if_icmp .gt 51, 3) := dk_163 0 51 (dk_at dksX5_round_0 21 rfl rfl)
theorem dX5_round_24 : decode cX5_round 24 = .ok (.aload_n 0, 1) := dk_42 (dk_at dksX5_round_1 0 rfl rfl)
theorem dX5_round_25 : decode cX5_round 25 = .ok (.iload_n 1, 1) := dk_27 (dk_at dksX5_round_1 1 rfl rfl)
theorem dX5_round_26 : decode cX5_round 26 = .ok (.invokevirtual 366, 3) := dk_182 1 110 (dk_at dksX5_round_1 2 rfl rfl)
theorem dX5_round_29 : decode cX5_round 29 = .ok (.aload_n 0, 1) := dk_42 (dk_at dksX5_round_1 5 rfl rfl)
theorem dX5_round_30 : decode cX5_round 30 = .ok (.iload_n 3, 1) := dk_29 (dk_at dksX5_round_1 6 rfl rfl)
theorem dX5_round_31 : decode cX5_round 31 = .ok (.invokevirtual 369, 3) := dk_182 1 113 (dk_at dksX5_round_1 7 rfl rfl)
theorem dX5_round_34 : decode cX5_round 34 = .ok (.ifCond .eq 32, 3) := dk_153 0 32 (dk_at dksX5_round_1 10 rfl rfl)
theorem dX5_round_37 : decode cX5_round 37 = .ok (.aload_n 0, 1) := dk_42 (dk_at dksX5_round_1 13 rfl rfl)
theorem dX5_round_38 : decode cX5_round 38 = .ok (.getfield 56, 3) := dk_180 0 56 (dk_at dksX5_round_1 14 rfl rfl)
theorem dX5_round_41 : decode cX5_round 41 = .ok (.iload_n 3, 1) := dk_29 (dk_at dksX5_round_1 17 rfl rfl)
theorem dX5_round_42 : decode cX5_round 42 = .ok (.iaload, 1) := dk_46 (dk_at dksX5_round_1 18 rfl rfl)
theorem dX5_round_43 : decode cX5_round 43 = .ok (.aload_n 0, 1) := dk_42 (dk_at dksX5_round_1 19 rfl rfl)
theorem dX5_round_44 : decode cX5_round 44 = .ok (.getfield 56, 3) := dk_180 0 56 (dk_at dksX5_round_1 20 rfl rfl)
theorem dX5_round_47 : decode cX5_round 47 = .ok (.iconst 0, 1) := dk_3 (dk_at dksX5_round_1 23 rfl rfl)
theorem dX5_round_48 : decode cX5_round 48 = .ok (.iaload, 1) := dk_46 (dk_at dksX5_round_2 0 rfl rfl)
theorem dX5_round_49 : decode cX5_round 49 = .ok (.if_icmp .ne (-20), 3) := dk_160 255 236 (dk_at dksX5_round_2 1 rfl rfl)
theorem dX5_round_52 : decode cX5_round 52 = .ok (.iload_n 2, 1) := dk_28 (dk_at dksX5_round_2 4 rfl rfl)
theorem dX5_round_53 : decode cX5_round 53 = .ok (.aload_n 0, 1) := dk_42 (dk_at dksX5_round_2 5 rfl rfl)
theorem dX5_round_54 : decode cX5_round 54 = .ok (.getfield 59, 3) := dk_180 0 59 (dk_at dksX5_round_2 6 rfl rfl)
theorem dX5_round_57 : decode cX5_round 57 = .ok (.iload_n 3, 1) := dk_29 (dk_at dksX5_round_2 9 rfl rfl)
theorem dX5_round_58 : decode cX5_round 58 = .ok (.iaload, 1) := dk_46 (dk_at dksX5_round_2 10 rfl rfl)
theorem dX5_round_59 : decode cX5_round 59 = .ok (.invokestatic 376, 3) := dk_184 1 120 (dk_at dksX5_round_2 11 rfl rfl)
theorem dX5_round_62 : decode cX5_round 62 = .ok (.istore_n 2, 1) := dk_61 (dk_at dksX5_round_2 14 rfl rfl)
theorem dX5_round_63 : decode cX5_round 63 = .ok (.goto (-34), 3) := dk_167 255 222 (dk_at dksX5_round_2 15 rfl rfl)
theorem dX5_round_66 : decode cX5_round 66 = .ok (.iinc 3 1, 3) := dk_132 3 1 (dk_at dksX5_round_2 18 rfl rfl)
theorem dX5_round_69 : decode cX5_round 69 = .ok (.goto (-50), 3) := dk_167 255 206 (dk_at dksX5_round_2 21 rfl rfl)
theorem dX5_round_72 : decode cX5_round 72 = .ok (.iload_n 2, 1) := dk_28 (dk_at dksX5_round_3 0 rfl rfl)
theorem dX5_round_73 : decode cX5_round 73 = .ok (.ireturn, 1) := dk_172 (dk_at dksX5_round_3 1 rfl rfl)
abbrev cX5_greater : ByteArray := prog_32_method_10_code
def yX5_greater : MethodName := ⟨RX5, "greater", "(II)I"⟩
def dkwX5_greater_0 : List UInt8 := [26, 27, 164, 0, 7, 26, 167, 0, 4, 27, 172]
abbrev dktX5_greater_0 : List UInt8 := dkwX5_greater_0 ++ []
theorem dksX5_greater_0 : cX5_greater.data.toList.drop 0 = dktX5_greater_0 := by decide +kernel
theorem dX5_greater_0 : decode cX5_greater 0 = .ok (.iload_n 0, 1) := dk_26 (dk_at dksX5_greater_0 0 rfl rfl)
theorem dX5_greater_1 : decode cX5_greater 1 = .ok (.iload_n 1, 1) := dk_27 (dk_at dksX5_greater_0 1 rfl rfl)
theorem dX5_greater_2 : decode cX5_greater 2 = .ok (.if_icmp .le 7, 3) := dk_164 0 7 (dk_at dksX5_greater_0 2 rfl rfl)
theorem dX5_greater_5 : decode cX5_greater 5 = .ok (.iload_n 0, 1) := dk_26 (dk_at dksX5_greater_0 5 rfl rfl)
theorem dX5_greater_6 : decode cX5_greater 6 = .ok (.goto 4, 3) := dk_167 0 4 (dk_at dksX5_greater_0 6 rfl rfl)
theorem dX5_greater_9 : decode cX5_greater 9 = .ok (.iload_n 1, 1) := dk_27 (dk_at dksX5_greater_0 9 rfl rfl)
theorem dX5_greater_10 : decode cX5_greater 10 = .ok (.ireturn, 1) := dk_172 (dk_at dksX5_greater_0 10 rfl rfl)
abbrev cX5_spare : ByteArray := prog_32_method_79_code
def yX5_spare : MethodName := ⟨RX5, "spare", "(III)I"⟩
def dkwX5_spare_5 : List UInt8 := [156, 0, 5, 2, 172, 42, 4, 181, 1, 123, 42, 21, 5, 181, 1, 127, 21, 5, 184, 1, 59, 172]
abbrev dktX5_spare_5 : List UInt8 := dkwX5_spare_5 ++ []
def dkwX5_spare_4 : List UInt8 := [21, 6, 182, 1, 117, 19, 1, 116, 162, 0, 7, 21, 6, 54, 5, 132, 6, 1, 167, 255, 192, 21, 5]
abbrev dktX5_spare_4 : List UInt8 := dkwX5_spare_4 ++ dktX5_spare_5
def dkwX5_spare_3 : List UInt8 := [155, 0, 19, 21, 6, 184, 1, 59, 21, 5, 184, 1, 59, 161, 0, 6, 167, 0, 22, 42, 27, 28, 29]
abbrev dktX5_spare_3 : List UInt8 := dkwX5_spare_3 ++ dktX5_spare_4
def dkwX5_spare_2 : List UInt8 := [21, 6, 4, 42, 180, 0, 33, 3, 46, 120, 162, 0, 57, 21, 6, 21, 4, 126, 154, 0, 43, 21, 5]
abbrev dktX5_spare_2 : List UInt8 := dkwX5_spare_2 ++ dktX5_spare_3
def dkwX5_spare_1 : List UInt8 := [17, 0, 240, 184, 0, 207, 154, 0, 5, 2, 172, 42, 27, 182, 1, 28, 54, 4, 2, 54, 5, 3, 54, 6]
abbrev dktX5_spare_1 : List UInt8 := dkwX5_spare_1 ++ dktX5_spare_2
def dkwX5_spare_0 : List UInt8 := [42, 3, 181, 0, 1, 42, 27, 182, 1, 46, 153, 0, 22, 42, 28, 182, 1, 56, 153, 0, 14, 29, 3]
abbrev dktX5_spare_0 : List UInt8 := dkwX5_spare_0 ++ dktX5_spare_1
theorem dksX5_spare_0 : cX5_spare.data.toList.drop 0 = dktX5_spare_0 := by decide +kernel
theorem dksX5_spare_1 : cX5_spare.data.toList.drop 23 = dktX5_spare_1 := dk_seg dksX5_spare_0 23 rfl rfl
theorem dksX5_spare_2 : cX5_spare.data.toList.drop 47 = dktX5_spare_2 := dk_seg dksX5_spare_1 24 rfl rfl
theorem dksX5_spare_3 : cX5_spare.data.toList.drop 70 = dktX5_spare_3 := dk_seg dksX5_spare_2 23 rfl rfl
theorem dksX5_spare_4 : cX5_spare.data.toList.drop 93 = dktX5_spare_4 := dk_seg dksX5_spare_3 23 rfl rfl
theorem dksX5_spare_5 : cX5_spare.data.toList.drop 116 = dktX5_spare_5 := dk_seg dksX5_spare_4 23 rfl rfl
theorem dX5_spare_0 : decode cX5_spare 0 = .ok (.aload_n 0, 1) := dk_42 (dk_at dksX5_spare_0 0 rfl rfl)
theorem dX5_spare_1 : decode cX5_spare 1 = .ok (.iconst 0, 1) := dk_3 (dk_at dksX5_spare_0 1 rfl rfl)
theorem dX5_spare_2 : decode cX5_spare 2 = .ok (.putfield 1, 3) := dk_181 0 1 (dk_at dksX5_spare_0 2 rfl rfl)
theorem dX5_spare_5 : decode cX5_spare 5 = .ok (.aload_n 0, 1) := dk_42 (dk_at dksX5_spare_0 5 rfl rfl)
theorem dX5_spare_6 : decode cX5_spare 6 = .ok (.iload_n 1, 1) := dk_27 (dk_at dksX5_spare_0 6 rfl rfl)
theorem dX5_spare_7 : decode cX5_spare 7 = .ok (.invokevirtual 302, 3) := dk_182 1 46 (dk_at dksX5_spare_0 7 rfl rfl)
theorem dX5_spare_10 : decode cX5_spare 10 = .ok (.ifCond .eq 22, 3) := dk_153 0 22 (dk_at dksX5_spare_0 10 rfl rfl)
theorem dX5_spare_13 : decode cX5_spare 13 = .ok (.aload_n 0, 1) := dk_42 (dk_at dksX5_spare_0 13 rfl rfl)
theorem dX5_spare_14 : decode cX5_spare 14 = .ok (.iload_n 2, 1) := dk_28 (dk_at dksX5_spare_0 14 rfl rfl)
theorem dX5_spare_15 : decode cX5_spare 15 = .ok (.invokevirtual 312, 3) := dk_182 1 56 (dk_at dksX5_spare_0 15 rfl rfl)
theorem dX5_spare_18 : decode cX5_spare 18 = .ok (.ifCond .eq 14, 3) := dk_153 0 14 (dk_at dksX5_spare_0 18 rfl rfl)
theorem dX5_spare_21 : decode cX5_spare 21 = .ok (.iload_n 3, 1) := dk_29 (dk_at dksX5_spare_0 21 rfl rfl)
theorem dX5_spare_22 : decode cX5_spare 22 = .ok (.iconst 0, 1) := dk_3 (dk_at dksX5_spare_0 22 rfl rfl)
theorem dX5_spare_23 : decode cX5_spare 23 = .ok (.sipush 240, 3) := dk_17 0 240 (dk_at dksX5_spare_1 0 rfl rfl)
theorem dX5_spare_26 : decode cX5_spare 26 = .ok (.invokestatic 207, 3) := dk_184 0 207 (dk_at dksX5_spare_1 3 rfl rfl)
theorem dX5_spare_29 : decode cX5_spare 29 = .ok (.ifCond .ne 5, 3) := dk_154 0 5 (dk_at dksX5_spare_1 6 rfl rfl)
theorem dX5_spare_32 : decode cX5_spare 32 = .ok (.iconst (-1), 1) := dk_2 (dk_at dksX5_spare_1 9 rfl rfl)
theorem dX5_spare_33 : decode cX5_spare 33 = .ok (.ireturn, 1) := dk_172 (dk_at dksX5_spare_1 10 rfl rfl)
theorem dX5_spare_34 : decode cX5_spare 34 = .ok (.aload_n 0, 1) := dk_42 (dk_at dksX5_spare_1 11 rfl rfl)
theorem dX5_spare_35 : decode cX5_spare 35 = .ok (.iload_n 1, 1) := dk_27 (dk_at dksX5_spare_1 12 rfl rfl)
theorem dX5_spare_36 : decode cX5_spare 36 = .ok (.invokevirtual 284, 3) := dk_182 1 28 (dk_at dksX5_spare_1 13 rfl rfl)
theorem dX5_spare_39 : decode cX5_spare 39 = .ok (.istore 4, 2) := dk_54 4 (dk_at dksX5_spare_1 16 rfl rfl)
theorem dX5_spare_41 : decode cX5_spare 41 = .ok (.iconst (-1), 1) := dk_2 (dk_at dksX5_spare_1 18 rfl rfl)
theorem dX5_spare_42 : decode cX5_spare 42 = .ok (.istore 5, 2) := dk_54 5 (dk_at dksX5_spare_1 19 rfl rfl)
theorem dX5_spare_44 : decode cX5_spare 44 = .ok (.iconst 0, 1) := dk_3 (dk_at dksX5_spare_1 21 rfl rfl)
theorem dX5_spare_45 : decode cX5_spare 45 = .ok (.istore 6, 2) := dk_54 6 (dk_at dksX5_spare_1 22 rfl rfl)
theorem dX5_spare_47 : decode cX5_spare 47 = .ok (.iload 6, 2) := dk_21 6 (dk_at dksX5_spare_2 0 rfl rfl)
theorem dX5_spare_49 : decode cX5_spare 49 = .ok (.iconst 1, 1) := dk_4 (dk_at dksX5_spare_2 2 rfl rfl)
theorem dX5_spare_50 : decode cX5_spare 50 = .ok (.aload_n 0, 1) := dk_42 (dk_at dksX5_spare_2 3 rfl rfl)
theorem dX5_spare_51 : decode cX5_spare 51 = .ok (.getfield 33, 3) := dk_180 0 33 (dk_at dksX5_spare_2 4 rfl rfl)
theorem dX5_spare_54 : decode cX5_spare 54 = .ok (.iconst 0, 1) := dk_3 (dk_at dksX5_spare_2 7 rfl rfl)
theorem dX5_spare_55 : decode cX5_spare 55 = .ok (.iaload, 1) := dk_46 (dk_at dksX5_spare_2 8 rfl rfl)
theorem dX5_spare_56 : decode cX5_spare 56 = .ok (.ishl, 1) := dk_120 (dk_at dksX5_spare_2 9 rfl rfl)
theorem dX5_spare_57 : decode cX5_spare 57 = .ok (.if_icmp .ge 57, 3) := dk_162 0 57 (dk_at dksX5_spare_2 10 rfl rfl)
theorem dX5_spare_60 : decode cX5_spare 60 = .ok (.iload 6, 2) := dk_21 6 (dk_at dksX5_spare_2 13 rfl rfl)
theorem dX5_spare_62 : decode cX5_spare 62 = .ok (.iload 4, 2) := dk_21 4 (dk_at dksX5_spare_2 15 rfl rfl)
theorem dX5_spare_64 : decode cX5_spare 64 = .ok (.iand, 1) := dk_126 (dk_at dksX5_spare_2 17 rfl rfl)
theorem dX5_spare_65 : decode cX5_spare 65 = .ok (.ifCond .ne 43, 3) := dk_154 0 43 (dk_at dksX5_spare_2 18 rfl rfl)
theorem dX5_spare_68 : decode cX5_spare 68 = .ok (.iload 5, 2) := dk_21 5 (dk_at dksX5_spare_2 21 rfl rfl)
theorem dX5_spare_70 : decode cX5_spare 70 = .ok (.ifCond .lt 19, 3) := dk_155 0 19 (dk_at dksX5_spare_3 0 rfl rfl)
theorem dX5_spare_73 : decode cX5_spare 73 = .ok (.iload 6, 2) := dk_21 6 (dk_at dksX5_spare_3 3 rfl rfl)
theorem dX5_spare_75 : decode cX5_spare 75 = .ok (.invokestatic 315, 3) := dk_184 1 59 (dk_at dksX5_spare_3 5 rfl rfl)
theorem dX5_spare_78 : decode cX5_spare 78 = .ok (.iload 5, 2) := dk_21 5 (dk_at dksX5_spare_3 8 rfl rfl)
theorem dX5_spare_80 : decode cX5_spare 80 = .ok (.invokestatic 315, 3) := dk_184 1 59 (dk_at dksX5_spare_3 10 rfl rfl)
theorem dX5_spare_83 : decode cX5_spare 83 = .ok (.if_icmp .lt 6, 3) := dk_161 0 6 (dk_at dksX5_spare_3 13 rfl rfl)
theorem dX5_spare_86 : decode cX5_spare 86 = .ok (.goto 22, 3) := dk_167 0 22 (dk_at dksX5_spare_3 16 rfl rfl)
theorem dX5_spare_89 : decode cX5_spare 89 = .ok (.aload_n 0, 1) := dk_42 (dk_at dksX5_spare_3 19 rfl rfl)
theorem dX5_spare_90 : decode cX5_spare 90 = .ok (.iload_n 1, 1) := dk_27 (dk_at dksX5_spare_3 20 rfl rfl)
theorem dX5_spare_91 : decode cX5_spare 91 = .ok (.iload_n 2, 1) := dk_28 (dk_at dksX5_spare_3 21 rfl rfl)
theorem dX5_spare_92 : decode cX5_spare 92 = .ok (.iload_n 3, 1) := dk_29 (dk_at dksX5_spare_3 22 rfl rfl)
theorem dX5_spare_93 : decode cX5_spare 93 = .ok (.iload 6, 2) := dk_21 6 (dk_at dksX5_spare_4 0 rfl rfl)
theorem dX5_spare_95 : decode cX5_spare 95 = .ok (.invokevirtual 373, 3) := dk_182 1 117 (dk_at dksX5_spare_4 2 rfl rfl)
theorem dX5_spare_98 : decode cX5_spare 98 = .ok (.ldc_w 372, 3) := dk_19 1 116 (dk_at dksX5_spare_4 5 rfl rfl)
theorem dX5_spare_101 : decode cX5_spare 101 = .ok (.if_icmp .ge 7, 3) := dk_162 0 7 (dk_at dksX5_spare_4 8 rfl rfl)
theorem dX5_spare_104 : decode cX5_spare 104 = .ok (.iload 6, 2) := dk_21 6 (dk_at dksX5_spare_4 11 rfl rfl)
theorem dX5_spare_106 : decode cX5_spare 106 = .ok (.istore 5, 2) := dk_54 5 (dk_at dksX5_spare_4 13 rfl rfl)
theorem dX5_spare_108 : decode cX5_spare 108 = .ok (.iinc 6 1, 3) := dk_132 6 1 (dk_at dksX5_spare_4 15 rfl rfl)
theorem dX5_spare_111 : decode cX5_spare 111 = .ok (.goto (-64), 3) := dk_167 255 192 (dk_at dksX5_spare_4 18 rfl rfl)
theorem dX5_spare_114 : decode cX5_spare 114 = .ok (.iload 5, 2) := dk_21 5 (dk_at dksX5_spare_4 21 rfl rfl)
theorem dX5_spare_116 : decode cX5_spare 116 = .ok (.ifCond .ge 5, 3) := dk_156 0 5 (dk_at dksX5_spare_5 0 rfl rfl)
theorem dX5_spare_119 : decode cX5_spare 119 = .ok (.iconst (-1), 1) := dk_2 (dk_at dksX5_spare_5 3 rfl rfl)
theorem dX5_spare_120 : decode cX5_spare 120 = .ok (.ireturn, 1) := dk_172 (dk_at dksX5_spare_5 4 rfl rfl)
theorem dX5_spare_121 : decode cX5_spare 121 = .ok (.aload_n 0, 1) := dk_42 (dk_at dksX5_spare_5 5 rfl rfl)
theorem dX5_spare_122 : decode cX5_spare 122 = .ok (.iconst 1, 1) := dk_4 (dk_at dksX5_spare_5 6 rfl rfl)
theorem dX5_spare_123 : decode cX5_spare 123 = .ok (.putfield 379, 3) := dk_181 1 123 (dk_at dksX5_spare_5 7 rfl rfl)
theorem dX5_spare_126 : decode cX5_spare 126 = .ok (.aload_n 0, 1) := dk_42 (dk_at dksX5_spare_5 10 rfl rfl)
theorem dX5_spare_127 : decode cX5_spare 127 = .ok (.iload 5, 2) := dk_21 5 (dk_at dksX5_spare_5 11 rfl rfl)
theorem dX5_spare_129 : decode cX5_spare 129 = .ok (.putfield 383, 3) := dk_181 1 127 (dk_at dksX5_spare_5 13 rfl rfl)
theorem dX5_spare_132 : decode cX5_spare 132 = .ok (.iload 5, 2) := dk_21 5 (dk_at dksX5_spare_5 16 rfl rfl)
theorem dX5_spare_134 : decode cX5_spare 134 = .ok (.invokestatic 315, 3) := dk_184 1 59 (dk_at dksX5_spare_5 18 rfl rfl)
theorem dX5_spare_137 : decode cX5_spare 137 = .ok (.ireturn, 1) := dk_172 (dk_at dksX5_spare_5 21 rfl rfl)
abbrev cX5_spared : ByteArray := prog_32_method_80_code
def yX5_spared : MethodName := ⟨RX5, "spared", "()I"⟩
def dkwX5_spared_0 : List UInt8 := [42, 3, 181, 0, 1, 42, 180, 1, 123, 153, 0, 10, 42, 180, 1, 127, 167, 0, 4, 2, 172]
abbrev dktX5_spared_0 : List UInt8 := dkwX5_spared_0 ++ []
theorem dksX5_spared_0 : cX5_spared.data.toList.drop 0 = dktX5_spared_0 := by decide +kernel
theorem dX5_spared_0 : decode cX5_spared 0 = .ok (.aload_n 0, 1) := dk_42 (dk_at dksX5_spared_0 0 rfl rfl)
theorem dX5_spared_1 : decode cX5_spared 1 = .ok (.iconst 0, 1) := dk_3 (dk_at dksX5_spared_0 1 rfl rfl)
theorem dX5_spared_2 : decode cX5_spared 2 = .ok (.putfield 1, 3) := dk_181 0 1 (dk_at dksX5_spared_0 2 rfl rfl)
theorem dX5_spared_5 : decode cX5_spared 5 = .ok (.aload_n 0, 1) := dk_42 (dk_at dksX5_spared_0 5 rfl rfl)
theorem dX5_spared_6 : decode cX5_spared 6 = .ok (.getfield 379, 3) := dk_180 1 123 (dk_at dksX5_spared_0 6 rfl rfl)
theorem dX5_spared_9 : decode cX5_spared 9 = .ok (.ifCond .eq 10, 3) := dk_153 0 10 (dk_at dksX5_spared_0 9 rfl rfl)
theorem dX5_spared_12 : decode cX5_spared 12 = .ok (.aload_n 0, 1) := dk_42 (dk_at dksX5_spared_0 12 rfl rfl)
theorem dX5_spared_13 : decode cX5_spared 13 = .ok (.getfield 383, 3) := dk_180 1 127 (dk_at dksX5_spared_0 13 rfl rfl)
theorem dX5_spared_16 : decode cX5_spared 16 = .ok (.goto 4, 3) := dk_167 0 4 (dk_at dksX5_spared_0 16 rfl rfl)
theorem dX5_spared_19 : decode cX5_spared 19 = .ok (.iconst (-1), 1) := dk_2 (dk_at dksX5_spared_0 19 rfl rfl)
theorem dX5_spared_20 : decode cX5_spared 20 = .ok (.ireturn, 1) := dk_172 (dk_at dksX5_spared_0 20 rfl rfl)
abbrev cX5_made : ByteArray := prog_32_method_81_code
def yX5_made : MethodName := ⟨RX5, "made", "()I"⟩
def dkwX5_made_9 : List UInt8 := [132, 2, 1, 167, 255, 220, 27, 172]
abbrev dktX5_made_9 : List UInt8 := dkwX5_made_9 ++ []
def dkwX5_made_8 : List UInt8 := [180, 0, 74, 28, 46, 42, 180, 0, 74, 42, 180, 1, 133, 46, 164, 0, 8, 42, 28, 181, 1, 133]
abbrev dktX5_made_8 : List UInt8 := dkwX5_made_8 ++ dktX5_made_9
def dkwX5_made_7 : List UInt8 := [27, 154, 0, 5, 3, 172, 42, 3, 181, 1, 133, 4, 61, 28, 42, 180, 0, 33, 3, 46, 162, 0, 32, 42]
abbrev dktX5_made_7 : List UInt8 := dkwX5_made_7 ++ dktX5_made_8
def dkwX5_made_6 : List UInt8 := [42, 180, 0, 74, 42, 180, 0, 56, 28, 46, 92, 46, 4, 96, 79, 167, 255, 179, 132, 2, 1, 167, 255, 159]
abbrev dktX5_made_6 : List UInt8 := dkwX5_made_6 ++ dktX5_made_7
def dkwX5_made_5 : List UInt8 := [162, 0, 21, 42, 180, 0, 71, 29, 42, 180, 0, 65, 29, 46, 79, 132, 3, 1, 167, 255, 236, 132, 1, 1]
abbrev dktX5_made_5 : List UInt8 := dkwX5_made_5 ++ dktX5_made_6
def dkwX5_made_4 : List UInt8 := [182, 1, 130, 159, 0, 6, 167, 255, 234, 27, 154, 0, 33, 42, 28, 181, 0, 80, 3, 62, 29, 28]
abbrev dktX5_made_4 : List UInt8 := dkwX5_made_4 ++ dktX5_made_5
def dkwX5_made_3 : List UInt8 := [182, 1, 130, 182, 1, 110, 42, 28, 182, 1, 113, 153, 0, 75, 42, 180, 0, 59, 28, 46, 42, 4]
abbrev dktX5_made_3 : List UInt8 := dkwX5_made_3 ++ dktX5_made_4
def dkwX5_made_2 : List UInt8 := [180, 0, 74, 28, 3, 79, 132, 2, 1, 167, 255, 240, 4, 61, 28, 8, 162, 0, 98, 42, 42, 3]
abbrev dktX5_made_2 : List UInt8 := dkwX5_made_2 ++ dktX5_made_3
def dkwX5_made_1 : List UInt8 := [182, 1, 130, 182, 1, 46, 154, 0, 5, 2, 172, 3, 60, 3, 61, 28, 16, 7, 162, 0, 16, 42]
abbrev dktX5_made_1 : List UInt8 := dkwX5_made_1 ++ dktX5_made_2
def dkwX5_made_0 : List UInt8 := [42, 3, 181, 0, 1, 42, 17, 3, 172, 182, 1, 7, 42, 180, 0, 18, 5, 160, 0, 15, 42, 42, 3]
abbrev dktX5_made_0 : List UInt8 := dkwX5_made_0 ++ dktX5_made_1
theorem dksX5_made_0 : cX5_made.data.toList.drop 0 = dktX5_made_0 := by decide +kernel
theorem dksX5_made_1 : cX5_made.data.toList.drop 23 = dktX5_made_1 := dk_seg dksX5_made_0 23 rfl rfl
theorem dksX5_made_2 : cX5_made.data.toList.drop 45 = dktX5_made_2 := dk_seg dksX5_made_1 22 rfl rfl
theorem dksX5_made_3 : cX5_made.data.toList.drop 67 = dktX5_made_3 := dk_seg dksX5_made_2 22 rfl rfl
theorem dksX5_made_4 : cX5_made.data.toList.drop 89 = dktX5_made_4 := dk_seg dksX5_made_3 22 rfl rfl
theorem dksX5_made_5 : cX5_made.data.toList.drop 111 = dktX5_made_5 := dk_seg dksX5_made_4 22 rfl rfl
theorem dksX5_made_6 : cX5_made.data.toList.drop 135 = dktX5_made_6 := dk_seg dksX5_made_5 24 rfl rfl
theorem dksX5_made_7 : cX5_made.data.toList.drop 159 = dktX5_made_7 := dk_seg dksX5_made_6 24 rfl rfl
theorem dksX5_made_8 : cX5_made.data.toList.drop 183 = dktX5_made_8 := dk_seg dksX5_made_7 24 rfl rfl
theorem dksX5_made_9 : cX5_made.data.toList.drop 205 = dktX5_made_9 := dk_seg dksX5_made_8 22 rfl rfl
theorem dX5_made_0 : decode cX5_made 0 = .ok (.aload_n 0, 1) := dk_42 (dk_at dksX5_made_0 0 rfl rfl)
theorem dX5_made_1 : decode cX5_made 1 = .ok (.iconst 0, 1) := dk_3 (dk_at dksX5_made_0 1 rfl rfl)
theorem dX5_made_2 : decode cX5_made 2 = .ok (.putfield 1, 3) := dk_181 0 1 (dk_at dksX5_made_0 2 rfl rfl)
theorem dX5_made_5 : decode cX5_made 5 = .ok (.aload_n 0, 1) := dk_42 (dk_at dksX5_made_0 5 rfl rfl)
theorem dX5_made_6 : decode cX5_made 6 = .ok (.sipush 940, 3) := dk_17 3 172 (dk_at dksX5_made_0 6 rfl rfl)
theorem dX5_made_9 : decode cX5_made 9 = .ok (.invokevirtual 263, 3) := dk_182 1 7 (dk_at dksX5_made_0 9 rfl rfl)
theorem dX5_made_12 : decode cX5_made 12 = .ok (.aload_n 0, 1) := dk_42 (dk_at dksX5_made_0 12 rfl rfl)
theorem dX5_made_13 : decode cX5_made 13 = .ok (.getfield 18, 3) := dk_180 0 18 (dk_at dksX5_made_0 13 rfl rfl)
theorem dX5_made_16 : decode cX5_made 16 = .ok (.iconst 2, 1) := dk_5 (dk_at dksX5_made_0 16 rfl rfl)
theorem dX5_made_17 : decode cX5_made 17 = .ok (.if_icmp .ne 15, 3) := dk_160 0 15 (dk_at dksX5_made_0 17 rfl rfl)
theorem dX5_made_20 : decode cX5_made 20 = .ok (.aload_n 0, 1) := dk_42 (dk_at dksX5_made_0 20 rfl rfl)
theorem dX5_made_21 : decode cX5_made 21 = .ok (.aload_n 0, 1) := dk_42 (dk_at dksX5_made_0 21 rfl rfl)
theorem dX5_made_22 : decode cX5_made 22 = .ok (.iconst 0, 1) := dk_3 (dk_at dksX5_made_0 22 rfl rfl)
theorem dX5_made_23 : decode cX5_made 23 = .ok (.invokevirtual 386, 3) := dk_182 1 130 (dk_at dksX5_made_1 0 rfl rfl)
theorem dX5_made_26 : decode cX5_made 26 = .ok (.invokevirtual 302, 3) := dk_182 1 46 (dk_at dksX5_made_1 3 rfl rfl)
theorem dX5_made_29 : decode cX5_made 29 = .ok (.ifCond .ne 5, 3) := dk_154 0 5 (dk_at dksX5_made_1 6 rfl rfl)
theorem dX5_made_32 : decode cX5_made 32 = .ok (.iconst (-1), 1) := dk_2 (dk_at dksX5_made_1 9 rfl rfl)
theorem dX5_made_33 : decode cX5_made 33 = .ok (.ireturn, 1) := dk_172 (dk_at dksX5_made_1 10 rfl rfl)
theorem dX5_made_34 : decode cX5_made 34 = .ok (.iconst 0, 1) := dk_3 (dk_at dksX5_made_1 11 rfl rfl)
theorem dX5_made_35 : decode cX5_made 35 = .ok (.istore_n 1, 1) := dk_60 (dk_at dksX5_made_1 12 rfl rfl)
theorem dX5_made_36 : decode cX5_made 36 = .ok (.iconst 0, 1) := dk_3 (dk_at dksX5_made_1 13 rfl rfl)
theorem dX5_made_37 : decode cX5_made 37 = .ok (.istore_n 2, 1) := dk_61 (dk_at dksX5_made_1 14 rfl rfl)
theorem dX5_made_38 : decode cX5_made 38 = .ok (.iload_n 2, 1) := dk_28 (dk_at dksX5_made_1 15 rfl rfl)
theorem dX5_made_39 : decode cX5_made 39 = .ok (.bipush 7, 2) := dk_16 7 (dk_at dksX5_made_1 16 rfl rfl)
theorem dX5_made_41 : decode cX5_made 41 = .ok (.if_icmp .ge 16, 3) := dk_162 0 16 (dk_at dksX5_made_1 18 rfl rfl)
theorem dX5_made_44 : decode cX5_made 44 = .ok (.aload_n 0, 1) := dk_42 (dk_at dksX5_made_1 21 rfl rfl)
theorem dX5_made_45 : decode cX5_made 45 = .ok (.getfield 74, 3) := dk_180 0 74 (dk_at dksX5_made_2 0 rfl rfl)
theorem dX5_made_48 : decode cX5_made 48 = .ok (.iload_n 2, 1) := dk_28 (dk_at dksX5_made_2 3 rfl rfl)
theorem dX5_made_49 : decode cX5_made 49 = .ok (.iconst 0, 1) := dk_3 (dk_at dksX5_made_2 4 rfl rfl)
theorem dX5_made_50 : decode cX5_made 50 = .ok (.iastore, 1) := dk_79 (dk_at dksX5_made_2 5 rfl rfl)
theorem dX5_made_51 : decode cX5_made 51 = .ok (.iinc 2 1, 3) := dk_132 2 1 (dk_at dksX5_made_2 6 rfl rfl)
theorem dX5_made_54 : decode cX5_made 54 = .ok (.goto (-16), 3) := dk_167 255 240 (dk_at dksX5_made_2 9 rfl rfl)
theorem dX5_made_57 : decode cX5_made 57 = .ok (.iconst 1, 1) := dk_4 (dk_at dksX5_made_2 12 rfl rfl)
theorem dX5_made_58 : decode cX5_made 58 = .ok (.istore_n 2, 1) := dk_61 (dk_at dksX5_made_2 13 rfl rfl)
theorem dX5_made_59 : decode cX5_made 59 = .ok (.iload_n 2, 1) := dk_28 (dk_at dksX5_made_2 14 rfl rfl)
theorem dX5_made_60 : decode cX5_made 60 = .ok (.iconst 5, 1) := dk_8 (dk_at dksX5_made_2 15 rfl rfl)
theorem dX5_made_61 : decode cX5_made 61 = .ok (.if_icmp .ge 98, 3) := dk_162 0 98 (dk_at dksX5_made_2 16 rfl rfl)
theorem dX5_made_64 : decode cX5_made 64 = .ok (.aload_n 0, 1) := dk_42 (dk_at dksX5_made_2 19 rfl rfl)
theorem dX5_made_65 : decode cX5_made 65 = .ok (.aload_n 0, 1) := dk_42 (dk_at dksX5_made_2 20 rfl rfl)
theorem dX5_made_66 : decode cX5_made 66 = .ok (.iconst 0, 1) := dk_3 (dk_at dksX5_made_2 21 rfl rfl)
theorem dX5_made_67 : decode cX5_made 67 = .ok (.invokevirtual 386, 3) := dk_182 1 130 (dk_at dksX5_made_3 0 rfl rfl)
theorem dX5_made_70 : decode cX5_made 70 = .ok (.invokevirtual 366, 3) := dk_182 1 110 (dk_at dksX5_made_3 3 rfl rfl)
theorem dX5_made_73 : decode cX5_made 73 = .ok (.aload_n 0, 1) := dk_42 (dk_at dksX5_made_3 6 rfl rfl)
theorem dX5_made_74 : decode cX5_made 74 = .ok (.iload_n 2, 1) := dk_28 (dk_at dksX5_made_3 7 rfl rfl)
theorem dX5_made_75 : decode cX5_made 75 = .ok (.invokevirtual 369, 3) := dk_182 1 113 (dk_at dksX5_made_3 8 rfl rfl)
theorem dX5_made_78 : decode cX5_made 78 = .ok (.ifCond .eq 75, 3) := dk_153 0 75 (dk_at dksX5_made_3 11 rfl rfl)
theorem dX5_made_81 : decode cX5_made 81 = .ok (.aload_n 0, 1) := dk_42 (dk_at dksX5_made_3 14 rfl rfl)
theorem dX5_made_82 : decode cX5_made 82 = .ok (.getfield 59, 3) := dk_180 0 59 (dk_at dksX5_made_3 15 rfl rfl)
theorem dX5_made_85 : decode cX5_made 85 = .ok (.iload_n 2, 1) := dk_28 (dk_at dksX5_made_3 18 rfl rfl)
theorem dX5_made_86 : decode cX5_made 86 = .ok (.iaload, 1) := dk_46 (dk_at dksX5_made_3 19 rfl rfl)
theorem dX5_made_87 : decode cX5_made 87 = .ok (.aload_n 0, 1) := dk_42 (dk_at dksX5_made_3 20 rfl rfl)
theorem dX5_made_88 : decode cX5_made 88 = .ok (.iconst 1, 1) := dk_4 (dk_at dksX5_made_3 21 rfl rfl)
theorem dX5_made_89 : decode cX5_made 89 = .ok (.invokevirtual 386, 3) := dk_182 1 130 (dk_at dksX5_made_4 0 rfl rfl)
theorem dX5_made_92 : decode cX5_made 92 = .ok (.if_icmp .eq 6, 3) := dk_159 0 6 (dk_at dksX5_made_4 3 rfl rfl)
theorem dX5_made_95 : decode cX5_made 95 = .ok (.goto (-22), 3) := dk_167 255 234 (dk_at dksX5_made_4 6 rfl rfl)
theorem dX5_made_98 : decode cX5_made 98 = .ok (.iload_n 1, 1) := dk_27 (dk_at dksX5_made_4 9 rfl rfl)
theorem dX5_made_99 : decode cX5_made 99 = .ok (.ifCond .ne 33, 3) := dk_154 0 33 (dk_at dksX5_made_4 10 rfl rfl)
theorem dX5_made_102 : decode cX5_made 102 = .ok (.aload_n 0, 1) := dk_42 (dk_at dksX5_made_4 13 rfl rfl)
theorem dX5_made_103 : decode cX5_made 103 = .ok (.iload_n 2, 1) := dk_28 (dk_at dksX5_made_4 14 rfl rfl)
theorem dX5_made_104 : decode cX5_made 104 = .ok (.putfield 80, 3) := dk_181 0 80 (dk_at dksX5_made_4 15 rfl rfl)
theorem dX5_made_107 : decode cX5_made 107 = .ok (.iconst 0, 1) := dk_3 (dk_at dksX5_made_4 18 rfl rfl)
theorem dX5_made_108 : decode cX5_made 108 = .ok (.istore_n 3, 1) := dk_62 (dk_at dksX5_made_4 19 rfl rfl)
theorem dX5_made_109 : decode cX5_made 109 = .ok (.iload_n 3, 1) := dk_29 (dk_at dksX5_made_4 20 rfl rfl)
theorem dX5_made_110 : decode cX5_made 110 = .ok (.iload_n 2, 1) := dk_28 (dk_at dksX5_made_4 21 rfl rfl)
theorem dX5_made_111 : decode cX5_made 111 = .ok (.if_icmp .ge 21, 3) := dk_162 0 21 (dk_at dksX5_made_5 0 rfl rfl)
theorem dX5_made_114 : decode cX5_made 114 = .ok (.aload_n 0, 1) := dk_42 (dk_at dksX5_made_5 3 rfl rfl)
theorem dX5_made_115 : decode cX5_made 115 = .ok (.getfield 71, 3) := dk_180 0 71 (dk_at dksX5_made_5 4 rfl rfl)
theorem dX5_made_118 : decode cX5_made 118 = .ok (.iload_n 3, 1) := dk_29 (dk_at dksX5_made_5 7 rfl rfl)
theorem dX5_made_119 : decode cX5_made 119 = .ok (.aload_n 0, 1) := dk_42 (dk_at dksX5_made_5 8 rfl rfl)
theorem dX5_made_120 : decode cX5_made 120 = .ok (.getfield 65, 3) := dk_180 0 65 (dk_at dksX5_made_5 9 rfl rfl)
theorem dX5_made_123 : decode cX5_made 123 = .ok (.iload_n 3, 1) := dk_29 (dk_at dksX5_made_5 12 rfl rfl)
theorem dX5_made_124 : decode cX5_made 124 = .ok (.iaload, 1) := dk_46 (dk_at dksX5_made_5 13 rfl rfl)
theorem dX5_made_125 : decode cX5_made 125 = .ok (.iastore, 1) := dk_79 (dk_at dksX5_made_5 14 rfl rfl)
theorem dX5_made_126 : decode cX5_made 126 = .ok (.iinc 3 1, 3) := dk_132 3 1 (dk_at dksX5_made_5 15 rfl rfl)
theorem dX5_made_129 : decode cX5_made 129 = .ok (.goto (-20), 3) := dk_167 255 236 (dk_at dksX5_made_5 18 rfl rfl)
theorem dX5_made_132 : decode cX5_made 132 = .ok (.iinc 1 1, 3) := dk_132 1 1 (dk_at dksX5_made_5 21 rfl rfl)
theorem dX5_made_135 : decode cX5_made 135 = .ok (.aload_n 0, 1) := dk_42 (dk_at dksX5_made_6 0 rfl rfl)
theorem dX5_made_136 : decode cX5_made 136 = .ok (.getfield 74, 3) := dk_180 0 74 (dk_at dksX5_made_6 1 rfl rfl)
theorem dX5_made_139 : decode cX5_made 139 = .ok (.aload_n 0, 1) := dk_42 (dk_at dksX5_made_6 4 rfl rfl)
theorem dX5_made_140 : decode cX5_made 140 = .ok (.getfield 56, 3) := dk_180 0 56 (dk_at dksX5_made_6 5 rfl rfl)
theorem dX5_made_143 : decode cX5_made 143 = .ok (.iload_n 2, 1) := dk_28 (dk_at dksX5_made_6 8 rfl rfl)
theorem dX5_made_144 : decode cX5_made 144 = .ok (.iaload, 1) := dk_46 (dk_at dksX5_made_6 9 rfl rfl)
theorem dX5_made_145 : decode cX5_made 145 = .ok (.dup2, 1) := dk_92 (dk_at dksX5_made_6 10 rfl rfl)
theorem dX5_made_146 : decode cX5_made 146 = .ok (.iaload, 1) := dk_46 (dk_at dksX5_made_6 11 rfl rfl)
theorem dX5_made_147 : decode cX5_made 147 = .ok (.iconst 1, 1) := dk_4 (dk_at dksX5_made_6 12 rfl rfl)
theorem dX5_made_148 : decode cX5_made 148 = .ok (.iadd, 1) := dk_96 (dk_at dksX5_made_6 13 rfl rfl)
theorem dX5_made_149 : decode cX5_made 149 = .ok (.iastore, 1) := dk_79 (dk_at dksX5_made_6 14 rfl rfl)
theorem dX5_made_150 : decode cX5_made 150 = .ok (.goto (-77), 3) := dk_167 255 179 (dk_at dksX5_made_6 15 rfl rfl)
theorem dX5_made_153 : decode cX5_made 153 = .ok (.iinc 2 1, 3) := dk_132 2 1 (dk_at dksX5_made_6 18 rfl rfl)
theorem dX5_made_156 : decode cX5_made 156 = .ok (.goto (-97), 3) := dk_167 255 159 (dk_at dksX5_made_6 21 rfl rfl)
theorem dX5_made_159 : decode cX5_made 159 = .ok (.iload_n 1, 1) := dk_27 (dk_at dksX5_made_7 0 rfl rfl)
theorem dX5_made_160 : decode cX5_made 160 = .ok (.ifCond .ne 5, 3) := dk_154 0 5 (dk_at dksX5_made_7 1 rfl rfl)
theorem dX5_made_163 : decode cX5_made 163 = .ok (.iconst 0, 1) := dk_3 (dk_at dksX5_made_7 4 rfl rfl)
theorem dX5_made_164 : decode cX5_made 164 = .ok (.ireturn, 1) := dk_172 (dk_at dksX5_made_7 5 rfl rfl)
theorem dX5_made_165 : decode cX5_made 165 = .ok (.aload_n 0, 1) := dk_42 (dk_at dksX5_made_7 6 rfl rfl)
theorem dX5_made_166 : decode cX5_made 166 = .ok (.iconst 0, 1) := dk_3 (dk_at dksX5_made_7 7 rfl rfl)
theorem dX5_made_167 : decode cX5_made 167 = .ok (.putfield 389, 3) := dk_181 1 133 (dk_at dksX5_made_7 8 rfl rfl)
theorem dX5_made_170 : decode cX5_made 170 = .ok (.iconst 1, 1) := dk_4 (dk_at dksX5_made_7 11 rfl rfl)
theorem dX5_made_171 : decode cX5_made 171 = .ok (.istore_n 2, 1) := dk_61 (dk_at dksX5_made_7 12 rfl rfl)
theorem dX5_made_172 : decode cX5_made 172 = .ok (.iload_n 2, 1) := dk_28 (dk_at dksX5_made_7 13 rfl rfl)
theorem dX5_made_173 : decode cX5_made 173 = .ok (.aload_n 0, 1) := dk_42 (dk_at dksX5_made_7 14 rfl rfl)
theorem dX5_made_174 : decode cX5_made 174 = .ok (.getfield 33, 3) := dk_180 0 33 (dk_at dksX5_made_7 15 rfl rfl)
theorem dX5_made_177 : decode cX5_made 177 = .ok (.iconst 0, 1) := dk_3 (dk_at dksX5_made_7 18 rfl rfl)
theorem dX5_made_178 : decode cX5_made 178 = .ok (.iaload, 1) := dk_46 (dk_at dksX5_made_7 19 rfl rfl)
theorem dX5_made_179 : decode cX5_made 179 = .ok (.if_icmp .ge 32, 3) := dk_162 0 32 (dk_at dksX5_made_7 20 rfl rfl)
theorem dX5_made_182 : decode cX5_made 182 = .ok (.aload_n 0, 1) := dk_42 (dk_at dksX5_made_7 23 rfl rfl)
theorem dX5_made_183 : decode cX5_made 183 = .ok (.getfield 74, 3) := dk_180 0 74 (dk_at dksX5_made_8 0 rfl rfl)
theorem dX5_made_186 : decode cX5_made 186 = .ok (.iload_n 2, 1) := dk_28 (dk_at dksX5_made_8 3 rfl rfl)
theorem dX5_made_187 : decode cX5_made 187 = .ok (.iaload, 1) := dk_46 (dk_at dksX5_made_8 4 rfl rfl)
theorem dX5_made_188 : decode cX5_made 188 = .ok (.aload_n 0, 1) := dk_42 (dk_at dksX5_made_8 5 rfl rfl)
theorem dX5_made_189 : decode cX5_made 189 = .ok (.getfield 74, 3) := dk_180 0 74 (dk_at dksX5_made_8 6 rfl rfl)
theorem dX5_made_192 : decode cX5_made 192 = .ok (.aload_n 0, 1) := dk_42 (dk_at dksX5_made_8 9 rfl rfl)
theorem dX5_made_193 : decode cX5_made 193 = .ok (.getfield 389, 3) := dk_180 1 133 (dk_at dksX5_made_8 10 rfl rfl)
theorem dX5_made_196 : decode cX5_made 196 = .ok (.iaload, 1) := dk_46 (dk_at dksX5_made_8 13 rfl rfl)
theorem dX5_made_197 : decode cX5_made 197 = .ok (.if_icmp .le 8, 3) := dk_164 0 8 (dk_at dksX5_made_8 14 rfl rfl)
theorem dX5_made_200 : decode cX5_made 200 = .ok (.aload_n 0, 1) := dk_42 (dk_at dksX5_made_8 17 rfl rfl)
theorem dX5_made_201 : decode cX5_made 201 = .ok (.iload_n 2, 1) := dk_28 (dk_at dksX5_made_8 18 rfl rfl)
theorem dX5_made_202 : decode cX5_made 202 = .ok (.putfield 389, 3) := dk_181 1 133 (dk_at dksX5_made_8 19 rfl rfl)
theorem dX5_made_205 : decode cX5_made 205 = .ok (.iinc 2 1, 3) := dk_132 2 1 (dk_at dksX5_made_9 0 rfl rfl)
theorem dX5_made_208 : decode cX5_made 208 = .ok (.goto (-36), 3) := dk_167 255 220 (dk_at dksX5_made_9 3 rfl rfl)
theorem dX5_made_211 : decode cX5_made 211 = .ok (.iload_n 1, 1) := dk_27 (dk_at dksX5_made_9 6 rfl rfl)
theorem dX5_made_212 : decode cX5_made 212 = .ok (.ireturn, 1) := dk_172 (dk_at dksX5_made_9 7 rfl rfl)
abbrev cX5_octet : ByteArray := prog_32_method_12_code
def yX5_octet : MethodName := ⟨RX5, "octet", "(I)I"⟩
def dkwX5_octet_0 : List UInt8 := [42, 180, 0, 14, 27, 51, 17, 0, 255, 126, 172]
abbrev dktX5_octet_0 : List UInt8 := dkwX5_octet_0 ++ []
theorem dksX5_octet_0 : cX5_octet.data.toList.drop 0 = dktX5_octet_0 := by decide +kernel
theorem dX5_octet_0 : decode cX5_octet 0 = .ok (.aload_n 0, 1) := dk_42 (dk_at dksX5_octet_0 0 rfl rfl)
theorem dX5_octet_1 : decode cX5_octet 1 = .ok (.getfield 14, 3) := dk_180 0 14 (dk_at dksX5_octet_0 1 rfl rfl)
theorem dX5_octet_4 : decode cX5_octet 4 = .ok (.iload_n 1, 1) := dk_27 (dk_at dksX5_octet_0 4 rfl rfl)
theorem dX5_octet_5 : decode cX5_octet 5 = .ok (.baload, 1) := dk_51 (dk_at dksX5_octet_0 5 rfl rfl)
theorem dX5_octet_6 : decode cX5_octet 6 = .ok (.sipush 255, 3) := dk_17 0 255 (dk_at dksX5_octet_0 6 rfl rfl)
theorem dX5_octet_9 : decode cX5_octet 9 = .ok (.iand, 1) := dk_126 (dk_at dksX5_octet_0 9 rfl rfl)
theorem dX5_octet_10 : decode cX5_octet 10 = .ok (.ireturn, 1) := dk_172 (dk_at dksX5_octet_0 10 rfl rfl)
abbrev cX5_madeAt : ByteArray := prog_32_method_82_code
def yX5_madeAt : MethodName := ⟨RX5, "madeAt", "(I)I"⟩
def dkwX5_madeAt_1 : List UInt8 := [46, 167, 0, 4, 2, 172]
abbrev dktX5_madeAt_1 : List UInt8 := dkwX5_madeAt_1 ++ []
def dkwX5_madeAt_0 : List UInt8 := [42, 3, 181, 0, 1, 27, 3, 42, 180, 0, 80, 4, 100, 184, 0, 207, 153, 0, 12, 42, 180, 0, 71, 27]
abbrev dktX5_madeAt_0 : List UInt8 := dkwX5_madeAt_0 ++ dktX5_madeAt_1
theorem dksX5_madeAt_0 : cX5_madeAt.data.toList.drop 0 = dktX5_madeAt_0 := by decide +kernel
theorem dksX5_madeAt_1 : cX5_madeAt.data.toList.drop 24 = dktX5_madeAt_1 := dk_seg dksX5_madeAt_0 24 rfl rfl
theorem dX5_madeAt_0 : decode cX5_madeAt 0 = .ok (.aload_n 0, 1) := dk_42 (dk_at dksX5_madeAt_0 0 rfl rfl)
theorem dX5_madeAt_1 : decode cX5_madeAt 1 = .ok (.iconst 0, 1) := dk_3 (dk_at dksX5_madeAt_0 1 rfl rfl)
theorem dX5_madeAt_2 : decode cX5_madeAt 2 = .ok (.putfield 1, 3) := dk_181 0 1 (dk_at dksX5_madeAt_0 2 rfl rfl)
theorem dX5_madeAt_5 : decode cX5_madeAt 5 = .ok (.iload_n 1, 1) := dk_27 (dk_at dksX5_madeAt_0 5 rfl rfl)
theorem dX5_madeAt_6 : decode cX5_madeAt 6 = .ok (.iconst 0, 1) := dk_3 (dk_at dksX5_madeAt_0 6 rfl rfl)
theorem dX5_madeAt_7 : decode cX5_madeAt 7 = .ok (.aload_n 0, 1) := dk_42 (dk_at dksX5_madeAt_0 7 rfl rfl)
theorem dX5_madeAt_8 : decode cX5_madeAt 8 = .ok (.getfield 80, 3) := dk_180 0 80 (dk_at dksX5_madeAt_0 8 rfl rfl)
theorem dX5_madeAt_11 : decode cX5_madeAt 11 = .ok (.iconst 1, 1) := dk_4 (dk_at dksX5_madeAt_0 11 rfl rfl)
theorem dX5_madeAt_12 : decode cX5_madeAt 12 = .ok (.isub, 1) := dk_100 (dk_at dksX5_madeAt_0 12 rfl rfl)
theorem dX5_madeAt_13 : decode cX5_madeAt 13 = .ok (.invokestatic 207, 3) := dk_184 0 207 (dk_at dksX5_madeAt_0 13 rfl rfl)
theorem dX5_madeAt_16 : decode cX5_madeAt 16 = .ok (.ifCond .eq 12, 3) := dk_153 0 12 (dk_at dksX5_madeAt_0 16 rfl rfl)
theorem dX5_madeAt_19 : decode cX5_madeAt 19 = .ok (.aload_n 0, 1) := dk_42 (dk_at dksX5_madeAt_0 19 rfl rfl)
theorem dX5_madeAt_20 : decode cX5_madeAt 20 = .ok (.getfield 71, 3) := dk_180 0 71 (dk_at dksX5_madeAt_0 20 rfl rfl)
theorem dX5_madeAt_23 : decode cX5_madeAt 23 = .ok (.iload_n 1, 1) := dk_27 (dk_at dksX5_madeAt_0 23 rfl rfl)
theorem dX5_madeAt_24 : decode cX5_madeAt 24 = .ok (.iaload, 1) := dk_46 (dk_at dksX5_madeAt_1 0 rfl rfl)
theorem dX5_madeAt_25 : decode cX5_madeAt 25 = .ok (.goto 4, 3) := dk_167 0 4 (dk_at dksX5_madeAt_1 1 rfl rfl)
theorem dX5_madeAt_28 : decode cX5_madeAt 28 = .ok (.iconst (-1), 1) := dk_2 (dk_at dksX5_madeAt_1 4 rfl rfl)
theorem dX5_madeAt_29 : decode cX5_madeAt 29 = .ok (.ireturn, 1) := dk_172 (dk_at dksX5_madeAt_1 5 rfl rfl)
abbrev cX5_likely : ByteArray := prog_32_method_83_code
def yX5_likely : MethodName := ⟨RX5, "likely", "()I"⟩
def dkwX5_likely_0 : List UInt8 := [42, 3, 181, 0, 1, 42, 180, 0, 80, 158, 0, 10, 42, 180, 1, 133, 167, 0, 4, 2, 172]
abbrev dktX5_likely_0 : List UInt8 := dkwX5_likely_0 ++ []
theorem dksX5_likely_0 : cX5_likely.data.toList.drop 0 = dktX5_likely_0 := by decide +kernel
theorem dX5_likely_0 : decode cX5_likely 0 = .ok (.aload_n 0, 1) := dk_42 (dk_at dksX5_likely_0 0 rfl rfl)
theorem dX5_likely_1 : decode cX5_likely 1 = .ok (.iconst 0, 1) := dk_3 (dk_at dksX5_likely_0 1 rfl rfl)
theorem dX5_likely_2 : decode cX5_likely 2 = .ok (.putfield 1, 3) := dk_181 0 1 (dk_at dksX5_likely_0 2 rfl rfl)
theorem dX5_likely_5 : decode cX5_likely 5 = .ok (.aload_n 0, 1) := dk_42 (dk_at dksX5_likely_0 5 rfl rfl)
theorem dX5_likely_6 : decode cX5_likely 6 = .ok (.getfield 80, 3) := dk_180 0 80 (dk_at dksX5_likely_0 6 rfl rfl)
theorem dX5_likely_9 : decode cX5_likely 9 = .ok (.ifCond .le 10, 3) := dk_158 0 10 (dk_at dksX5_likely_0 9 rfl rfl)
theorem dX5_likely_12 : decode cX5_likely 12 = .ok (.aload_n 0, 1) := dk_42 (dk_at dksX5_likely_0 12 rfl rfl)
theorem dX5_likely_13 : decode cX5_likely 13 = .ok (.getfield 389, 3) := dk_180 1 133 (dk_at dksX5_likely_0 13 rfl rfl)
theorem dX5_likely_16 : decode cX5_likely 16 = .ok (.goto 4, 3) := dk_167 0 4 (dk_at dksX5_likely_0 16 rfl rfl)
theorem dX5_likely_19 : decode cX5_likely 19 = .ok (.iconst (-1), 1) := dk_2 (dk_at dksX5_likely_0 19 rfl rfl)
theorem dX5_likely_20 : decode cX5_likely 20 = .ok (.ireturn, 1) := dk_172 (dk_at dksX5_likely_0 20 rfl rfl)
abbrev cX5_caravan : ByteArray := prog_32_method_85_code
def yX5_caravan : MethodName := ⟨RX5, "caravan", "(I)I"⟩
def dkwX5_caravan_7 : List UInt8 := [54, 4, 167, 255, 154, 42, 28, 181, 0, 89, 29, 172]
abbrev dktX5_caravan_7 : List UInt8 := dkwX5_caravan_7 ++ []
def dkwX5_caravan_6 : List UInt8 := [180, 0, 86, 21, 6, 42, 180, 0, 83, 21, 6, 46, 79, 132, 6, 1, 167, 255, 233, 42, 28, 182, 1, 142]
abbrev dktX5_caravan_6 : List UInt8 := dkwX5_caravan_6 ++ dktX5_caravan_7
def dkwX5_caravan_5 : List UInt8 := [182, 1, 139, 21, 5, 29, 164, 0, 35, 21, 5, 62, 3, 54, 6, 21, 6, 28, 162, 0, 23, 42]
abbrev dktX5_caravan_5 : List UInt8 := dkwX5_caravan_5 ++ dktX5_caravan_6
def dkwX5_caravan_4 : List UInt8 := [42, 180, 0, 83, 21, 5, 46, 27, 182, 1, 74, 132, 5, 1, 167, 255, 220, 42, 182, 1, 62, 54, 5, 42]
abbrev dktX5_caravan_4 : List UInt8 := dkwX5_caravan_4 ++ dktX5_caravan_5
def dkwX5_caravan_3 : List UInt8 := [54, 5, 21, 5, 28, 162, 0, 36, 42, 42, 180, 0, 83, 21, 5, 46, 27, 182, 1, 36, 154, 0, 15, 42]
abbrev dktX5_caravan_3 : List UInt8 := dkwX5_caravan_3 ++ dktX5_caravan_4
def dkwX5_caravan_2 : List UInt8 := [132, 2, 1, 132, 3, 1, 167, 255, 221, 42, 182, 1, 136, 2, 62, 4, 54, 4, 21, 4, 153, 0, 103, 3]
abbrev dktX5_caravan_2 : List UInt8 := dkwX5_caravan_2 ++ dktX5_caravan_3
def dkwX5_caravan_1 : List UInt8 := [5, 46, 162, 0, 31, 42, 29, 27, 182, 1, 36, 158, 0, 6, 167, 0, 13, 42, 180, 0, 83, 28, 29, 79]
abbrev dktX5_caravan_1 : List UInt8 := dkwX5_caravan_1 ++ dktX5_caravan_2
def dkwX5_caravan_0 : List UInt8 := [42, 3, 181, 0, 1, 42, 27, 182, 1, 56, 154, 0, 5, 2, 172, 3, 61, 3, 62, 29, 42, 180, 0, 33]
abbrev dktX5_caravan_0 : List UInt8 := dkwX5_caravan_0 ++ dktX5_caravan_1
theorem dksX5_caravan_0 : cX5_caravan.data.toList.drop 0 = dktX5_caravan_0 := by decide +kernel
theorem dksX5_caravan_1 : cX5_caravan.data.toList.drop 24 = dktX5_caravan_1 := dk_seg dksX5_caravan_0 24 rfl rfl
theorem dksX5_caravan_2 : cX5_caravan.data.toList.drop 48 = dktX5_caravan_2 := dk_seg dksX5_caravan_1 24 rfl rfl
theorem dksX5_caravan_3 : cX5_caravan.data.toList.drop 72 = dktX5_caravan_3 := dk_seg dksX5_caravan_2 24 rfl rfl
theorem dksX5_caravan_4 : cX5_caravan.data.toList.drop 96 = dktX5_caravan_4 := dk_seg dksX5_caravan_3 24 rfl rfl
theorem dksX5_caravan_5 : cX5_caravan.data.toList.drop 120 = dktX5_caravan_5 := dk_seg dksX5_caravan_4 24 rfl rfl
theorem dksX5_caravan_6 : cX5_caravan.data.toList.drop 142 = dktX5_caravan_6 := dk_seg dksX5_caravan_5 22 rfl rfl
theorem dksX5_caravan_7 : cX5_caravan.data.toList.drop 166 = dktX5_caravan_7 := dk_seg dksX5_caravan_6 24 rfl rfl
theorem dX5_caravan_0 : decode cX5_caravan 0 = .ok (.aload_n 0, 1) := dk_42 (dk_at dksX5_caravan_0 0 rfl rfl)
theorem dX5_caravan_1 : decode cX5_caravan 1 = .ok (.iconst 0, 1) := dk_3 (dk_at dksX5_caravan_0 1 rfl rfl)
theorem dX5_caravan_2 : decode cX5_caravan 2 = .ok (.putfield 1, 3) := dk_181 0 1 (dk_at dksX5_caravan_0 2 rfl rfl)
theorem dX5_caravan_5 : decode cX5_caravan 5 = .ok (.aload_n 0, 1) := dk_42 (dk_at dksX5_caravan_0 5 rfl rfl)
theorem dX5_caravan_6 : decode cX5_caravan 6 = .ok (.iload_n 1, 1) := dk_27 (dk_at dksX5_caravan_0 6 rfl rfl)
theorem dX5_caravan_7 : decode cX5_caravan 7 = .ok (.invokevirtual 312, 3) := dk_182 1 56 (dk_at dksX5_caravan_0 7 rfl rfl)
theorem dX5_caravan_10 : decode cX5_caravan 10 = .ok (.ifCond .ne 5, 3) := dk_154 0 5 (dk_at dksX5_caravan_0 10 rfl rfl)
theorem dX5_caravan_13 : decode cX5_caravan 13 = .ok (.iconst (-1), 1) := dk_2 (dk_at dksX5_caravan_0 13 rfl rfl)
theorem dX5_caravan_14 : decode cX5_caravan 14 = .ok (.ireturn, 1) := dk_172 (dk_at dksX5_caravan_0 14 rfl rfl)
theorem dX5_caravan_15 : decode cX5_caravan 15 = .ok (.iconst 0, 1) := dk_3 (dk_at dksX5_caravan_0 15 rfl rfl)
theorem dX5_caravan_16 : decode cX5_caravan 16 = .ok (.istore_n 2, 1) := dk_61 (dk_at dksX5_caravan_0 16 rfl rfl)
theorem dX5_caravan_17 : decode cX5_caravan 17 = .ok (.iconst 0, 1) := dk_3 (dk_at dksX5_caravan_0 17 rfl rfl)
theorem dX5_caravan_18 : decode cX5_caravan 18 = .ok (.istore_n 3, 1) := dk_62 (dk_at dksX5_caravan_0 18 rfl rfl)
theorem dX5_caravan_19 : decode cX5_caravan 19 = .ok (.iload_n 3, 1) := dk_29 (dk_at dksX5_caravan_0 19 rfl rfl)
theorem dX5_caravan_20 : decode cX5_caravan 20 = .ok (.aload_n 0, 1) := dk_42 (dk_at dksX5_caravan_0 20 rfl rfl)
theorem dX5_caravan_21 : decode cX5_caravan 21 = .ok (.getfield 33, 3) := dk_180 0 33 (dk_at dksX5_caravan_0 21 rfl rfl)
theorem dX5_caravan_24 : decode cX5_caravan 24 = .ok (.iconst 2, 1) := dk_5 (dk_at dksX5_caravan_1 0 rfl rfl)
theorem dX5_caravan_25 : decode cX5_caravan 25 = .ok (.iaload, 1) := dk_46 (dk_at dksX5_caravan_1 1 rfl rfl)
theorem dX5_caravan_26 : decode cX5_caravan 26 = .ok (.if_icmp .ge 31, 3) := dk_162 0 31 (dk_at dksX5_caravan_1 2 rfl rfl)
theorem dX5_caravan_29 : decode cX5_caravan 29 = .ok (.aload_n 0, 1) := dk_42 (dk_at dksX5_caravan_1 5 rfl rfl)
theorem dX5_caravan_30 : decode cX5_caravan 30 = .ok (.iload_n 3, 1) := dk_29 (dk_at dksX5_caravan_1 6 rfl rfl)
theorem dX5_caravan_31 : decode cX5_caravan 31 = .ok (.iload_n 1, 1) := dk_27 (dk_at dksX5_caravan_1 7 rfl rfl)
theorem dX5_caravan_32 : decode cX5_caravan 32 = .ok (.invokevirtual 292, 3) := dk_182 1 36 (dk_at dksX5_caravan_1 8 rfl rfl)
theorem dX5_caravan_35 : decode cX5_caravan 35 = .ok (.ifCond .le 6, 3) := dk_158 0 6 (dk_at dksX5_caravan_1 11 rfl rfl)
theorem dX5_caravan_38 : decode cX5_caravan 38 = .ok (.goto 13, 3) := dk_167 0 13 (dk_at dksX5_caravan_1 14 rfl rfl)
theorem dX5_caravan_41 : decode cX5_caravan 41 = .ok (.aload_n 0, 1) := dk_42 (dk_at dksX5_caravan_1 17 rfl rfl)
theorem dX5_caravan_42 : decode cX5_caravan 42 = .ok (.getfield 83, 3) := dk_180 0 83 (dk_at dksX5_caravan_1 18 rfl rfl)
theorem dX5_caravan_45 : decode cX5_caravan 45 = .ok (.iload_n 2, 1) := dk_28 (dk_at dksX5_caravan_1 21 rfl rfl)
theorem dX5_caravan_46 : decode cX5_caravan 46 = .ok (.iload_n 3, 1) := dk_29 (dk_at dksX5_caravan_1 22 rfl rfl)
theorem dX5_caravan_47 : decode cX5_caravan 47 = .ok (.iastore, 1) := dk_79 (dk_at dksX5_caravan_1 23 rfl rfl)
theorem dX5_caravan_48 : decode cX5_caravan 48 = .ok (.iinc 2 1, 3) := dk_132 2 1 (dk_at dksX5_caravan_2 0 rfl rfl)
theorem dX5_caravan_51 : decode cX5_caravan 51 = .ok (.iinc 3 1, 3) := dk_132 3 1 (dk_at dksX5_caravan_2 3 rfl rfl)
theorem dX5_caravan_54 : decode cX5_caravan 54 = .ok (.goto (-35), 3) := dk_167 255 221 (dk_at dksX5_caravan_2 6 rfl rfl)
theorem dX5_caravan_57 : decode cX5_caravan 57 = .ok (.aload_n 0, 1) := dk_42 (dk_at dksX5_caravan_2 9 rfl rfl)
theorem dX5_caravan_58 : decode cX5_caravan 58 = .ok (.invokevirtual 392, 3) := dk_182 1 136 (dk_at dksX5_caravan_2 10 rfl rfl)
theorem dX5_caravan_61 : decode cX5_caravan 61 = .ok (.iconst (-1), 1) := dk_2 (dk_at dksX5_caravan_2 13 rfl rfl)
theorem dX5_caravan_62 : decode cX5_caravan 62 = .ok (.istore_n 3, 1) := dk_62 (dk_at dksX5_caravan_2 14 rfl rfl)
theorem dX5_caravan_63 : decode cX5_caravan 63 = .ok (.iconst 1, 1) := dk_4 (dk_at dksX5_caravan_2 15 rfl rfl)
theorem dX5_caravan_64 : decode cX5_caravan 64 = .ok (.istore 4, 2) := dk_54 4 (dk_at dksX5_caravan_2 16 rfl rfl)
theorem dX5_caravan_66 : decode cX5_caravan 66 = .ok (.iload 4, 2) := dk_21 4 (dk_at dksX5_caravan_2 18 rfl rfl)
theorem dX5_caravan_68 : decode cX5_caravan 68 = .ok (.ifCond .eq 103, 3) := dk_153 0 103 (dk_at dksX5_caravan_2 20 rfl rfl)
theorem dX5_caravan_71 : decode cX5_caravan 71 = .ok (.iconst 0, 1) := dk_3 (dk_at dksX5_caravan_2 23 rfl rfl)
theorem dX5_caravan_72 : decode cX5_caravan 72 = .ok (.istore 5, 2) := dk_54 5 (dk_at dksX5_caravan_3 0 rfl rfl)
theorem dX5_caravan_74 : decode cX5_caravan 74 = .ok (.iload 5, 2) := dk_21 5 (dk_at dksX5_caravan_3 2 rfl rfl)
theorem dX5_caravan_76 : decode cX5_caravan 76 = .ok (.iload_n 2, 1) := dk_28 (dk_at dksX5_caravan_3 4 rfl rfl)
theorem dX5_caravan_77 : decode cX5_caravan 77 = .ok (.if_icmp .ge 36, 3) := dk_162 0 36 (dk_at dksX5_caravan_3 5 rfl rfl)
theorem dX5_caravan_80 : decode cX5_caravan 80 = .ok (.aload_n 0, 1) := dk_42 (dk_at dksX5_caravan_3 8 rfl rfl)
theorem dX5_caravan_81 : decode cX5_caravan 81 = .ok (.aload_n 0, 1) := dk_42 (dk_at dksX5_caravan_3 9 rfl rfl)
theorem dX5_caravan_82 : decode cX5_caravan 82 = .ok (.getfield 83, 3) := dk_180 0 83 (dk_at dksX5_caravan_3 10 rfl rfl)
theorem dX5_caravan_85 : decode cX5_caravan 85 = .ok (.iload 5, 2) := dk_21 5 (dk_at dksX5_caravan_3 13 rfl rfl)
theorem dX5_caravan_87 : decode cX5_caravan 87 = .ok (.iaload, 1) := dk_46 (dk_at dksX5_caravan_3 15 rfl rfl)
theorem dX5_caravan_88 : decode cX5_caravan 88 = .ok (.iload_n 1, 1) := dk_27 (dk_at dksX5_caravan_3 16 rfl rfl)
theorem dX5_caravan_89 : decode cX5_caravan 89 = .ok (.invokevirtual 292, 3) := dk_182 1 36 (dk_at dksX5_caravan_3 17 rfl rfl)
theorem dX5_caravan_92 : decode cX5_caravan 92 = .ok (.ifCond .ne 15, 3) := dk_154 0 15 (dk_at dksX5_caravan_3 20 rfl rfl)
theorem dX5_caravan_95 : decode cX5_caravan 95 = .ok (.aload_n 0, 1) := dk_42 (dk_at dksX5_caravan_3 23 rfl rfl)
theorem dX5_caravan_96 : decode cX5_caravan 96 = .ok (.aload_n 0, 1) := dk_42 (dk_at dksX5_caravan_4 0 rfl rfl)
theorem dX5_caravan_97 : decode cX5_caravan 97 = .ok (.getfield 83, 3) := dk_180 0 83 (dk_at dksX5_caravan_4 1 rfl rfl)
theorem dX5_caravan_100 : decode cX5_caravan 100 = .ok (.iload 5, 2) := dk_21 5 (dk_at dksX5_caravan_4 4 rfl rfl)
theorem dX5_caravan_102 : decode cX5_caravan 102 = .ok (.iaload, 1) := dk_46 (dk_at dksX5_caravan_4 6 rfl rfl)
theorem dX5_caravan_103 : decode cX5_caravan 103 = .ok (.iload_n 1, 1) := dk_27 (dk_at dksX5_caravan_4 7 rfl rfl)
theorem dX5_caravan_104 : decode cX5_caravan 104 = .ok (.invokevirtual 330, 3) := dk_182 1 74 (dk_at dksX5_caravan_4 8 rfl rfl)
theorem dX5_caravan_107 : decode cX5_caravan 107 = .ok (.iinc 5 1, 3) := dk_132 5 1 (dk_at dksX5_caravan_4 11 rfl rfl)
theorem dX5_caravan_110 : decode cX5_caravan 110 = .ok (.goto (-36), 3) := dk_167 255 220 (dk_at dksX5_caravan_4 14 rfl rfl)
theorem dX5_caravan_113 : decode cX5_caravan 113 = .ok (.aload_n 0, 1) := dk_42 (dk_at dksX5_caravan_4 17 rfl rfl)
theorem dX5_caravan_114 : decode cX5_caravan 114 = .ok (.invokevirtual 318, 3) := dk_182 1 62 (dk_at dksX5_caravan_4 18 rfl rfl)
theorem dX5_caravan_117 : decode cX5_caravan 117 = .ok (.istore 5, 2) := dk_54 5 (dk_at dksX5_caravan_4 21 rfl rfl)
theorem dX5_caravan_119 : decode cX5_caravan 119 = .ok (.aload_n 0, 1) := dk_42 (dk_at dksX5_caravan_4 23 rfl rfl)
theorem dX5_caravan_120 : decode cX5_caravan 120 = .ok (.invokevirtual 395, 3) := dk_182 1 139 (dk_at dksX5_caravan_5 0 rfl rfl)
theorem dX5_caravan_123 : decode cX5_caravan 123 = .ok (.iload 5, 2) := dk_21 5 (dk_at dksX5_caravan_5 3 rfl rfl)
theorem dX5_caravan_125 : decode cX5_caravan 125 = .ok (.iload_n 3, 1) := dk_29 (dk_at dksX5_caravan_5 5 rfl rfl)
theorem dX5_caravan_126 : decode cX5_caravan 126 = .ok (.if_icmp .le 35, 3) := dk_164 0 35 (dk_at dksX5_caravan_5 6 rfl rfl)
theorem dX5_caravan_129 : decode cX5_caravan 129 = .ok (.iload 5, 2) := dk_21 5 (dk_at dksX5_caravan_5 9 rfl rfl)
theorem dX5_caravan_131 : decode cX5_caravan 131 = .ok (.istore_n 3, 1) := dk_62 (dk_at dksX5_caravan_5 11 rfl rfl)
theorem dX5_caravan_132 : decode cX5_caravan 132 = .ok (.iconst 0, 1) := dk_3 (dk_at dksX5_caravan_5 12 rfl rfl)
theorem dX5_caravan_133 : decode cX5_caravan 133 = .ok (.istore 6, 2) := dk_54 6 (dk_at dksX5_caravan_5 13 rfl rfl)
theorem dX5_caravan_135 : decode cX5_caravan 135 = .ok (.iload 6, 2) := dk_21 6 (dk_at dksX5_caravan_5 15 rfl rfl)
theorem dX5_caravan_137 : decode cX5_caravan 137 = .ok (.iload_n 2, 1) := dk_28 (dk_at dksX5_caravan_5 17 rfl rfl)
theorem dX5_caravan_138 : decode cX5_caravan 138 = .ok (.if_icmp .ge 23, 3) := dk_162 0 23 (dk_at dksX5_caravan_5 18 rfl rfl)
theorem dX5_caravan_141 : decode cX5_caravan 141 = .ok (.aload_n 0, 1) := dk_42 (dk_at dksX5_caravan_5 21 rfl rfl)
theorem dX5_caravan_142 : decode cX5_caravan 142 = .ok (.getfield 86, 3) := dk_180 0 86 (dk_at dksX5_caravan_6 0 rfl rfl)
theorem dX5_caravan_145 : decode cX5_caravan 145 = .ok (.iload 6, 2) := dk_21 6 (dk_at dksX5_caravan_6 3 rfl rfl)
theorem dX5_caravan_147 : decode cX5_caravan 147 = .ok (.aload_n 0, 1) := dk_42 (dk_at dksX5_caravan_6 5 rfl rfl)
theorem dX5_caravan_148 : decode cX5_caravan 148 = .ok (.getfield 83, 3) := dk_180 0 83 (dk_at dksX5_caravan_6 6 rfl rfl)
theorem dX5_caravan_151 : decode cX5_caravan 151 = .ok (.iload 6, 2) := dk_21 6 (dk_at dksX5_caravan_6 9 rfl rfl)
theorem dX5_caravan_153 : decode cX5_caravan 153 = .ok (.iaload, 1) := dk_46 (dk_at dksX5_caravan_6 11 rfl rfl)
theorem dX5_caravan_154 : decode cX5_caravan 154 = .ok (.iastore, 1) := dk_79 (dk_at dksX5_caravan_6 12 rfl rfl)
theorem dX5_caravan_155 : decode cX5_caravan 155 = .ok (.iinc 6 1, 3) := dk_132 6 1 (dk_at dksX5_caravan_6 13 rfl rfl)
theorem dX5_caravan_158 : decode cX5_caravan 158 = .ok (.goto (-23), 3) := dk_167 255 233 (dk_at dksX5_caravan_6 16 rfl rfl)
theorem dX5_caravan_161 : decode cX5_caravan 161 = .ok (.aload_n 0, 1) := dk_42 (dk_at dksX5_caravan_6 19 rfl rfl)
theorem dX5_caravan_162 : decode cX5_caravan 162 = .ok (.iload_n 2, 1) := dk_28 (dk_at dksX5_caravan_6 20 rfl rfl)
theorem dX5_caravan_163 : decode cX5_caravan 163 = .ok (.invokevirtual 398, 3) := dk_182 1 142 (dk_at dksX5_caravan_6 21 rfl rfl)
theorem dX5_caravan_166 : decode cX5_caravan 166 = .ok (.istore 4, 2) := dk_54 4 (dk_at dksX5_caravan_7 0 rfl rfl)
theorem dX5_caravan_168 : decode cX5_caravan 168 = .ok (.goto (-102), 3) := dk_167 255 154 (dk_at dksX5_caravan_7 2 rfl rfl)
theorem dX5_caravan_171 : decode cX5_caravan 171 = .ok (.aload_n 0, 1) := dk_42 (dk_at dksX5_caravan_7 5 rfl rfl)
theorem dX5_caravan_172 : decode cX5_caravan 172 = .ok (.iload_n 2, 1) := dk_28 (dk_at dksX5_caravan_7 6 rfl rfl)
theorem dX5_caravan_173 : decode cX5_caravan 173 = .ok (.putfield 89, 3) := dk_181 0 89 (dk_at dksX5_caravan_7 7 rfl rfl)
theorem dX5_caravan_176 : decode cX5_caravan 176 = .ok (.iload_n 3, 1) := dk_29 (dk_at dksX5_caravan_7 10 rfl rfl)
theorem dX5_caravan_177 : decode cX5_caravan 177 = .ok (.ireturn, 1) := dk_172 (dk_at dksX5_caravan_7 11 rfl rfl)
abbrev cX5_tries : ByteArray := prog_32_method_70_code
def yX5_tries : MethodName := ⟨RX5, "tries", "()V"⟩
def dkwX5_tries_1 : List UInt8 := [132, 1, 1, 167, 255, 232, 177]
abbrev dktX5_tries_1 : List UInt8 := dkwX5_tries_1 ++ []
def dkwX5_tries_0 : List UInt8 := [3, 60, 27, 16, 47, 162, 0, 24, 42, 180, 0, 53, 27, 42, 180, 0, 33, 16, 91, 27, 96, 46, 79]
abbrev dktX5_tries_0 : List UInt8 := dkwX5_tries_0 ++ dktX5_tries_1
theorem dksX5_tries_0 : cX5_tries.data.toList.drop 0 = dktX5_tries_0 := by decide +kernel
theorem dksX5_tries_1 : cX5_tries.data.toList.drop 23 = dktX5_tries_1 := dk_seg dksX5_tries_0 23 rfl rfl
theorem dX5_tries_0 : decode cX5_tries 0 = .ok (.iconst 0, 1) := dk_3 (dk_at dksX5_tries_0 0 rfl rfl)
theorem dX5_tries_1 : decode cX5_tries 1 = .ok (.istore_n 1, 1) := dk_60 (dk_at dksX5_tries_0 1 rfl rfl)
theorem dX5_tries_2 : decode cX5_tries 2 = .ok (.iload_n 1, 1) := dk_27 (dk_at dksX5_tries_0 2 rfl rfl)
theorem dX5_tries_3 : decode cX5_tries 3 = .ok (.bipush 47, 2) := dk_16 47 (dk_at dksX5_tries_0 3 rfl rfl)
theorem dX5_tries_5 : decode cX5_tries 5 = .ok (.if_icmp .ge 24, 3) := dk_162 0 24 (dk_at dksX5_tries_0 5 rfl rfl)
theorem dX5_tries_8 : decode cX5_tries 8 = .ok (.aload_n 0, 1) := dk_42 (dk_at dksX5_tries_0 8 rfl rfl)
theorem dX5_tries_9 : decode cX5_tries 9 = .ok (.getfield 53, 3) := dk_180 0 53 (dk_at dksX5_tries_0 9 rfl rfl)
theorem dX5_tries_12 : decode cX5_tries 12 = .ok (.iload_n 1, 1) := dk_27 (dk_at dksX5_tries_0 12 rfl rfl)
theorem dX5_tries_13 : decode cX5_tries 13 = .ok (.aload_n 0, 1) := dk_42 (dk_at dksX5_tries_0 13 rfl rfl)
theorem dX5_tries_14 : decode cX5_tries 14 = .ok (.getfield 33, 3) := dk_180 0 33 (dk_at dksX5_tries_0 14 rfl rfl)
theorem dX5_tries_17 : decode cX5_tries 17 = .ok (.bipush 91, 2) := dk_16 91 (dk_at dksX5_tries_0 17 rfl rfl)
theorem dX5_tries_19 : decode cX5_tries 19 = .ok (.iload_n 1, 1) := dk_27 (dk_at dksX5_tries_0 19 rfl rfl)
theorem dX5_tries_20 : decode cX5_tries 20 = .ok (.iadd, 1) := dk_96 (dk_at dksX5_tries_0 20 rfl rfl)
theorem dX5_tries_21 : decode cX5_tries 21 = .ok (.iaload, 1) := dk_46 (dk_at dksX5_tries_0 21 rfl rfl)
theorem dX5_tries_22 : decode cX5_tries 22 = .ok (.iastore, 1) := dk_79 (dk_at dksX5_tries_0 22 rfl rfl)
theorem dX5_tries_23 : decode cX5_tries 23 = .ok (.iinc 1 1, 3) := dk_132 1 1 (dk_at dksX5_tries_1 0 rfl rfl)
theorem dX5_tries_26 : decode cX5_tries 26 = .ok (.goto (-24), 3) := dk_167 255 232 (dk_at dksX5_tries_1 3 rfl rfl)
theorem dX5_tries_29 : decode cX5_tries 29 = .ok (.return_, 1) := dk_177 (dk_at dksX5_tries_1 6 rfl rfl)
abbrev cX5_back : ByteArray := prog_32_method_71_code
def yX5_back : MethodName := ⟨RX5, "back", "()V"⟩
def dkwX5_back_1 : List UInt8 := [132, 1, 1, 167, 255, 232, 177]
abbrev dktX5_back_1 : List UInt8 := dkwX5_back_1 ++ []
def dkwX5_back_0 : List UInt8 := [3, 60, 27, 16, 47, 162, 0, 24, 42, 180, 0, 33, 16, 91, 27, 96, 42, 180, 0, 53, 27, 46, 79]
abbrev dktX5_back_0 : List UInt8 := dkwX5_back_0 ++ dktX5_back_1
theorem dksX5_back_0 : cX5_back.data.toList.drop 0 = dktX5_back_0 := by decide +kernel
theorem dksX5_back_1 : cX5_back.data.toList.drop 23 = dktX5_back_1 := dk_seg dksX5_back_0 23 rfl rfl
theorem dX5_back_0 : decode cX5_back 0 = .ok (.iconst 0, 1) := dk_3 (dk_at dksX5_back_0 0 rfl rfl)
theorem dX5_back_1 : decode cX5_back 1 = .ok (.istore_n 1, 1) := dk_60 (dk_at dksX5_back_0 1 rfl rfl)
theorem dX5_back_2 : decode cX5_back 2 = .ok (.iload_n 1, 1) := dk_27 (dk_at dksX5_back_0 2 rfl rfl)
theorem dX5_back_3 : decode cX5_back 3 = .ok (.bipush 47, 2) := dk_16 47 (dk_at dksX5_back_0 3 rfl rfl)
theorem dX5_back_5 : decode cX5_back 5 = .ok (.if_icmp .ge 24, 3) := dk_162 0 24 (dk_at dksX5_back_0 5 rfl rfl)
theorem dX5_back_8 : decode cX5_back 8 = .ok (.aload_n 0, 1) := dk_42 (dk_at dksX5_back_0 8 rfl rfl)
theorem dX5_back_9 : decode cX5_back 9 = .ok (.getfield 33, 3) := dk_180 0 33 (dk_at dksX5_back_0 9 rfl rfl)
theorem dX5_back_12 : decode cX5_back 12 = .ok (.bipush 91, 2) := dk_16 91 (dk_at dksX5_back_0 12 rfl rfl)
theorem dX5_back_14 : decode cX5_back 14 = .ok (.iload_n 1, 1) := dk_27 (dk_at dksX5_back_0 14 rfl rfl)
theorem dX5_back_15 : decode cX5_back 15 = .ok (.iadd, 1) := dk_96 (dk_at dksX5_back_0 15 rfl rfl)
theorem dX5_back_16 : decode cX5_back 16 = .ok (.aload_n 0, 1) := dk_42 (dk_at dksX5_back_0 16 rfl rfl)
theorem dX5_back_17 : decode cX5_back 17 = .ok (.getfield 53, 3) := dk_180 0 53 (dk_at dksX5_back_0 17 rfl rfl)
theorem dX5_back_20 : decode cX5_back 20 = .ok (.iload_n 1, 1) := dk_27 (dk_at dksX5_back_0 20 rfl rfl)
theorem dX5_back_21 : decode cX5_back 21 = .ok (.iaload, 1) := dk_46 (dk_at dksX5_back_0 21 rfl rfl)
theorem dX5_back_22 : decode cX5_back 22 = .ok (.iastore, 1) := dk_79 (dk_at dksX5_back_0 22 rfl rfl)
theorem dX5_back_23 : decode cX5_back 23 = .ok (.iinc 1 1, 3) := dk_132 1 1 (dk_at dksX5_back_1 0 rfl rfl)
theorem dX5_back_26 : decode cX5_back 26 = .ok (.goto (-24), 3) := dk_167 255 232 (dk_at dksX5_back_1 3 rfl rfl)
theorem dX5_back_29 : decode cX5_back 29 = .ok (.return_, 1) := dk_177 (dk_at dksX5_back_1 6 rfl rfl)
abbrev cX5_reorders : ByteArray := prog_32_method_84_code
def yX5_reorders : MethodName := ⟨RX5, "reorders", "(I)Z"⟩
def dkwX5_reorders_6 : List UInt8 := [132, 5, 1, 132, 6, 255, 167, 255, 211, 4, 172]
abbrev dktX5_reorders_6 : List UInt8 := dkwX5_reorders_6 ++ []
def dkwX5_reorders_5 : List UInt8 := [180, 0, 83, 21, 5, 42, 180, 0, 83, 21, 6, 46, 79, 42, 180, 0, 83, 21, 6, 21, 4, 79]
abbrev dktX5_reorders_5 : List UInt8 := dkwX5_reorders_5 ++ dktX5_reorders_6
def dkwX5_reorders_4 : List UInt8 := [54, 5, 27, 4, 100, 54, 6, 21, 5, 21, 6, 162, 0, 44, 42, 180, 0, 83, 21, 5, 46, 54, 4, 42]
abbrev dktX5_reorders_4 : List UInt8 := dkwX5_reorders_4 ++ dktX5_reorders_5
def dkwX5_reorders_3 : List UInt8 := [42, 180, 0, 83, 28, 42, 180, 0, 83, 29, 46, 79, 42, 180, 0, 83, 29, 21, 4, 79, 28, 4, 96]
abbrev dktX5_reorders_3 : List UInt8 := dkwX5_reorders_3 ++ dktX5_reorders_4
def dkwX5_reorders_2 : List UInt8 := [46, 42, 180, 0, 83, 28, 46, 162, 0, 9, 132, 3, 255, 167, 255, 238, 42, 180, 0, 83, 28, 46, 54, 4]
abbrev dktX5_reorders_2 : List UInt8 := dkwX5_reorders_2 ++ dktX5_reorders_3
def dkwX5_reorders_1 : List UInt8 := [164, 0, 9, 132, 2, 255, 167, 255, 232, 28, 156, 0, 5, 3, 172, 27, 4, 100, 62, 42, 180, 0, 83, 29]
abbrev dktX5_reorders_1 : List UInt8 := dkwX5_reorders_1 ++ dktX5_reorders_2
def dkwX5_reorders_0 : List UInt8 := [27, 5, 100, 61, 28, 155, 0, 26, 42, 180, 0, 83, 28, 46, 42, 180, 0, 83, 28, 4, 96, 46]
abbrev dktX5_reorders_0 : List UInt8 := dkwX5_reorders_0 ++ dktX5_reorders_1
theorem dksX5_reorders_0 : cX5_reorders.data.toList.drop 0 = dktX5_reorders_0 := by decide +kernel
theorem dksX5_reorders_1 : cX5_reorders.data.toList.drop 22 = dktX5_reorders_1 := dk_seg dksX5_reorders_0 22 rfl rfl
theorem dksX5_reorders_2 : cX5_reorders.data.toList.drop 46 = dktX5_reorders_2 := dk_seg dksX5_reorders_1 24 rfl rfl
theorem dksX5_reorders_3 : cX5_reorders.data.toList.drop 70 = dktX5_reorders_3 := dk_seg dksX5_reorders_2 24 rfl rfl
theorem dksX5_reorders_4 : cX5_reorders.data.toList.drop 93 = dktX5_reorders_4 := dk_seg dksX5_reorders_3 23 rfl rfl
theorem dksX5_reorders_5 : cX5_reorders.data.toList.drop 117 = dktX5_reorders_5 := dk_seg dksX5_reorders_4 24 rfl rfl
theorem dksX5_reorders_6 : cX5_reorders.data.toList.drop 139 = dktX5_reorders_6 := dk_seg dksX5_reorders_5 22 rfl rfl
theorem dX5_reorders_0 : decode cX5_reorders 0 = .ok (.iload_n 1, 1) := dk_27 (dk_at dksX5_reorders_0 0 rfl rfl)
theorem dX5_reorders_1 : decode cX5_reorders 1 = .ok (.iconst 2, 1) := dk_5 (dk_at dksX5_reorders_0 1 rfl rfl)
theorem dX5_reorders_2 : decode cX5_reorders 2 = .ok (.isub, 1) := dk_100 (dk_at dksX5_reorders_0 2 rfl rfl)
theorem dX5_reorders_3 : decode cX5_reorders 3 = .ok (.istore_n 2, 1) := dk_61 (dk_at dksX5_reorders_0 3 rfl rfl)
theorem dX5_reorders_4 : decode cX5_reorders 4 = .ok (.iload_n 2, 1) := dk_28 (dk_at dksX5_reorders_0 4 rfl rfl)
theorem dX5_reorders_5 : decode cX5_reorders 5 = .ok (.ifCond .lt 26, 3) := dk_155 0 26 (dk_at dksX5_reorders_0 5 rfl rfl)
theorem dX5_reorders_8 : decode cX5_reorders 8 = .ok (.aload_n 0, 1) := dk_42 (dk_at dksX5_reorders_0 8 rfl rfl)
theorem dX5_reorders_9 : decode cX5_reorders 9 = .ok (.getfield 83, 3) := dk_180 0 83 (dk_at dksX5_reorders_0 9 rfl rfl)
theorem dX5_reorders_12 : decode cX5_reorders 12 = .ok (.iload_n 2, 1) := dk_28 (dk_at dksX5_reorders_0 12 rfl rfl)
theorem dX5_reorders_13 : decode cX5_reorders 13 = .ok (.iaload, 1) := dk_46 (dk_at dksX5_reorders_0 13 rfl rfl)
theorem dX5_reorders_14 : decode cX5_reorders 14 = .ok (.aload_n 0, 1) := dk_42 (dk_at dksX5_reorders_0 14 rfl rfl)
theorem dX5_reorders_15 : decode cX5_reorders 15 = .ok (.getfield 83, 3) := dk_180 0 83 (dk_at dksX5_reorders_0 15 rfl rfl)
theorem dX5_reorders_18 : decode cX5_reorders 18 = .ok (.iload_n 2, 1) := dk_28 (dk_at dksX5_reorders_0 18 rfl rfl)
theorem dX5_reorders_19 : decode cX5_reorders 19 = .ok (.iconst 1, 1) := dk_4 (dk_at dksX5_reorders_0 19 rfl rfl)
theorem dX5_reorders_20 : decode cX5_reorders 20 = .ok (.iadd, 1) := dk_96 (dk_at dksX5_reorders_0 20 rfl rfl)
theorem dX5_reorders_21 : decode cX5_reorders 21 = .ok (.iaload, 1) := dk_46 (dk_at dksX5_reorders_0 21 rfl rfl)
theorem dX5_reorders_22 : decode cX5_reorders 22 = .ok (.if_icmp .le 9, 3) := dk_164 0 9 (dk_at dksX5_reorders_1 0 rfl rfl)
theorem dX5_reorders_25 : decode cX5_reorders 25 = .ok (.iinc 2 (-1), 3) := dk_132 2 255 (dk_at dksX5_reorders_1 3 rfl rfl)
theorem dX5_reorders_28 : decode cX5_reorders 28 = .ok (.goto (-24), 3) := dk_167 255 232 (dk_at dksX5_reorders_1 6 rfl rfl)
theorem dX5_reorders_31 : decode cX5_reorders 31 = .ok (.iload_n 2, 1) := dk_28 (dk_at dksX5_reorders_1 9 rfl rfl)
theorem dX5_reorders_32 : decode cX5_reorders 32 = .ok (.ifCond .ge 5, 3) := dk_156 0 5 (dk_at dksX5_reorders_1 10 rfl rfl)
theorem dX5_reorders_35 : decode cX5_reorders 35 = .ok (.iconst 0, 1) := dk_3 (dk_at dksX5_reorders_1 13 rfl rfl)
theorem dX5_reorders_36 : decode cX5_reorders 36 = .ok (.ireturn, 1) := dk_172 (dk_at dksX5_reorders_1 14 rfl rfl)
theorem dX5_reorders_37 : decode cX5_reorders 37 = .ok (.iload_n 1, 1) := dk_27 (dk_at dksX5_reorders_1 15 rfl rfl)
theorem dX5_reorders_38 : decode cX5_reorders 38 = .ok (.iconst 1, 1) := dk_4 (dk_at dksX5_reorders_1 16 rfl rfl)
theorem dX5_reorders_39 : decode cX5_reorders 39 = .ok (.isub, 1) := dk_100 (dk_at dksX5_reorders_1 17 rfl rfl)
theorem dX5_reorders_40 : decode cX5_reorders 40 = .ok (.istore_n 3, 1) := dk_62 (dk_at dksX5_reorders_1 18 rfl rfl)
theorem dX5_reorders_41 : decode cX5_reorders 41 = .ok (.aload_n 0, 1) := dk_42 (dk_at dksX5_reorders_1 19 rfl rfl)
theorem dX5_reorders_42 : decode cX5_reorders 42 = .ok (.getfield 83, 3) := dk_180 0 83 (dk_at dksX5_reorders_1 20 rfl rfl)
theorem dX5_reorders_45 : decode cX5_reorders 45 = .ok (.iload_n 3, 1) := dk_29 (dk_at dksX5_reorders_1 23 rfl rfl)
theorem dX5_reorders_46 : decode cX5_reorders 46 = .ok (.iaload, 1) := dk_46 (dk_at dksX5_reorders_2 0 rfl rfl)
theorem dX5_reorders_47 : decode cX5_reorders 47 = .ok (.aload_n 0, 1) := dk_42 (dk_at dksX5_reorders_2 1 rfl rfl)
theorem dX5_reorders_48 : decode cX5_reorders 48 = .ok (.getfield 83, 3) := dk_180 0 83 (dk_at dksX5_reorders_2 2 rfl rfl)
theorem dX5_reorders_51 : decode cX5_reorders 51 = .ok (.iload_n 2, 1) := dk_28 (dk_at dksX5_reorders_2 5 rfl rfl)
theorem dX5_reorders_52 : decode cX5_reorders 52 = .ok (.iaload, 1) := dk_46 (dk_at dksX5_reorders_2 6 rfl rfl)
theorem dX5_reorders_53 : decode cX5_reorders 53 = .ok (.if_icmp .ge 9, 3) := dk_162 0 9 (dk_at dksX5_reorders_2 7 rfl rfl)
theorem dX5_reorders_56 : decode cX5_reorders 56 = .ok (.iinc 3 (-1), 3) := dk_132 3 255 (dk_at dksX5_reorders_2 10 rfl rfl)
theorem dX5_reorders_59 : decode cX5_reorders 59 = .ok (.goto (-18), 3) := dk_167 255 238 (dk_at dksX5_reorders_2 13 rfl rfl)
theorem dX5_reorders_62 : decode cX5_reorders 62 = .ok (.aload_n 0, 1) := dk_42 (dk_at dksX5_reorders_2 16 rfl rfl)
theorem dX5_reorders_63 : decode cX5_reorders 63 = .ok (.getfield 83, 3) := dk_180 0 83 (dk_at dksX5_reorders_2 17 rfl rfl)
theorem dX5_reorders_66 : decode cX5_reorders 66 = .ok (.iload_n 2, 1) := dk_28 (dk_at dksX5_reorders_2 20 rfl rfl)
theorem dX5_reorders_67 : decode cX5_reorders 67 = .ok (.iaload, 1) := dk_46 (dk_at dksX5_reorders_2 21 rfl rfl)
theorem dX5_reorders_68 : decode cX5_reorders 68 = .ok (.istore 4, 2) := dk_54 4 (dk_at dksX5_reorders_2 22 rfl rfl)
theorem dX5_reorders_70 : decode cX5_reorders 70 = .ok (.aload_n 0, 1) := dk_42 (dk_at dksX5_reorders_3 0 rfl rfl)
theorem dX5_reorders_71 : decode cX5_reorders 71 = .ok (.getfield 83, 3) := dk_180 0 83 (dk_at dksX5_reorders_3 1 rfl rfl)
theorem dX5_reorders_74 : decode cX5_reorders 74 = .ok (.iload_n 2, 1) := dk_28 (dk_at dksX5_reorders_3 4 rfl rfl)
theorem dX5_reorders_75 : decode cX5_reorders 75 = .ok (.aload_n 0, 1) := dk_42 (dk_at dksX5_reorders_3 5 rfl rfl)
theorem dX5_reorders_76 : decode cX5_reorders 76 = .ok (.getfield 83, 3) := dk_180 0 83 (dk_at dksX5_reorders_3 6 rfl rfl)
theorem dX5_reorders_79 : decode cX5_reorders 79 = .ok (.iload_n 3, 1) := dk_29 (dk_at dksX5_reorders_3 9 rfl rfl)
theorem dX5_reorders_80 : decode cX5_reorders 80 = .ok (.iaload, 1) := dk_46 (dk_at dksX5_reorders_3 10 rfl rfl)
theorem dX5_reorders_81 : decode cX5_reorders 81 = .ok (.iastore, 1) := dk_79 (dk_at dksX5_reorders_3 11 rfl rfl)
theorem dX5_reorders_82 : decode cX5_reorders 82 = .ok (.aload_n 0, 1) := dk_42 (dk_at dksX5_reorders_3 12 rfl rfl)
theorem dX5_reorders_83 : decode cX5_reorders 83 = .ok (.getfield 83, 3) := dk_180 0 83 (dk_at dksX5_reorders_3 13 rfl rfl)
theorem dX5_reorders_86 : decode cX5_reorders 86 = .ok (.iload_n 3, 1) := dk_29 (dk_at dksX5_reorders_3 16 rfl rfl)
theorem dX5_reorders_87 : decode cX5_reorders 87 = .ok (.iload 4, 2) := dk_21 4 (dk_at dksX5_reorders_3 17 rfl rfl)
theorem dX5_reorders_89 : decode cX5_reorders 89 = .ok (.iastore, 1) := dk_79 (dk_at dksX5_reorders_3 19 rfl rfl)
theorem dX5_reorders_90 : decode cX5_reorders 90 = .ok (.iload_n 2, 1) := dk_28 (dk_at dksX5_reorders_3 20 rfl rfl)
theorem dX5_reorders_91 : decode cX5_reorders 91 = .ok (.iconst 1, 1) := dk_4 (dk_at dksX5_reorders_3 21 rfl rfl)
theorem dX5_reorders_92 : decode cX5_reorders 92 = .ok (.iadd, 1) := dk_96 (dk_at dksX5_reorders_3 22 rfl rfl)
theorem dX5_reorders_93 : decode cX5_reorders 93 = .ok (.istore 5, 2) := dk_54 5 (dk_at dksX5_reorders_4 0 rfl rfl)
theorem dX5_reorders_95 : decode cX5_reorders 95 = .ok (.iload_n 1, 1) := dk_27 (dk_at dksX5_reorders_4 2 rfl rfl)
theorem dX5_reorders_96 : decode cX5_reorders 96 = .ok (.iconst 1, 1) := dk_4 (dk_at dksX5_reorders_4 3 rfl rfl)
theorem dX5_reorders_97 : decode cX5_reorders 97 = .ok (.isub, 1) := dk_100 (dk_at dksX5_reorders_4 4 rfl rfl)
theorem dX5_reorders_98 : decode cX5_reorders 98 = .ok (.istore 6, 2) := dk_54 6 (dk_at dksX5_reorders_4 5 rfl rfl)
theorem dX5_reorders_100 : decode cX5_reorders 100 = .ok (.iload 5, 2) := dk_21 5 (dk_at dksX5_reorders_4 7 rfl rfl)
theorem dX5_reorders_102 : decode cX5_reorders 102 = .ok (.iload 6, 2) := dk_21 6 (dk_at dksX5_reorders_4 9 rfl rfl)
theorem dX5_reorders_104 : decode cX5_reorders 104 = .ok (.if_icmp .ge 44, 3) := dk_162 0 44 (dk_at dksX5_reorders_4 11 rfl rfl)
theorem dX5_reorders_107 : decode cX5_reorders 107 = .ok (.aload_n 0, 1) := dk_42 (dk_at dksX5_reorders_4 14 rfl rfl)
theorem dX5_reorders_108 : decode cX5_reorders 108 = .ok (.getfield 83, 3) := dk_180 0 83 (dk_at dksX5_reorders_4 15 rfl rfl)
theorem dX5_reorders_111 : decode cX5_reorders 111 = .ok (.iload 5, 2) := dk_21 5 (dk_at dksX5_reorders_4 18 rfl rfl)
theorem dX5_reorders_113 : decode cX5_reorders 113 = .ok (.iaload, 1) := dk_46 (dk_at dksX5_reorders_4 20 rfl rfl)
theorem dX5_reorders_114 : decode cX5_reorders 114 = .ok (.istore 4, 2) := dk_54 4 (dk_at dksX5_reorders_4 21 rfl rfl)
theorem dX5_reorders_116 : decode cX5_reorders 116 = .ok (.aload_n 0, 1) := dk_42 (dk_at dksX5_reorders_4 23 rfl rfl)
theorem dX5_reorders_117 : decode cX5_reorders 117 = .ok (.getfield 83, 3) := dk_180 0 83 (dk_at dksX5_reorders_5 0 rfl rfl)
theorem dX5_reorders_120 : decode cX5_reorders 120 = .ok (.iload 5, 2) := dk_21 5 (dk_at dksX5_reorders_5 3 rfl rfl)
theorem dX5_reorders_122 : decode cX5_reorders 122 = .ok (.aload_n 0, 1) := dk_42 (dk_at dksX5_reorders_5 5 rfl rfl)
theorem dX5_reorders_123 : decode cX5_reorders 123 = .ok (.getfield 83, 3) := dk_180 0 83 (dk_at dksX5_reorders_5 6 rfl rfl)
theorem dX5_reorders_126 : decode cX5_reorders 126 = .ok (.iload 6, 2) := dk_21 6 (dk_at dksX5_reorders_5 9 rfl rfl)
theorem dX5_reorders_128 : decode cX5_reorders 128 = .ok (.iaload, 1) := dk_46 (dk_at dksX5_reorders_5 11 rfl rfl)
theorem dX5_reorders_129 : decode cX5_reorders 129 = .ok (.iastore, 1) := dk_79 (dk_at dksX5_reorders_5 12 rfl rfl)
theorem dX5_reorders_130 : decode cX5_reorders 130 = .ok (.aload_n 0, 1) := dk_42 (dk_at dksX5_reorders_5 13 rfl rfl)
theorem dX5_reorders_131 : decode cX5_reorders 131 = .ok (.getfield 83, 3) := dk_180 0 83 (dk_at dksX5_reorders_5 14 rfl rfl)
theorem dX5_reorders_134 : decode cX5_reorders 134 = .ok (.iload 6, 2) := dk_21 6 (dk_at dksX5_reorders_5 17 rfl rfl)
theorem dX5_reorders_136 : decode cX5_reorders 136 = .ok (.iload 4, 2) := dk_21 4 (dk_at dksX5_reorders_5 19 rfl rfl)
theorem dX5_reorders_138 : decode cX5_reorders 138 = .ok (.iastore, 1) := dk_79 (dk_at dksX5_reorders_5 21 rfl rfl)
theorem dX5_reorders_139 : decode cX5_reorders 139 = .ok (.iinc 5 1, 3) := dk_132 5 1 (dk_at dksX5_reorders_6 0 rfl rfl)
theorem dX5_reorders_142 : decode cX5_reorders 142 = .ok (.iinc 6 (-1), 3) := dk_132 6 255 (dk_at dksX5_reorders_6 3 rfl rfl)
theorem dX5_reorders_145 : decode cX5_reorders 145 = .ok (.goto (-45), 3) := dk_167 255 211 (dk_at dksX5_reorders_6 6 rfl rfl)
theorem dX5_reorders_148 : decode cX5_reorders 148 = .ok (.iconst 1, 1) := dk_4 (dk_at dksX5_reorders_6 9 rfl rfl)
theorem dX5_reorders_149 : decode cX5_reorders 149 = .ok (.ireturn, 1) := dk_172 (dk_at dksX5_reorders_6 10 rfl rfl)
abbrev cX5_caravanAt : ByteArray := prog_32_method_86_code
def yX5_caravanAt : MethodName := ⟨RX5, "caravanAt", "(I)I"⟩
def dkwX5_caravanAt_1 : List UInt8 := [46, 167, 0, 4, 2, 172]
abbrev dktX5_caravanAt_1 : List UInt8 := dkwX5_caravanAt_1 ++ []
def dkwX5_caravanAt_0 : List UInt8 := [42, 3, 181, 0, 1, 27, 3, 42, 180, 0, 89, 4, 100, 184, 0, 207, 153, 0, 12, 42, 180, 0, 86, 27]
abbrev dktX5_caravanAt_0 : List UInt8 := dkwX5_caravanAt_0 ++ dktX5_caravanAt_1
theorem dksX5_caravanAt_0 : cX5_caravanAt.data.toList.drop 0 = dktX5_caravanAt_0 := by decide +kernel
theorem dksX5_caravanAt_1 : cX5_caravanAt.data.toList.drop 24 = dktX5_caravanAt_1 := dk_seg dksX5_caravanAt_0 24 rfl rfl
theorem dX5_caravanAt_0 : decode cX5_caravanAt 0 = .ok (.aload_n 0, 1) := dk_42 (dk_at dksX5_caravanAt_0 0 rfl rfl)
theorem dX5_caravanAt_1 : decode cX5_caravanAt 1 = .ok (.iconst 0, 1) := dk_3 (dk_at dksX5_caravanAt_0 1 rfl rfl)
theorem dX5_caravanAt_2 : decode cX5_caravanAt 2 = .ok (.putfield 1, 3) := dk_181 0 1 (dk_at dksX5_caravanAt_0 2 rfl rfl)
theorem dX5_caravanAt_5 : decode cX5_caravanAt 5 = .ok (.iload_n 1, 1) := dk_27 (dk_at dksX5_caravanAt_0 5 rfl rfl)
theorem dX5_caravanAt_6 : decode cX5_caravanAt 6 = .ok (.iconst 0, 1) := dk_3 (dk_at dksX5_caravanAt_0 6 rfl rfl)
theorem dX5_caravanAt_7 : decode cX5_caravanAt 7 = .ok (.aload_n 0, 1) := dk_42 (dk_at dksX5_caravanAt_0 7 rfl rfl)
theorem dX5_caravanAt_8 : decode cX5_caravanAt 8 = .ok (.getfield 89, 3) := dk_180 0 89 (dk_at dksX5_caravanAt_0 8 rfl rfl)
theorem dX5_caravanAt_11 : decode cX5_caravanAt 11 = .ok (.iconst 1, 1) := dk_4 (dk_at dksX5_caravanAt_0 11 rfl rfl)
theorem dX5_caravanAt_12 : decode cX5_caravanAt 12 = .ok (.isub, 1) := dk_100 (dk_at dksX5_caravanAt_0 12 rfl rfl)
theorem dX5_caravanAt_13 : decode cX5_caravanAt 13 = .ok (.invokestatic 207, 3) := dk_184 0 207 (dk_at dksX5_caravanAt_0 13 rfl rfl)
theorem dX5_caravanAt_16 : decode cX5_caravanAt 16 = .ok (.ifCond .eq 12, 3) := dk_153 0 12 (dk_at dksX5_caravanAt_0 16 rfl rfl)
theorem dX5_caravanAt_19 : decode cX5_caravanAt 19 = .ok (.aload_n 0, 1) := dk_42 (dk_at dksX5_caravanAt_0 19 rfl rfl)
theorem dX5_caravanAt_20 : decode cX5_caravanAt 20 = .ok (.getfield 86, 3) := dk_180 0 86 (dk_at dksX5_caravanAt_0 20 rfl rfl)
theorem dX5_caravanAt_23 : decode cX5_caravanAt 23 = .ok (.iload_n 1, 1) := dk_27 (dk_at dksX5_caravanAt_0 23 rfl rfl)
theorem dX5_caravanAt_24 : decode cX5_caravanAt 24 = .ok (.iaload, 1) := dk_46 (dk_at dksX5_caravanAt_1 0 rfl rfl)
theorem dX5_caravanAt_25 : decode cX5_caravanAt 25 = .ok (.goto 4, 3) := dk_167 0 4 (dk_at dksX5_caravanAt_1 1 rfl rfl)
theorem dX5_caravanAt_28 : decode cX5_caravanAt 28 = .ok (.iconst (-1), 1) := dk_2 (dk_at dksX5_caravanAt_1 4 rfl rfl)
theorem dX5_caravanAt_29 : decode cX5_caravanAt 29 = .ok (.ireturn, 1) := dk_172 (dk_at dksX5_caravanAt_1 5 rfl rfl)
abbrev cX5_part : ByteArray := prog_32_method_88_code
def yX5_part : MethodName := ⟨RX5, "part", "(II)I"⟩
def dkwX5_part_5 : List UInt8 := [4, 181, 1, 148, 42, 29, 181, 1, 151, 29, 184, 1, 59, 172]
abbrev dktX5_part_5 : List UInt8 := dkwX5_part_5 ++ []
def dkwX5_part_4 : List UInt8 := [42, 180, 0, 33, 16, 93, 46, 128, 182, 1, 145, 153, 0, 6, 21, 4, 62, 132, 4, 1, 167, 255, 193, 42]
abbrev dktX5_part_4 : List UInt8 := dkwX5_part_4 ++ dktX5_part_5
def dkwX5_part_3 : List UInt8 := [16, 93, 46, 126, 154, 0, 37, 21, 4, 184, 1, 59, 29, 184, 1, 59, 162, 0, 25, 42, 27, 28, 21, 4]
abbrev dktX5_part_3 : List UInt8 := dkwX5_part_3 ++ dktX5_part_4
def dkwX5_part_2 : List UInt8 := [126, 62, 3, 54, 4, 21, 4, 4, 42, 180, 0, 33, 4, 46, 120, 162, 0, 56, 21, 4, 42, 180, 0, 33]
abbrev dktX5_part_2 : List UInt8 := dkwX5_part_2 ++ dktX5_part_3
def dkwX5_part_1 : List UInt8 := [160, 0, 5, 2, 172, 4, 42, 180, 0, 33, 4, 46, 120, 4, 100, 42, 180, 0, 33, 16, 93, 46, 2, 130]
abbrev dktX5_part_1 : List UInt8 := dkwX5_part_1 ++ dktX5_part_2
def dkwX5_part_0 : List UInt8 := [42, 3, 181, 0, 1, 42, 27, 182, 1, 56, 153, 0, 16, 42, 28, 182, 1, 56, 153, 0, 8, 27, 28]
abbrev dktX5_part_0 : List UInt8 := dkwX5_part_0 ++ dktX5_part_1
theorem dksX5_part_0 : cX5_part.data.toList.drop 0 = dktX5_part_0 := by decide +kernel
theorem dksX5_part_1 : cX5_part.data.toList.drop 23 = dktX5_part_1 := dk_seg dksX5_part_0 23 rfl rfl
theorem dksX5_part_2 : cX5_part.data.toList.drop 47 = dktX5_part_2 := dk_seg dksX5_part_1 24 rfl rfl
theorem dksX5_part_3 : cX5_part.data.toList.drop 71 = dktX5_part_3 := dk_seg dksX5_part_2 24 rfl rfl
theorem dksX5_part_4 : cX5_part.data.toList.drop 95 = dktX5_part_4 := dk_seg dksX5_part_3 24 rfl rfl
theorem dksX5_part_5 : cX5_part.data.toList.drop 119 = dktX5_part_5 := dk_seg dksX5_part_4 24 rfl rfl
theorem dX5_part_0 : decode cX5_part 0 = .ok (.aload_n 0, 1) := dk_42 (dk_at dksX5_part_0 0 rfl rfl)
theorem dX5_part_1 : decode cX5_part 1 = .ok (.iconst 0, 1) := dk_3 (dk_at dksX5_part_0 1 rfl rfl)
theorem dX5_part_2 : decode cX5_part 2 = .ok (.putfield 1, 3) := dk_181 0 1 (dk_at dksX5_part_0 2 rfl rfl)
theorem dX5_part_5 : decode cX5_part 5 = .ok (.aload_n 0, 1) := dk_42 (dk_at dksX5_part_0 5 rfl rfl)
theorem dX5_part_6 : decode cX5_part 6 = .ok (.iload_n 1, 1) := dk_27 (dk_at dksX5_part_0 6 rfl rfl)
theorem dX5_part_7 : decode cX5_part 7 = .ok (.invokevirtual 312, 3) := dk_182 1 56 (dk_at dksX5_part_0 7 rfl rfl)
theorem dX5_part_10 : decode cX5_part 10 = .ok (.ifCond .eq 16, 3) := dk_153 0 16 (dk_at dksX5_part_0 10 rfl rfl)
theorem dX5_part_13 : decode cX5_part 13 = .ok (.aload_n 0, 1) := dk_42 (dk_at dksX5_part_0 13 rfl rfl)
theorem dX5_part_14 : decode cX5_part 14 = .ok (.iload_n 2, 1) := dk_28 (dk_at dksX5_part_0 14 rfl rfl)
theorem dX5_part_15 : decode cX5_part 15 = .ok (.invokevirtual 312, 3) := dk_182 1 56 (dk_at dksX5_part_0 15 rfl rfl)
theorem dX5_part_18 : decode cX5_part 18 = .ok (.ifCond .eq 8, 3) := dk_153 0 8 (dk_at dksX5_part_0 18 rfl rfl)
theorem dX5_part_21 : decode cX5_part 21 = .ok (.iload_n 1, 1) := dk_27 (dk_at dksX5_part_0 21 rfl rfl)
theorem dX5_part_22 : decode cX5_part 22 = .ok (.iload_n 2, 1) := dk_28 (dk_at dksX5_part_0 22 rfl rfl)
theorem dX5_part_23 : decode cX5_part 23 = .ok (.if_icmp .ne 5, 3) := dk_160 0 5 (dk_at dksX5_part_1 0 rfl rfl)
theorem dX5_part_26 : decode cX5_part 26 = .ok (.iconst (-1), 1) := dk_2 (dk_at dksX5_part_1 3 rfl rfl)
theorem dX5_part_27 : decode cX5_part 27 = .ok (.ireturn, 1) := dk_172 (dk_at dksX5_part_1 4 rfl rfl)
theorem dX5_part_28 : decode cX5_part 28 = .ok (.iconst 1, 1) := dk_4 (dk_at dksX5_part_1 5 rfl rfl)
theorem dX5_part_29 : decode cX5_part 29 = .ok (.aload_n 0, 1) := dk_42 (dk_at dksX5_part_1 6 rfl rfl)
theorem dX5_part_30 : decode cX5_part 30 = .ok (.getfield 33, 3) := dk_180 0 33 (dk_at dksX5_part_1 7 rfl rfl)
theorem dX5_part_33 : decode cX5_part 33 = .ok (.iconst 1, 1) := dk_4 (dk_at dksX5_part_1 10 rfl rfl)
theorem dX5_part_34 : decode cX5_part 34 = .ok (.iaload, 1) := dk_46 (dk_at dksX5_part_1 11 rfl rfl)
theorem dX5_part_35 : decode cX5_part 35 = .ok (.ishl, 1) := dk_120 (dk_at dksX5_part_1 12 rfl rfl)
theorem dX5_part_36 : decode cX5_part 36 = .ok (.iconst 1, 1) := dk_4 (dk_at dksX5_part_1 13 rfl rfl)
theorem dX5_part_37 : decode cX5_part 37 = .ok (.isub, 1) := dk_100 (dk_at dksX5_part_1 14 rfl rfl)
theorem dX5_part_38 : decode cX5_part 38 = .ok (.aload_n 0, 1) := dk_42 (dk_at dksX5_part_1 15 rfl rfl)
theorem dX5_part_39 : decode cX5_part 39 = .ok (.getfield 33, 3) := dk_180 0 33 (dk_at dksX5_part_1 16 rfl rfl)
theorem dX5_part_42 : decode cX5_part 42 = .ok (.bipush 93, 2) := dk_16 93 (dk_at dksX5_part_1 19 rfl rfl)
theorem dX5_part_44 : decode cX5_part 44 = .ok (.iaload, 1) := dk_46 (dk_at dksX5_part_1 21 rfl rfl)
theorem dX5_part_45 : decode cX5_part 45 = .ok (.iconst (-1), 1) := dk_2 (dk_at dksX5_part_1 22 rfl rfl)
theorem dX5_part_46 : decode cX5_part 46 = .ok (.ixor, 1) := dk_130 (dk_at dksX5_part_1 23 rfl rfl)
theorem dX5_part_47 : decode cX5_part 47 = .ok (.iand, 1) := dk_126 (dk_at dksX5_part_2 0 rfl rfl)
theorem dX5_part_48 : decode cX5_part 48 = .ok (.istore_n 3, 1) := dk_62 (dk_at dksX5_part_2 1 rfl rfl)
theorem dX5_part_49 : decode cX5_part 49 = .ok (.iconst 0, 1) := dk_3 (dk_at dksX5_part_2 2 rfl rfl)
theorem dX5_part_50 : decode cX5_part 50 = .ok (.istore 4, 2) := dk_54 4 (dk_at dksX5_part_2 3 rfl rfl)
theorem dX5_part_52 : decode cX5_part 52 = .ok (.iload 4, 2) := dk_21 4 (dk_at dksX5_part_2 5 rfl rfl)
theorem dX5_part_54 : decode cX5_part 54 = .ok (.iconst 1, 1) := dk_4 (dk_at dksX5_part_2 7 rfl rfl)
theorem dX5_part_55 : decode cX5_part 55 = .ok (.aload_n 0, 1) := dk_42 (dk_at dksX5_part_2 8 rfl rfl)
theorem dX5_part_56 : decode cX5_part 56 = .ok (.getfield 33, 3) := dk_180 0 33 (dk_at dksX5_part_2 9 rfl rfl)
theorem dX5_part_59 : decode cX5_part 59 = .ok (.iconst 1, 1) := dk_4 (dk_at dksX5_part_2 12 rfl rfl)
theorem dX5_part_60 : decode cX5_part 60 = .ok (.iaload, 1) := dk_46 (dk_at dksX5_part_2 13 rfl rfl)
theorem dX5_part_61 : decode cX5_part 61 = .ok (.ishl, 1) := dk_120 (dk_at dksX5_part_2 14 rfl rfl)
theorem dX5_part_62 : decode cX5_part 62 = .ok (.if_icmp .ge 56, 3) := dk_162 0 56 (dk_at dksX5_part_2 15 rfl rfl)
theorem dX5_part_65 : decode cX5_part 65 = .ok (.iload 4, 2) := dk_21 4 (dk_at dksX5_part_2 18 rfl rfl)
theorem dX5_part_67 : decode cX5_part 67 = .ok (.aload_n 0, 1) := dk_42 (dk_at dksX5_part_2 20 rfl rfl)
theorem dX5_part_68 : decode cX5_part 68 = .ok (.getfield 33, 3) := dk_180 0 33 (dk_at dksX5_part_2 21 rfl rfl)
theorem dX5_part_71 : decode cX5_part 71 = .ok (.bipush 93, 2) := dk_16 93 (dk_at dksX5_part_3 0 rfl rfl)
theorem dX5_part_73 : decode cX5_part 73 = .ok (.iaload, 1) := dk_46 (dk_at dksX5_part_3 2 rfl rfl)
theorem dX5_part_74 : decode cX5_part 74 = .ok (.iand, 1) := dk_126 (dk_at dksX5_part_3 3 rfl rfl)
theorem dX5_part_75 : decode cX5_part 75 = .ok (.ifCond .ne 37, 3) := dk_154 0 37 (dk_at dksX5_part_3 4 rfl rfl)
theorem dX5_part_78 : decode cX5_part 78 = .ok (.iload 4, 2) := dk_21 4 (dk_at dksX5_part_3 7 rfl rfl)
theorem dX5_part_80 : decode cX5_part 80 = .ok (.invokestatic 315, 3) := dk_184 1 59 (dk_at dksX5_part_3 9 rfl rfl)
theorem dX5_part_83 : decode cX5_part 83 = .ok (.iload_n 3, 1) := dk_29 (dk_at dksX5_part_3 12 rfl rfl)
theorem dX5_part_84 : decode cX5_part 84 = .ok (.invokestatic 315, 3) := dk_184 1 59 (dk_at dksX5_part_3 13 rfl rfl)
theorem dX5_part_87 : decode cX5_part 87 = .ok (.if_icmp .ge 25, 3) := dk_162 0 25 (dk_at dksX5_part_3 16 rfl rfl)
theorem dX5_part_90 : decode cX5_part 90 = .ok (.aload_n 0, 1) := dk_42 (dk_at dksX5_part_3 19 rfl rfl)
theorem dX5_part_91 : decode cX5_part 91 = .ok (.iload_n 1, 1) := dk_27 (dk_at dksX5_part_3 20 rfl rfl)
theorem dX5_part_92 : decode cX5_part 92 = .ok (.iload_n 2, 1) := dk_28 (dk_at dksX5_part_3 21 rfl rfl)
theorem dX5_part_93 : decode cX5_part 93 = .ok (.iload 4, 2) := dk_21 4 (dk_at dksX5_part_3 22 rfl rfl)
theorem dX5_part_95 : decode cX5_part 95 = .ok (.aload_n 0, 1) := dk_42 (dk_at dksX5_part_4 0 rfl rfl)
theorem dX5_part_96 : decode cX5_part 96 = .ok (.getfield 33, 3) := dk_180 0 33 (dk_at dksX5_part_4 1 rfl rfl)
theorem dX5_part_99 : decode cX5_part 99 = .ok (.bipush 93, 2) := dk_16 93 (dk_at dksX5_part_4 4 rfl rfl)
theorem dX5_part_101 : decode cX5_part 101 = .ok (.iaload, 1) := dk_46 (dk_at dksX5_part_4 6 rfl rfl)
theorem dX5_part_102 : decode cX5_part 102 = .ok (.ior, 1) := dk_128 (dk_at dksX5_part_4 7 rfl rfl)
theorem dX5_part_103 : decode cX5_part 103 = .ok (.invokevirtual 401, 3) := dk_182 1 145 (dk_at dksX5_part_4 8 rfl rfl)
theorem dX5_part_106 : decode cX5_part 106 = .ok (.ifCond .eq 6, 3) := dk_153 0 6 (dk_at dksX5_part_4 11 rfl rfl)
theorem dX5_part_109 : decode cX5_part 109 = .ok (.iload 4, 2) := dk_21 4 (dk_at dksX5_part_4 14 rfl rfl)
theorem dX5_part_111 : decode cX5_part 111 = .ok (.istore_n 3, 1) := dk_62 (dk_at dksX5_part_4 16 rfl rfl)
theorem dX5_part_112 : decode cX5_part 112 = .ok (.iinc 4 1, 3) := dk_132 4 1 (dk_at dksX5_part_4 17 rfl rfl)
theorem dX5_part_115 : decode cX5_part 115 = .ok (.goto (-63), 3) := dk_167 255 193 (dk_at dksX5_part_4 20 rfl rfl)
theorem dX5_part_118 : decode cX5_part 118 = .ok (.aload_n 0, 1) := dk_42 (dk_at dksX5_part_4 23 rfl rfl)
theorem dX5_part_119 : decode cX5_part 119 = .ok (.iconst 1, 1) := dk_4 (dk_at dksX5_part_5 0 rfl rfl)
theorem dX5_part_120 : decode cX5_part 120 = .ok (.putfield 404, 3) := dk_181 1 148 (dk_at dksX5_part_5 1 rfl rfl)
theorem dX5_part_123 : decode cX5_part 123 = .ok (.aload_n 0, 1) := dk_42 (dk_at dksX5_part_5 4 rfl rfl)
theorem dX5_part_124 : decode cX5_part 124 = .ok (.iload_n 3, 1) := dk_29 (dk_at dksX5_part_5 5 rfl rfl)
theorem dX5_part_125 : decode cX5_part 125 = .ok (.putfield 407, 3) := dk_181 1 151 (dk_at dksX5_part_5 6 rfl rfl)
theorem dX5_part_128 : decode cX5_part 128 = .ok (.iload_n 3, 1) := dk_29 (dk_at dksX5_part_5 9 rfl rfl)
theorem dX5_part_129 : decode cX5_part 129 = .ok (.invokestatic 315, 3) := dk_184 1 59 (dk_at dksX5_part_5 10 rfl rfl)
theorem dX5_part_132 : decode cX5_part 132 = .ok (.ireturn, 1) := dk_172 (dk_at dksX5_part_5 13 rfl rfl)
abbrev cX5_areParted : ByteArray := prog_32_method_87_code
def yX5_areParted : MethodName := ⟨RX5, "areParted", "(III)Z"⟩
def dkwX5_areParted_5 : List UInt8 := [167, 255, 144, 21, 4, 28, 184, 1, 1, 154, 0, 7, 4, 167, 0, 4, 3, 172]
abbrev dktX5_areParted_5 : List UInt8 := dkwX5_areParted_5 ++ []
def dkwX5_areParted_4 : List UInt8 := [42, 180, 0, 33, 16, 36, 21, 6, 96, 46, 120, 128, 128, 54, 4, 132, 6, 1, 167, 255, 164, 132, 5, 1]
abbrev dktX5_areParted_4 : List UInt8 := dkwX5_areParted_4 ++ dktX5_areParted_5
def dkwX5_areParted_3 : List UInt8 := [184, 1, 1, 154, 0, 6, 167, 0, 33, 21, 4, 4, 42, 180, 0, 33, 16, 24, 21, 6, 96, 46, 120, 4]
abbrev dktX5_areParted_3 : List UInt8 := dkwX5_areParted_3 ++ dktX5_areParted_4
def dkwX5_areParted_2 : List UInt8 := [16, 24, 21, 6, 96, 46, 184, 1, 1, 154, 0, 24, 21, 4, 42, 180, 0, 33, 16, 36, 21, 6, 96, 46]
abbrev dktX5_areParted_2 : List UInt8 := dkwX5_areParted_2 ++ dktX5_areParted_3
def dkwX5_areParted_1 : List UInt8 := [42, 180, 0, 33, 4, 46, 162, 0, 87, 29, 21, 6, 184, 1, 1, 154, 0, 72, 21, 4, 42, 180, 0, 33]
abbrev dktX5_areParted_1 : List UInt8 := dkwX5_areParted_1 ++ dktX5_areParted_2
def dkwX5_areParted_0 : List UInt8 := [4, 27, 120, 54, 4, 3, 54, 5, 21, 5, 42, 180, 0, 33, 3, 46, 162, 0, 107, 3, 54, 6, 21, 6]
abbrev dktX5_areParted_0 : List UInt8 := dkwX5_areParted_0 ++ dktX5_areParted_1
theorem dksX5_areParted_0 : cX5_areParted.data.toList.drop 0 = dktX5_areParted_0 := by decide +kernel
theorem dksX5_areParted_1 : cX5_areParted.data.toList.drop 24 = dktX5_areParted_1 := dk_seg dksX5_areParted_0 24 rfl rfl
theorem dksX5_areParted_2 : cX5_areParted.data.toList.drop 48 = dktX5_areParted_2 := dk_seg dksX5_areParted_1 24 rfl rfl
theorem dksX5_areParted_3 : cX5_areParted.data.toList.drop 72 = dktX5_areParted_3 := dk_seg dksX5_areParted_2 24 rfl rfl
theorem dksX5_areParted_4 : cX5_areParted.data.toList.drop 96 = dktX5_areParted_4 := dk_seg dksX5_areParted_3 24 rfl rfl
theorem dksX5_areParted_5 : cX5_areParted.data.toList.drop 120 = dktX5_areParted_5 := dk_seg dksX5_areParted_4 24 rfl rfl
theorem dX5_areParted_0 : decode cX5_areParted 0 = .ok (.iconst 1, 1) := dk_4 (dk_at dksX5_areParted_0 0 rfl rfl)
theorem dX5_areParted_1 : decode cX5_areParted 1 = .ok (.iload_n 1, 1) := dk_27 (dk_at dksX5_areParted_0 1 rfl rfl)
theorem dX5_areParted_2 : decode cX5_areParted 2 = .ok (.ishl, 1) := dk_120 (dk_at dksX5_areParted_0 2 rfl rfl)
theorem dX5_areParted_3 : decode cX5_areParted 3 = .ok (.istore 4, 2) := dk_54 4 (dk_at dksX5_areParted_0 3 rfl rfl)
theorem dX5_areParted_5 : decode cX5_areParted 5 = .ok (.iconst 0, 1) := dk_3 (dk_at dksX5_areParted_0 5 rfl rfl)
theorem dX5_areParted_6 : decode cX5_areParted 6 = .ok (.istore 5, 2) := dk_54 5 (dk_at dksX5_areParted_0 6 rfl rfl)
theorem dX5_areParted_8 : decode cX5_areParted 8 = .ok (.iload 5, 2) := dk_21 5 (dk_at dksX5_areParted_0 8 rfl rfl)
theorem dX5_areParted_10 : decode cX5_areParted 10 = .ok (.aload_n 0, 1) := dk_42 (dk_at dksX5_areParted_0 10 rfl rfl)
theorem dX5_areParted_11 : decode cX5_areParted 11 = .ok (.getfield 33, 3) := dk_180 0 33 (dk_at dksX5_areParted_0 11 rfl rfl)
theorem dX5_areParted_14 : decode cX5_areParted 14 = .ok (.iconst 0, 1) := dk_3 (dk_at dksX5_areParted_0 14 rfl rfl)
theorem dX5_areParted_15 : decode cX5_areParted 15 = .ok (.iaload, 1) := dk_46 (dk_at dksX5_areParted_0 15 rfl rfl)
theorem dX5_areParted_16 : decode cX5_areParted 16 = .ok (.if_icmp .ge 107, 3) := dk_162 0 107 (dk_at dksX5_areParted_0 16 rfl rfl)
theorem dX5_areParted_19 : decode cX5_areParted 19 = .ok (.iconst 0, 1) := dk_3 (dk_at dksX5_areParted_0 19 rfl rfl)
theorem dX5_areParted_20 : decode cX5_areParted 20 = .ok (.istore 6, 2) := dk_54 6 (dk_at dksX5_areParted_0 20 rfl rfl)
theorem dX5_areParted_22 : decode cX5_areParted 22 = .ok (.iload 6, 2) := dk_21 6 (dk_at dksX5_areParted_0 22 rfl rfl)
theorem dX5_areParted_24 : decode cX5_areParted 24 = .ok (.aload_n 0, 1) := dk_42 (dk_at dksX5_areParted_1 0 rfl rfl)
theorem dX5_areParted_25 : decode cX5_areParted 25 = .ok (.getfield 33, 3) := dk_180 0 33 (dk_at dksX5_areParted_1 1 rfl rfl)
theorem dX5_areParted_28 : decode cX5_areParted 28 = .ok (.iconst 1, 1) := dk_4 (dk_at dksX5_areParted_1 4 rfl rfl)
theorem dX5_areParted_29 : decode cX5_areParted 29 = .ok (.iaload, 1) := dk_46 (dk_at dksX5_areParted_1 5 rfl rfl)
theorem dX5_areParted_30 : decode cX5_areParted 30 = .ok (.if_icmp .ge 87, 3) := dk_162 0 87 (dk_at dksX5_areParted_1 6 rfl rfl)
theorem dX5_areParted_33 : decode cX5_areParted 33 = .ok (.iload_n 3, 1) := dk_29 (dk_at dksX5_areParted_1 9 rfl rfl)
theorem dX5_areParted_34 : decode cX5_areParted 34 = .ok (.iload 6, 2) := dk_21 6 (dk_at dksX5_areParted_1 10 rfl rfl)
theorem dX5_areParted_36 : decode cX5_areParted 36 = .ok (.invokestatic 257, 3) := dk_184 1 1 (dk_at dksX5_areParted_1 12 rfl rfl)
theorem dX5_areParted_39 : decode cX5_areParted 39 = .ok (.ifCond .ne 72, 3) := dk_154 0 72 (dk_at dksX5_areParted_1 15 rfl rfl)
theorem dX5_areParted_42 : decode cX5_areParted 42 = .ok (.iload 4, 2) := dk_21 4 (dk_at dksX5_areParted_1 18 rfl rfl)
theorem dX5_areParted_44 : decode cX5_areParted 44 = .ok (.aload_n 0, 1) := dk_42 (dk_at dksX5_areParted_1 20 rfl rfl)
theorem dX5_areParted_45 : decode cX5_areParted 45 = .ok (.getfield 33, 3) := dk_180 0 33 (dk_at dksX5_areParted_1 21 rfl rfl)
theorem dX5_areParted_48 : decode cX5_areParted 48 = .ok (.bipush 24, 2) := dk_16 24 (dk_at dksX5_areParted_2 0 rfl rfl)
theorem dX5_areParted_50 : decode cX5_areParted 50 = .ok (.iload 6, 2) := dk_21 6 (dk_at dksX5_areParted_2 2 rfl rfl)
theorem dX5_areParted_52 : decode cX5_areParted 52 = .ok (.iadd, 1) := dk_96 (dk_at dksX5_areParted_2 4 rfl rfl)
theorem dX5_areParted_53 : decode cX5_areParted 53 = .ok (.iaload, 1) := dk_46 (dk_at dksX5_areParted_2 5 rfl rfl)
theorem dX5_areParted_54 : decode cX5_areParted 54 = .ok (.invokestatic 257, 3) := dk_184 1 1 (dk_at dksX5_areParted_2 6 rfl rfl)
theorem dX5_areParted_57 : decode cX5_areParted 57 = .ok (.ifCond .ne 24, 3) := dk_154 0 24 (dk_at dksX5_areParted_2 9 rfl rfl)
theorem dX5_areParted_60 : decode cX5_areParted 60 = .ok (.iload 4, 2) := dk_21 4 (dk_at dksX5_areParted_2 12 rfl rfl)
theorem dX5_areParted_62 : decode cX5_areParted 62 = .ok (.aload_n 0, 1) := dk_42 (dk_at dksX5_areParted_2 14 rfl rfl)
theorem dX5_areParted_63 : decode cX5_areParted 63 = .ok (.getfield 33, 3) := dk_180 0 33 (dk_at dksX5_areParted_2 15 rfl rfl)
theorem dX5_areParted_66 : decode cX5_areParted 66 = .ok (.bipush 36, 2) := dk_16 36 (dk_at dksX5_areParted_2 18 rfl rfl)
theorem dX5_areParted_68 : decode cX5_areParted 68 = .ok (.iload 6, 2) := dk_21 6 (dk_at dksX5_areParted_2 20 rfl rfl)
theorem dX5_areParted_70 : decode cX5_areParted 70 = .ok (.iadd, 1) := dk_96 (dk_at dksX5_areParted_2 22 rfl rfl)
theorem dX5_areParted_71 : decode cX5_areParted 71 = .ok (.iaload, 1) := dk_46 (dk_at dksX5_areParted_2 23 rfl rfl)
theorem dX5_areParted_72 : decode cX5_areParted 72 = .ok (.invokestatic 257, 3) := dk_184 1 1 (dk_at dksX5_areParted_3 0 rfl rfl)
theorem dX5_areParted_75 : decode cX5_areParted 75 = .ok (.ifCond .ne 6, 3) := dk_154 0 6 (dk_at dksX5_areParted_3 3 rfl rfl)
theorem dX5_areParted_78 : decode cX5_areParted 78 = .ok (.goto 33, 3) := dk_167 0 33 (dk_at dksX5_areParted_3 6 rfl rfl)
theorem dX5_areParted_81 : decode cX5_areParted 81 = .ok (.iload 4, 2) := dk_21 4 (dk_at dksX5_areParted_3 9 rfl rfl)
theorem dX5_areParted_83 : decode cX5_areParted 83 = .ok (.iconst 1, 1) := dk_4 (dk_at dksX5_areParted_3 11 rfl rfl)
theorem dX5_areParted_84 : decode cX5_areParted 84 = .ok (.aload_n 0, 1) := dk_42 (dk_at dksX5_areParted_3 12 rfl rfl)
theorem dX5_areParted_85 : decode cX5_areParted 85 = .ok (.getfield 33, 3) := dk_180 0 33 (dk_at dksX5_areParted_3 13 rfl rfl)
theorem dX5_areParted_88 : decode cX5_areParted 88 = .ok (.bipush 24, 2) := dk_16 24 (dk_at dksX5_areParted_3 16 rfl rfl)
theorem dX5_areParted_90 : decode cX5_areParted 90 = .ok (.iload 6, 2) := dk_21 6 (dk_at dksX5_areParted_3 18 rfl rfl)
theorem dX5_areParted_92 : decode cX5_areParted 92 = .ok (.iadd, 1) := dk_96 (dk_at dksX5_areParted_3 20 rfl rfl)
theorem dX5_areParted_93 : decode cX5_areParted 93 = .ok (.iaload, 1) := dk_46 (dk_at dksX5_areParted_3 21 rfl rfl)
theorem dX5_areParted_94 : decode cX5_areParted 94 = .ok (.ishl, 1) := dk_120 (dk_at dksX5_areParted_3 22 rfl rfl)
theorem dX5_areParted_95 : decode cX5_areParted 95 = .ok (.iconst 1, 1) := dk_4 (dk_at dksX5_areParted_3 23 rfl rfl)
theorem dX5_areParted_96 : decode cX5_areParted 96 = .ok (.aload_n 0, 1) := dk_42 (dk_at dksX5_areParted_4 0 rfl rfl)
theorem dX5_areParted_97 : decode cX5_areParted 97 = .ok (.getfield 33, 3) := dk_180 0 33 (dk_at dksX5_areParted_4 1 rfl rfl)
theorem dX5_areParted_100 : decode cX5_areParted 100 = .ok (.bipush 36, 2) := dk_16 36 (dk_at dksX5_areParted_4 4 rfl rfl)
theorem dX5_areParted_102 : decode cX5_areParted 102 = .ok (.iload 6, 2) := dk_21 6 (dk_at dksX5_areParted_4 6 rfl rfl)
theorem dX5_areParted_104 : decode cX5_areParted 104 = .ok (.iadd, 1) := dk_96 (dk_at dksX5_areParted_4 8 rfl rfl)
theorem dX5_areParted_105 : decode cX5_areParted 105 = .ok (.iaload, 1) := dk_46 (dk_at dksX5_areParted_4 9 rfl rfl)
theorem dX5_areParted_106 : decode cX5_areParted 106 = .ok (.ishl, 1) := dk_120 (dk_at dksX5_areParted_4 10 rfl rfl)
theorem dX5_areParted_107 : decode cX5_areParted 107 = .ok (.ior, 1) := dk_128 (dk_at dksX5_areParted_4 11 rfl rfl)
theorem dX5_areParted_108 : decode cX5_areParted 108 = .ok (.ior, 1) := dk_128 (dk_at dksX5_areParted_4 12 rfl rfl)
theorem dX5_areParted_109 : decode cX5_areParted 109 = .ok (.istore 4, 2) := dk_54 4 (dk_at dksX5_areParted_4 13 rfl rfl)
theorem dX5_areParted_111 : decode cX5_areParted 111 = .ok (.iinc 6 1, 3) := dk_132 6 1 (dk_at dksX5_areParted_4 15 rfl rfl)
theorem dX5_areParted_114 : decode cX5_areParted 114 = .ok (.goto (-92), 3) := dk_167 255 164 (dk_at dksX5_areParted_4 18 rfl rfl)
theorem dX5_areParted_117 : decode cX5_areParted 117 = .ok (.iinc 5 1, 3) := dk_132 5 1 (dk_at dksX5_areParted_4 21 rfl rfl)
theorem dX5_areParted_120 : decode cX5_areParted 120 = .ok (.goto (-112), 3) := dk_167 255 144 (dk_at dksX5_areParted_5 0 rfl rfl)
theorem dX5_areParted_123 : decode cX5_areParted 123 = .ok (.iload 4, 2) := dk_21 4 (dk_at dksX5_areParted_5 3 rfl rfl)
theorem dX5_areParted_125 : decode cX5_areParted 125 = .ok (.iload_n 2, 1) := dk_28 (dk_at dksX5_areParted_5 5 rfl rfl)
theorem dX5_areParted_126 : decode cX5_areParted 126 = .ok (.invokestatic 257, 3) := dk_184 1 1 (dk_at dksX5_areParted_5 6 rfl rfl)
theorem dX5_areParted_129 : decode cX5_areParted 129 = .ok (.ifCond .ne 7, 3) := dk_154 0 7 (dk_at dksX5_areParted_5 9 rfl rfl)
theorem dX5_areParted_132 : decode cX5_areParted 132 = .ok (.iconst 1, 1) := dk_4 (dk_at dksX5_areParted_5 12 rfl rfl)
theorem dX5_areParted_133 : decode cX5_areParted 133 = .ok (.goto 4, 3) := dk_167 0 4 (dk_at dksX5_areParted_5 13 rfl rfl)
theorem dX5_areParted_136 : decode cX5_areParted 136 = .ok (.iconst 0, 1) := dk_3 (dk_at dksX5_areParted_5 16 rfl rfl)
theorem dX5_areParted_137 : decode cX5_areParted 137 = .ok (.ireturn, 1) := dk_172 (dk_at dksX5_areParted_5 17 rfl rfl)
abbrev cX5_parting : ByteArray := prog_32_method_89_code
def yX5_parting : MethodName := ⟨RX5, "parting", "()I"⟩
def dkwX5_parting_0 : List UInt8 := [42, 3, 181, 0, 1, 42, 180, 1, 148, 153, 0, 10, 42, 180, 1, 151, 167, 0, 4, 2, 172]
abbrev dktX5_parting_0 : List UInt8 := dkwX5_parting_0 ++ []
theorem dksX5_parting_0 : cX5_parting.data.toList.drop 0 = dktX5_parting_0 := by decide +kernel
theorem dX5_parting_0 : decode cX5_parting 0 = .ok (.aload_n 0, 1) := dk_42 (dk_at dksX5_parting_0 0 rfl rfl)
theorem dX5_parting_1 : decode cX5_parting 1 = .ok (.iconst 0, 1) := dk_3 (dk_at dksX5_parting_0 1 rfl rfl)
theorem dX5_parting_2 : decode cX5_parting 2 = .ok (.putfield 1, 3) := dk_181 0 1 (dk_at dksX5_parting_0 2 rfl rfl)
theorem dX5_parting_5 : decode cX5_parting 5 = .ok (.aload_n 0, 1) := dk_42 (dk_at dksX5_parting_0 5 rfl rfl)
theorem dX5_parting_6 : decode cX5_parting 6 = .ok (.getfield 404, 3) := dk_180 1 148 (dk_at dksX5_parting_0 6 rfl rfl)
theorem dX5_parting_9 : decode cX5_parting 9 = .ok (.ifCond .eq 10, 3) := dk_153 0 10 (dk_at dksX5_parting_0 9 rfl rfl)
theorem dX5_parting_12 : decode cX5_parting 12 = .ok (.aload_n 0, 1) := dk_42 (dk_at dksX5_parting_0 12 rfl rfl)
theorem dX5_parting_13 : decode cX5_parting 13 = .ok (.getfield 407, 3) := dk_180 1 151 (dk_at dksX5_parting_0 13 rfl rfl)
theorem dX5_parting_16 : decode cX5_parting 16 = .ok (.goto 4, 3) := dk_167 0 4 (dk_at dksX5_parting_0 16 rfl rfl)
theorem dX5_parting_19 : decode cX5_parting 19 = .ok (.iconst (-1), 1) := dk_2 (dk_at dksX5_parting_0 19 rfl rfl)
theorem dX5_parting_20 : decode cX5_parting 20 = .ok (.ireturn, 1) := dk_172 (dk_at dksX5_parting_0 20 rfl rfl)
abbrev cX5_rests : ByteArray := prog_32_method_91_code
def yX5_rests : MethodName := ⟨RX5, "rests", "()I"⟩
def dkwX5_rests_3 : List UInt8 := [2, 172]
abbrev dktX5_rests_3 : List UInt8 := dkwX5_rests_3 ++ []
def dkwX5_rests_2 : List UInt8 := [17, 1, 144, 162, 0, 7, 4, 167, 0, 4, 3, 61, 42, 182, 1, 139, 28, 153, 0, 7, 27, 167, 0, 4]
abbrev dktX5_rests_2 : List UInt8 := dkwX5_rests_2 ++ dktX5_rests_3
def dkwX5_rests_1 : List UInt8 := [42, 182, 1, 154, 154, 0, 13, 42, 182, 1, 68, 132, 1, 1, 167, 255, 229, 42, 180, 0, 33, 16, 91, 46]
abbrev dktX5_rests_1 : List UInt8 := dkwX5_rests_1 ++ dktX5_rests_2
def dkwX5_rests_0 : List UInt8 := [42, 3, 181, 0, 1, 42, 182, 1, 136, 3, 60, 42, 180, 0, 33, 16, 91, 46, 17, 1, 144, 162, 0, 20]
abbrev dktX5_rests_0 : List UInt8 := dkwX5_rests_0 ++ dktX5_rests_1
theorem dksX5_rests_0 : cX5_rests.data.toList.drop 0 = dktX5_rests_0 := by decide +kernel
theorem dksX5_rests_1 : cX5_rests.data.toList.drop 24 = dktX5_rests_1 := dk_seg dksX5_rests_0 24 rfl rfl
theorem dksX5_rests_2 : cX5_rests.data.toList.drop 48 = dktX5_rests_2 := dk_seg dksX5_rests_1 24 rfl rfl
theorem dksX5_rests_3 : cX5_rests.data.toList.drop 72 = dktX5_rests_3 := dk_seg dksX5_rests_2 24 rfl rfl
theorem dX5_rests_0 : decode cX5_rests 0 = .ok (.aload_n 0, 1) := dk_42 (dk_at dksX5_rests_0 0 rfl rfl)
theorem dX5_rests_1 : decode cX5_rests 1 = .ok (.iconst 0, 1) := dk_3 (dk_at dksX5_rests_0 1 rfl rfl)
theorem dX5_rests_2 : decode cX5_rests 2 = .ok (.putfield 1, 3) := dk_181 0 1 (dk_at dksX5_rests_0 2 rfl rfl)
theorem dX5_rests_5 : decode cX5_rests 5 = .ok (.aload_n 0, 1) := dk_42 (dk_at dksX5_rests_0 5 rfl rfl)
theorem dX5_rests_6 : decode cX5_rests 6 = .ok (.invokevirtual 392, 3) := dk_182 1 136 (dk_at dksX5_rests_0 6 rfl rfl)
theorem dX5_rests_9 : decode cX5_rests 9 = .ok (.iconst 0, 1) := dk_3 (dk_at dksX5_rests_0 9 rfl rfl)
theorem dX5_rests_10 : decode cX5_rests 10 = .ok (.istore_n 1, 1) := dk_60 (dk_at dksX5_rests_0 10 rfl rfl)
theorem dX5_rests_11 : decode cX5_rests 11 = .ok (.aload_n 0, 1) := dk_42 (dk_at dksX5_rests_0 11 rfl rfl)
theorem dX5_rests_12 : decode cX5_rests 12 = .ok (.getfield 33, 3) := dk_180 0 33 (dk_at dksX5_rests_0 12 rfl rfl)
theorem dX5_rests_15 : decode cX5_rests 15 = .ok (.bipush 91, 2) := dk_16 91 (dk_at dksX5_rests_0 15 rfl rfl)
theorem dX5_rests_17 : decode cX5_rests 17 = .ok (.iaload, 1) := dk_46 (dk_at dksX5_rests_0 17 rfl rfl)
theorem dX5_rests_18 : decode cX5_rests 18 = .ok (.sipush 400, 3) := dk_17 1 144 (dk_at dksX5_rests_0 18 rfl rfl)
theorem dX5_rests_21 : decode cX5_rests 21 = .ok (.if_icmp .ge 20, 3) := dk_162 0 20 (dk_at dksX5_rests_0 21 rfl rfl)
theorem dX5_rests_24 : decode cX5_rests 24 = .ok (.aload_n 0, 1) := dk_42 (dk_at dksX5_rests_1 0 rfl rfl)
theorem dX5_rests_25 : decode cX5_rests 25 = .ok (.invokevirtual 410, 3) := dk_182 1 154 (dk_at dksX5_rests_1 1 rfl rfl)
theorem dX5_rests_28 : decode cX5_rests 28 = .ok (.ifCond .ne 13, 3) := dk_154 0 13 (dk_at dksX5_rests_1 4 rfl rfl)
theorem dX5_rests_31 : decode cX5_rests 31 = .ok (.aload_n 0, 1) := dk_42 (dk_at dksX5_rests_1 7 rfl rfl)
theorem dX5_rests_32 : decode cX5_rests 32 = .ok (.invokevirtual 324, 3) := dk_182 1 68 (dk_at dksX5_rests_1 8 rfl rfl)
theorem dX5_rests_35 : decode cX5_rests 35 = .ok (.iinc 1 1, 3) := dk_132 1 1 (dk_at dksX5_rests_1 11 rfl rfl)
theorem dX5_rests_38 : decode cX5_rests 38 = .ok (.goto (-27), 3) := dk_167 255 229 (dk_at dksX5_rests_1 14 rfl rfl)
theorem dX5_rests_41 : decode cX5_rests 41 = .ok (.aload_n 0, 1) := dk_42 (dk_at dksX5_rests_1 17 rfl rfl)
theorem dX5_rests_42 : decode cX5_rests 42 = .ok (.getfield 33, 3) := dk_180 0 33 (dk_at dksX5_rests_1 18 rfl rfl)
theorem dX5_rests_45 : decode cX5_rests 45 = .ok (.bipush 91, 2) := dk_16 91 (dk_at dksX5_rests_1 21 rfl rfl)
theorem dX5_rests_47 : decode cX5_rests 47 = .ok (.iaload, 1) := dk_46 (dk_at dksX5_rests_1 23 rfl rfl)
theorem dX5_rests_48 : decode cX5_rests 48 = .ok (.sipush 400, 3) := dk_17 1 144 (dk_at dksX5_rests_2 0 rfl rfl)
theorem dX5_rests_51 : decode cX5_rests 51 = .ok (.if_icmp .ge 7, 3) := dk_162 0 7 (dk_at dksX5_rests_2 3 rfl rfl)
theorem dX5_rests_54 : decode cX5_rests 54 = .ok (.iconst 1, 1) := dk_4 (dk_at dksX5_rests_2 6 rfl rfl)
theorem dX5_rests_55 : decode cX5_rests 55 = .ok (.goto 4, 3) := dk_167 0 4 (dk_at dksX5_rests_2 7 rfl rfl)
theorem dX5_rests_58 : decode cX5_rests 58 = .ok (.iconst 0, 1) := dk_3 (dk_at dksX5_rests_2 10 rfl rfl)
theorem dX5_rests_59 : decode cX5_rests 59 = .ok (.istore_n 2, 1) := dk_61 (dk_at dksX5_rests_2 11 rfl rfl)
theorem dX5_rests_60 : decode cX5_rests 60 = .ok (.aload_n 0, 1) := dk_42 (dk_at dksX5_rests_2 12 rfl rfl)
theorem dX5_rests_61 : decode cX5_rests 61 = .ok (.invokevirtual 395, 3) := dk_182 1 139 (dk_at dksX5_rests_2 13 rfl rfl)
theorem dX5_rests_64 : decode cX5_rests 64 = .ok (.iload_n 2, 1) := dk_28 (dk_at dksX5_rests_2 16 rfl rfl)
theorem dX5_rests_65 : decode cX5_rests 65 = .ok (.ifCond .eq 7, 3) := dk_153 0 7 (dk_at dksX5_rests_2 17 rfl rfl)
theorem dX5_rests_68 : decode cX5_rests 68 = .ok (.iload_n 1, 1) := dk_27 (dk_at dksX5_rests_2 20 rfl rfl)
theorem dX5_rests_69 : decode cX5_rests 69 = .ok (.goto 4, 3) := dk_167 0 4 (dk_at dksX5_rests_2 21 rfl rfl)
theorem dX5_rests_72 : decode cX5_rests 72 = .ok (.iconst (-1), 1) := dk_2 (dk_at dksX5_rests_3 0 rfl rfl)
theorem dX5_rests_73 : decode cX5_rests 73 = .ok (.ireturn, 1) := dk_172 (dk_at dksX5_rests_3 1 rfl rfl)
abbrev cX5_isRest : ByteArray := prog_32_method_90_code
def yX5_isRest : MethodName := ⟨RX5, "isRest", "()Z"⟩
def dkwX5_isRest_1 : List UInt8 := [154, 0, 7, 4, 167, 0, 4, 3, 60, 132, 2, 1, 167, 255, 225, 27, 172]
abbrev dktX5_isRest_1 : List UInt8 := dkwX5_isRest_1 ++ []
def dkwX5_isRest_0 : List UInt8 := [4, 60, 3, 61, 28, 42, 180, 0, 33, 5, 46, 162, 0, 27, 27, 153, 0, 15, 42, 28, 182, 1, 65]
abbrev dktX5_isRest_0 : List UInt8 := dkwX5_isRest_0 ++ dktX5_isRest_1
theorem dksX5_isRest_0 : cX5_isRest.data.toList.drop 0 = dktX5_isRest_0 := by decide +kernel
theorem dksX5_isRest_1 : cX5_isRest.data.toList.drop 23 = dktX5_isRest_1 := dk_seg dksX5_isRest_0 23 rfl rfl
theorem dX5_isRest_0 : decode cX5_isRest 0 = .ok (.iconst 1, 1) := dk_4 (dk_at dksX5_isRest_0 0 rfl rfl)
theorem dX5_isRest_1 : decode cX5_isRest 1 = .ok (.istore_n 1, 1) := dk_60 (dk_at dksX5_isRest_0 1 rfl rfl)
theorem dX5_isRest_2 : decode cX5_isRest 2 = .ok (.iconst 0, 1) := dk_3 (dk_at dksX5_isRest_0 2 rfl rfl)
theorem dX5_isRest_3 : decode cX5_isRest 3 = .ok (.istore_n 2, 1) := dk_61 (dk_at dksX5_isRest_0 3 rfl rfl)
theorem dX5_isRest_4 : decode cX5_isRest 4 = .ok (.iload_n 2, 1) := dk_28 (dk_at dksX5_isRest_0 4 rfl rfl)
theorem dX5_isRest_5 : decode cX5_isRest 5 = .ok (.aload_n 0, 1) := dk_42 (dk_at dksX5_isRest_0 5 rfl rfl)
theorem dX5_isRest_6 : decode cX5_isRest 6 = .ok (.getfield 33, 3) := dk_180 0 33 (dk_at dksX5_isRest_0 6 rfl rfl)
theorem dX5_isRest_9 : decode cX5_isRest 9 = .ok (.iconst 2, 1) := dk_5 (dk_at dksX5_isRest_0 9 rfl rfl)
theorem dX5_isRest_10 : decode cX5_isRest 10 = .ok (.iaload, 1) := dk_46 (dk_at dksX5_isRest_0 10 rfl rfl)
theorem dX5_isRest_11 : decode cX5_isRest 11 = .ok (.if_icmp .ge 27, 3) := dk_162 0 27 (dk_at dksX5_isRest_0 11 rfl rfl)
theorem dX5_isRest_14 : decode cX5_isRest 14 = .ok (.iload_n 1, 1) := dk_27 (dk_at dksX5_isRest_0 14 rfl rfl)
theorem dX5_isRest_15 : decode cX5_isRest 15 = .ok (.ifCond .eq 15, 3) := dk_153 0 15 (dk_at dksX5_isRest_0 15 rfl rfl)
theorem dX5_isRest_18 : decode cX5_isRest 18 = .ok (.aload_n 0, 1) := dk_42 (dk_at dksX5_isRest_0 18 rfl rfl)
theorem dX5_isRest_19 : decode cX5_isRest 19 = .ok (.iload_n 2, 1) := dk_28 (dk_at dksX5_isRest_0 19 rfl rfl)
theorem dX5_isRest_20 : decode cX5_isRest 20 = .ok (.invokevirtual 321, 3) := dk_182 1 65 (dk_at dksX5_isRest_0 20 rfl rfl)
theorem dX5_isRest_23 : decode cX5_isRest 23 = .ok (.ifCond .ne 7, 3) := dk_154 0 7 (dk_at dksX5_isRest_1 0 rfl rfl)
theorem dX5_isRest_26 : decode cX5_isRest 26 = .ok (.iconst 1, 1) := dk_4 (dk_at dksX5_isRest_1 3 rfl rfl)
theorem dX5_isRest_27 : decode cX5_isRest 27 = .ok (.goto 4, 3) := dk_167 0 4 (dk_at dksX5_isRest_1 4 rfl rfl)
theorem dX5_isRest_30 : decode cX5_isRest 30 = .ok (.iconst 0, 1) := dk_3 (dk_at dksX5_isRest_1 7 rfl rfl)
theorem dX5_isRest_31 : decode cX5_isRest 31 = .ok (.istore_n 1, 1) := dk_60 (dk_at dksX5_isRest_1 8 rfl rfl)
theorem dX5_isRest_32 : decode cX5_isRest 32 = .ok (.iinc 2 1, 3) := dk_132 2 1 (dk_at dksX5_isRest_1 9 rfl rfl)
theorem dX5_isRest_35 : decode cX5_isRest 35 = .ok (.goto (-31), 3) := dk_167 255 225 (dk_at dksX5_isRest_1 12 rfl rfl)
theorem dX5_isRest_38 : decode cX5_isRest 38 = .ok (.iload_n 1, 1) := dk_27 (dk_at dksX5_isRest_1 15 rfl rfl)
theorem dX5_isRest_39 : decode cX5_isRest 39 = .ok (.ireturn, 1) := dk_172 (dk_at dksX5_isRest_1 16 rfl rfl)
abbrev cX5_pass : ByteArray := prog_32_method_95_code
def yX5_pass : MethodName := ⟨RX5, "pass", "(I)I"⟩
def dkwX5_pass_6 : List UInt8 := [16, 10, 112, 96, 182, 1, 162, 42, 180, 1, 157, 172]
abbrev dktX5_pass_6 : List UInt8 := dkwX5_pass_6 ++ []
def dkwX5_pass_5 : List UInt8 := [16, 9, 164, 0, 17, 42, 16, 48, 28, 16, 10, 108, 16, 10, 112, 96, 182, 1, 162, 42, 16, 48, 28]
abbrev dktX5_pass_5 : List UInt8 := dkwX5_pass_5 ++ dktX5_pass_6
def dkwX5_pass_4 : List UInt8 := [16, 114, 27, 96, 46, 61, 28, 16, 99, 164, 0, 14, 42, 16, 48, 28, 16, 100, 108, 96, 182, 1, 162, 28]
abbrev dktX5_pass_4 : List UInt8 := dkwX5_pass_4 ++ dktX5_pass_5
def dkwX5_pass_3 : List UInt8 := [42, 180, 0, 33, 16, 108, 27, 96, 46, 47, 182, 1, 169, 42, 16, 32, 182, 1, 162, 42, 180, 0, 33]
abbrev dktX5_pass_3 : List UInt8 := dkwX5_pass_3 ++ dktX5_pass_4
def dkwX5_pass_2 : List UInt8 := [180, 0, 33, 16, 79, 27, 96, 46, 47, 182, 1, 169, 42, 20, 0, 148, 182, 1, 169, 42, 42, 180, 0, 43]
abbrev dktX5_pass_2 : List UInt8 := dkwX5_pass_2 ++ dktX5_pass_3
def dkwX5_pass_1 : List UInt8 := [180, 0, 43, 16, 7, 27, 96, 47, 182, 1, 165, 42, 20, 0, 150, 182, 1, 169, 42, 42, 180, 0, 43, 42]
abbrev dktX5_pass_1 : List UInt8 := dkwX5_pass_1 ++ dktX5_pass_2
def dkwX5_pass_0 : List UInt8 := [42, 3, 181, 0, 1, 42, 27, 182, 1, 46, 154, 0, 5, 2, 172, 42, 3, 181, 1, 157, 42, 42]
abbrev dktX5_pass_0 : List UInt8 := dkwX5_pass_0 ++ dktX5_pass_1
theorem dksX5_pass_0 : cX5_pass.data.toList.drop 0 = dktX5_pass_0 := by decide +kernel
theorem dksX5_pass_1 : cX5_pass.data.toList.drop 22 = dktX5_pass_1 := dk_seg dksX5_pass_0 22 rfl rfl
theorem dksX5_pass_2 : cX5_pass.data.toList.drop 46 = dktX5_pass_2 := dk_seg dksX5_pass_1 24 rfl rfl
theorem dksX5_pass_3 : cX5_pass.data.toList.drop 70 = dktX5_pass_3 := dk_seg dksX5_pass_2 24 rfl rfl
theorem dksX5_pass_4 : cX5_pass.data.toList.drop 93 = dktX5_pass_4 := dk_seg dksX5_pass_3 23 rfl rfl
theorem dksX5_pass_5 : cX5_pass.data.toList.drop 117 = dktX5_pass_5 := dk_seg dksX5_pass_4 24 rfl rfl
theorem dksX5_pass_6 : cX5_pass.data.toList.drop 140 = dktX5_pass_6 := dk_seg dksX5_pass_5 23 rfl rfl
theorem dX5_pass_0 : decode cX5_pass 0 = .ok (.aload_n 0, 1) := dk_42 (dk_at dksX5_pass_0 0 rfl rfl)
theorem dX5_pass_1 : decode cX5_pass 1 = .ok (.iconst 0, 1) := dk_3 (dk_at dksX5_pass_0 1 rfl rfl)
theorem dX5_pass_2 : decode cX5_pass 2 = .ok (.putfield 1, 3) := dk_181 0 1 (dk_at dksX5_pass_0 2 rfl rfl)
theorem dX5_pass_5 : decode cX5_pass 5 = .ok (.aload_n 0, 1) := dk_42 (dk_at dksX5_pass_0 5 rfl rfl)
theorem dX5_pass_6 : decode cX5_pass 6 = .ok (.iload_n 1, 1) := dk_27 (dk_at dksX5_pass_0 6 rfl rfl)
theorem dX5_pass_7 : decode cX5_pass 7 = .ok (.invokevirtual 302, 3) := dk_182 1 46 (dk_at dksX5_pass_0 7 rfl rfl)
theorem dX5_pass_10 : decode cX5_pass 10 = .ok (.ifCond .ne 5, 3) := dk_154 0 5 (dk_at dksX5_pass_0 10 rfl rfl)
theorem dX5_pass_13 : decode cX5_pass 13 = .ok (.iconst (-1), 1) := dk_2 (dk_at dksX5_pass_0 13 rfl rfl)
theorem dX5_pass_14 : decode cX5_pass 14 = .ok (.ireturn, 1) := dk_172 (dk_at dksX5_pass_0 14 rfl rfl)
theorem dX5_pass_15 : decode cX5_pass 15 = .ok (.aload_n 0, 1) := dk_42 (dk_at dksX5_pass_0 15 rfl rfl)
theorem dX5_pass_16 : decode cX5_pass 16 = .ok (.iconst 0, 1) := dk_3 (dk_at dksX5_pass_0 16 rfl rfl)
theorem dX5_pass_17 : decode cX5_pass 17 = .ok (.putfield 413, 3) := dk_181 1 157 (dk_at dksX5_pass_0 17 rfl rfl)
theorem dX5_pass_20 : decode cX5_pass 20 = .ok (.aload_n 0, 1) := dk_42 (dk_at dksX5_pass_0 20 rfl rfl)
theorem dX5_pass_21 : decode cX5_pass 21 = .ok (.aload_n 0, 1) := dk_42 (dk_at dksX5_pass_0 21 rfl rfl)
theorem dX5_pass_22 : decode cX5_pass 22 = .ok (.getfield 43, 3) := dk_180 0 43 (dk_at dksX5_pass_1 0 rfl rfl)
theorem dX5_pass_25 : decode cX5_pass 25 = .ok (.bipush 7, 2) := dk_16 7 (dk_at dksX5_pass_1 3 rfl rfl)
theorem dX5_pass_27 : decode cX5_pass 27 = .ok (.iload_n 1, 1) := dk_27 (dk_at dksX5_pass_1 5 rfl rfl)
theorem dX5_pass_28 : decode cX5_pass 28 = .ok (.iadd, 1) := dk_96 (dk_at dksX5_pass_1 6 rfl rfl)
theorem dX5_pass_29 : decode cX5_pass 29 = .ok (.laload, 1) := dk_47 (dk_at dksX5_pass_1 7 rfl rfl)
theorem dX5_pass_30 : decode cX5_pass 30 = .ok (.invokevirtual 421, 3) := dk_182 1 165 (dk_at dksX5_pass_1 8 rfl rfl)
theorem dX5_pass_33 : decode cX5_pass 33 = .ok (.aload_n 0, 1) := dk_42 (dk_at dksX5_pass_1 11 rfl rfl)
theorem dX5_pass_34 : decode cX5_pass 34 = .ok (.ldc2_w 150, 3) := dk_20 0 150 (dk_at dksX5_pass_1 12 rfl rfl)
theorem dX5_pass_37 : decode cX5_pass 37 = .ok (.invokevirtual 425, 3) := dk_182 1 169 (dk_at dksX5_pass_1 15 rfl rfl)
theorem dX5_pass_40 : decode cX5_pass 40 = .ok (.aload_n 0, 1) := dk_42 (dk_at dksX5_pass_1 18 rfl rfl)
theorem dX5_pass_41 : decode cX5_pass 41 = .ok (.aload_n 0, 1) := dk_42 (dk_at dksX5_pass_1 19 rfl rfl)
theorem dX5_pass_42 : decode cX5_pass 42 = .ok (.getfield 43, 3) := dk_180 0 43 (dk_at dksX5_pass_1 20 rfl rfl)
theorem dX5_pass_45 : decode cX5_pass 45 = .ok (.aload_n 0, 1) := dk_42 (dk_at dksX5_pass_1 23 rfl rfl)
theorem dX5_pass_46 : decode cX5_pass 46 = .ok (.getfield 33, 3) := dk_180 0 33 (dk_at dksX5_pass_2 0 rfl rfl)
theorem dX5_pass_49 : decode cX5_pass 49 = .ok (.bipush 79, 2) := dk_16 79 (dk_at dksX5_pass_2 3 rfl rfl)
theorem dX5_pass_51 : decode cX5_pass 51 = .ok (.iload_n 1, 1) := dk_27 (dk_at dksX5_pass_2 5 rfl rfl)
theorem dX5_pass_52 : decode cX5_pass 52 = .ok (.iadd, 1) := dk_96 (dk_at dksX5_pass_2 6 rfl rfl)
theorem dX5_pass_53 : decode cX5_pass 53 = .ok (.iaload, 1) := dk_46 (dk_at dksX5_pass_2 7 rfl rfl)
theorem dX5_pass_54 : decode cX5_pass 54 = .ok (.laload, 1) := dk_47 (dk_at dksX5_pass_2 8 rfl rfl)
theorem dX5_pass_55 : decode cX5_pass 55 = .ok (.invokevirtual 425, 3) := dk_182 1 169 (dk_at dksX5_pass_2 9 rfl rfl)
theorem dX5_pass_58 : decode cX5_pass 58 = .ok (.aload_n 0, 1) := dk_42 (dk_at dksX5_pass_2 12 rfl rfl)
theorem dX5_pass_59 : decode cX5_pass 59 = .ok (.ldc2_w 148, 3) := dk_20 0 148 (dk_at dksX5_pass_2 13 rfl rfl)
theorem dX5_pass_62 : decode cX5_pass 62 = .ok (.invokevirtual 425, 3) := dk_182 1 169 (dk_at dksX5_pass_2 16 rfl rfl)
theorem dX5_pass_65 : decode cX5_pass 65 = .ok (.aload_n 0, 1) := dk_42 (dk_at dksX5_pass_2 19 rfl rfl)
theorem dX5_pass_66 : decode cX5_pass 66 = .ok (.aload_n 0, 1) := dk_42 (dk_at dksX5_pass_2 20 rfl rfl)
theorem dX5_pass_67 : decode cX5_pass 67 = .ok (.getfield 43, 3) := dk_180 0 43 (dk_at dksX5_pass_2 21 rfl rfl)
theorem dX5_pass_70 : decode cX5_pass 70 = .ok (.aload_n 0, 1) := dk_42 (dk_at dksX5_pass_3 0 rfl rfl)
theorem dX5_pass_71 : decode cX5_pass 71 = .ok (.getfield 33, 3) := dk_180 0 33 (dk_at dksX5_pass_3 1 rfl rfl)
theorem dX5_pass_74 : decode cX5_pass 74 = .ok (.bipush 108, 2) := dk_16 108 (dk_at dksX5_pass_3 4 rfl rfl)
theorem dX5_pass_76 : decode cX5_pass 76 = .ok (.iload_n 1, 1) := dk_27 (dk_at dksX5_pass_3 6 rfl rfl)
theorem dX5_pass_77 : decode cX5_pass 77 = .ok (.iadd, 1) := dk_96 (dk_at dksX5_pass_3 7 rfl rfl)
theorem dX5_pass_78 : decode cX5_pass 78 = .ok (.iaload, 1) := dk_46 (dk_at dksX5_pass_3 8 rfl rfl)
theorem dX5_pass_79 : decode cX5_pass 79 = .ok (.laload, 1) := dk_47 (dk_at dksX5_pass_3 9 rfl rfl)
theorem dX5_pass_80 : decode cX5_pass 80 = .ok (.invokevirtual 425, 3) := dk_182 1 169 (dk_at dksX5_pass_3 10 rfl rfl)
theorem dX5_pass_83 : decode cX5_pass 83 = .ok (.aload_n 0, 1) := dk_42 (dk_at dksX5_pass_3 13 rfl rfl)
theorem dX5_pass_84 : decode cX5_pass 84 = .ok (.bipush 32, 2) := dk_16 32 (dk_at dksX5_pass_3 14 rfl rfl)
theorem dX5_pass_86 : decode cX5_pass 86 = .ok (.invokevirtual 418, 3) := dk_182 1 162 (dk_at dksX5_pass_3 16 rfl rfl)
theorem dX5_pass_89 : decode cX5_pass 89 = .ok (.aload_n 0, 1) := dk_42 (dk_at dksX5_pass_3 19 rfl rfl)
theorem dX5_pass_90 : decode cX5_pass 90 = .ok (.getfield 33, 3) := dk_180 0 33 (dk_at dksX5_pass_3 20 rfl rfl)
theorem dX5_pass_93 : decode cX5_pass 93 = .ok (.bipush 114, 2) := dk_16 114 (dk_at dksX5_pass_4 0 rfl rfl)
theorem dX5_pass_95 : decode cX5_pass 95 = .ok (.iload_n 1, 1) := dk_27 (dk_at dksX5_pass_4 2 rfl rfl)
theorem dX5_pass_96 : decode cX5_pass 96 = .ok (.iadd, 1) := dk_96 (dk_at dksX5_pass_4 3 rfl rfl)
theorem dX5_pass_97 : decode cX5_pass 97 = .ok (.iaload, 1) := dk_46 (dk_at dksX5_pass_4 4 rfl rfl)
theorem dX5_pass_98 : decode cX5_pass 98 = .ok (.istore_n 2, 1) := dk_61 (dk_at dksX5_pass_4 5 rfl rfl)
theorem dX5_pass_99 : decode cX5_pass 99 = .ok (.iload_n 2, 1) := dk_28 (dk_at dksX5_pass_4 6 rfl rfl)
theorem dX5_pass_100 : decode cX5_pass 100 = .ok (.bipush 99, 2) := dk_16 99 (dk_at dksX5_pass_4 7 rfl rfl)
theorem dX5_pass_102 : decode cX5_pass 102 = .ok (.if_icmp .le 14, 3) := dk_164 0 14 (dk_at dksX5_pass_4 9 rfl rfl)
theorem dX5_pass_105 : decode cX5_pass 105 = .ok (.aload_n 0, 1) := dk_42 (dk_at dksX5_pass_4 12 rfl rfl)
theorem dX5_pass_106 : decode cX5_pass 106 = .ok (.bipush 48, 2) := dk_16 48 (dk_at dksX5_pass_4 13 rfl rfl)
theorem dX5_pass_108 : decode cX5_pass 108 = .ok (.iload_n 2, 1) := dk_28 (dk_at dksX5_pass_4 15 rfl rfl)
theorem dX5_pass_109 : decode cX5_pass 109 = .ok (.bipush 100, 2) := dk_16 100 (dk_at dksX5_pass_4 16 rfl rfl)
theorem dX5_pass_111 : decode cX5_pass 111 = .ok (.idiv, 1) := dk_108 (dk_at dksX5_pass_4 18 rfl rfl)
theorem dX5_pass_112 : decode cX5_pass 112 = .ok (.iadd, 1) := dk_96 (dk_at dksX5_pass_4 19 rfl rfl)
theorem dX5_pass_113 : decode cX5_pass 113 = .ok (.invokevirtual 418, 3) := dk_182 1 162 (dk_at dksX5_pass_4 20 rfl rfl)
theorem dX5_pass_116 : decode cX5_pass 116 = .ok (.iload_n 2, 1) := dk_28 (dk_at dksX5_pass_4 23 rfl rfl)
theorem dX5_pass_117 : decode cX5_pass 117 = .ok (.bipush 9, 2) := dk_16 9 (dk_at dksX5_pass_5 0 rfl rfl)
theorem dX5_pass_119 : decode cX5_pass 119 = .ok (.if_icmp .le 17, 3) := dk_164 0 17 (dk_at dksX5_pass_5 2 rfl rfl)
theorem dX5_pass_122 : decode cX5_pass 122 = .ok (.aload_n 0, 1) := dk_42 (dk_at dksX5_pass_5 5 rfl rfl)
theorem dX5_pass_123 : decode cX5_pass 123 = .ok (.bipush 48, 2) := dk_16 48 (dk_at dksX5_pass_5 6 rfl rfl)
theorem dX5_pass_125 : decode cX5_pass 125 = .ok (.iload_n 2, 1) := dk_28 (dk_at dksX5_pass_5 8 rfl rfl)
theorem dX5_pass_126 : decode cX5_pass 126 = .ok (.bipush 10, 2) := dk_16 10 (dk_at dksX5_pass_5 9 rfl rfl)
theorem dX5_pass_128 : decode cX5_pass 128 = .ok (.idiv, 1) := dk_108 (dk_at dksX5_pass_5 11 rfl rfl)
theorem dX5_pass_129 : decode cX5_pass 129 = .ok (.bipush 10, 2) := dk_16 10 (dk_at dksX5_pass_5 12 rfl rfl)
theorem dX5_pass_131 : decode cX5_pass 131 = .ok (.irem, 1) := dk_112 (dk_at dksX5_pass_5 14 rfl rfl)
theorem dX5_pass_132 : decode cX5_pass 132 = .ok (.iadd, 1) := dk_96 (dk_at dksX5_pass_5 15 rfl rfl)
theorem dX5_pass_133 : decode cX5_pass 133 = .ok (.invokevirtual 418, 3) := dk_182 1 162 (dk_at dksX5_pass_5 16 rfl rfl)
theorem dX5_pass_136 : decode cX5_pass 136 = .ok (.aload_n 0, 1) := dk_42 (dk_at dksX5_pass_5 19 rfl rfl)
theorem dX5_pass_137 : decode cX5_pass 137 = .ok (.bipush 48, 2) := dk_16 48 (dk_at dksX5_pass_5 20 rfl rfl)
theorem dX5_pass_139 : decode cX5_pass 139 = .ok (.iload_n 2, 1) := dk_28 (dk_at dksX5_pass_5 22 rfl rfl)
theorem dX5_pass_140 : decode cX5_pass 140 = .ok (.bipush 10, 2) := dk_16 10 (dk_at dksX5_pass_6 0 rfl rfl)
theorem dX5_pass_142 : decode cX5_pass 142 = .ok (.irem, 1) := dk_112 (dk_at dksX5_pass_6 2 rfl rfl)
theorem dX5_pass_143 : decode cX5_pass 143 = .ok (.iadd, 1) := dk_96 (dk_at dksX5_pass_6 3 rfl rfl)
theorem dX5_pass_144 : decode cX5_pass 144 = .ok (.invokevirtual 418, 3) := dk_182 1 162 (dk_at dksX5_pass_6 4 rfl rfl)
theorem dX5_pass_147 : decode cX5_pass 147 = .ok (.aload_n 0, 1) := dk_42 (dk_at dksX5_pass_6 7 rfl rfl)
theorem dX5_pass_148 : decode cX5_pass 148 = .ok (.getfield 413, 3) := dk_180 1 157 (dk_at dksX5_pass_6 8 rfl rfl)
theorem dX5_pass_151 : decode cX5_pass 151 = .ok (.ireturn, 1) := dk_172 (dk_at dksX5_pass_6 11 rfl rfl)
abbrev cX5_spells : ByteArray := prog_32_method_93_code
def yX5_spells : MethodName := ⟨RX5, "spells", "(J)V"⟩
def dkwX5_spells_1 : List UInt8 := [20, 1, 160, 127, 136, 182, 1, 162, 132, 3, 248, 167, 255, 225, 177]
abbrev dktX5_spells_1 : List UInt8 := dkwX5_spells_1 ++ []
def dkwX5_spells_0 : List UInt8 := [16, 56, 62, 29, 155, 0, 33, 31, 29, 123, 20, 1, 160, 127, 9, 148, 153, 0, 15, 42, 31, 29, 123]
abbrev dktX5_spells_0 : List UInt8 := dkwX5_spells_0 ++ dktX5_spells_1
theorem dksX5_spells_0 : cX5_spells.data.toList.drop 0 = dktX5_spells_0 := by decide +kernel
theorem dksX5_spells_1 : cX5_spells.data.toList.drop 23 = dktX5_spells_1 := dk_seg dksX5_spells_0 23 rfl rfl
theorem dX5_spells_0 : decode cX5_spells 0 = .ok (.bipush 56, 2) := dk_16 56 (dk_at dksX5_spells_0 0 rfl rfl)
theorem dX5_spells_2 : decode cX5_spells 2 = .ok (.istore_n 3, 1) := dk_62 (dk_at dksX5_spells_0 2 rfl rfl)
theorem dX5_spells_3 : decode cX5_spells 3 = .ok (.iload_n 3, 1) := dk_29 (dk_at dksX5_spells_0 3 rfl rfl)
theorem dX5_spells_4 : decode cX5_spells 4 = .ok (.ifCond .lt 33, 3) := dk_155 0 33 (dk_at dksX5_spells_0 4 rfl rfl)
theorem dX5_spells_7 : decode cX5_spells 7 = .ok (.lload_n 1, 1) := dk_31 (dk_at dksX5_spells_0 7 rfl rfl)
theorem dX5_spells_8 : decode cX5_spells 8 = .ok (.iload_n 3, 1) := dk_29 (dk_at dksX5_spells_0 8 rfl rfl)
theorem dX5_spells_9 : decode cX5_spells 9 = .ok (.lshr, 1) := dk_123 (dk_at dksX5_spells_0 9 rfl rfl)
theorem dX5_spells_10 : decode cX5_spells 10 = .ok (.ldc2_w 416, 3) := dk_20 1 160 (dk_at dksX5_spells_0 10 rfl rfl)
theorem dX5_spells_13 : decode cX5_spells 13 = .ok (.land, 1) := dk_127 (dk_at dksX5_spells_0 13 rfl rfl)
theorem dX5_spells_14 : decode cX5_spells 14 = .ok (.lconst 0, 1) := dk_9 (dk_at dksX5_spells_0 14 rfl rfl)
theorem dX5_spells_15 : decode cX5_spells 15 = .ok (.lcmp, 1) := dk_148 (dk_at dksX5_spells_0 15 rfl rfl)
theorem dX5_spells_16 : decode cX5_spells 16 = .ok (.ifCond .eq 15, 3) := dk_153 0 15 (dk_at dksX5_spells_0 16 rfl rfl)
theorem dX5_spells_19 : decode cX5_spells 19 = .ok (.aload_n 0, 1) := dk_42 (dk_at dksX5_spells_0 19 rfl rfl)
theorem dX5_spells_20 : decode cX5_spells 20 = .ok (.lload_n 1, 1) := dk_31 (dk_at dksX5_spells_0 20 rfl rfl)
theorem dX5_spells_21 : decode cX5_spells 21 = .ok (.iload_n 3, 1) := dk_29 (dk_at dksX5_spells_0 21 rfl rfl)
theorem dX5_spells_22 : decode cX5_spells 22 = .ok (.lshr, 1) := dk_123 (dk_at dksX5_spells_0 22 rfl rfl)
theorem dX5_spells_23 : decode cX5_spells 23 = .ok (.ldc2_w 416, 3) := dk_20 1 160 (dk_at dksX5_spells_1 0 rfl rfl)
theorem dX5_spells_26 : decode cX5_spells 26 = .ok (.land, 1) := dk_127 (dk_at dksX5_spells_1 3 rfl rfl)
theorem dX5_spells_27 : decode cX5_spells 27 = .ok (.l2i, 1) := dk_136 (dk_at dksX5_spells_1 4 rfl rfl)
theorem dX5_spells_28 : decode cX5_spells 28 = .ok (.invokevirtual 418, 3) := dk_182 1 162 (dk_at dksX5_spells_1 5 rfl rfl)
theorem dX5_spells_31 : decode cX5_spells 31 = .ok (.iinc 3 (-8), 3) := dk_132 3 248 (dk_at dksX5_spells_1 8 rfl rfl)
theorem dX5_spells_34 : decode cX5_spells 34 = .ok (.goto (-31), 3) := dk_167 255 225 (dk_at dksX5_spells_1 11 rfl rfl)
theorem dX5_spells_37 : decode cX5_spells 37 = .ok (.return_, 1) := dk_177 (dk_at dksX5_spells_1 14 rfl rfl)
abbrev cX5_lays : ByteArray := prog_32_method_92_code
def yX5_lays : MethodName := ⟨RX5, "lays", "(I)V"⟩
def dkwX5_lays_0 : List UInt8 := [42, 180, 0, 92, 42, 180, 1, 157, 27, 145, 84, 42, 89, 180, 1, 157, 4, 96, 181, 1, 157, 177]
abbrev dktX5_lays_0 : List UInt8 := dkwX5_lays_0 ++ []
theorem dksX5_lays_0 : cX5_lays.data.toList.drop 0 = dktX5_lays_0 := by decide +kernel
theorem dX5_lays_0 : decode cX5_lays 0 = .ok (.aload_n 0, 1) := dk_42 (dk_at dksX5_lays_0 0 rfl rfl)
theorem dX5_lays_1 : decode cX5_lays 1 = .ok (.getfield 92, 3) := dk_180 0 92 (dk_at dksX5_lays_0 1 rfl rfl)
theorem dX5_lays_4 : decode cX5_lays 4 = .ok (.aload_n 0, 1) := dk_42 (dk_at dksX5_lays_0 4 rfl rfl)
theorem dX5_lays_5 : decode cX5_lays 5 = .ok (.getfield 413, 3) := dk_180 1 157 (dk_at dksX5_lays_0 5 rfl rfl)
theorem dX5_lays_8 : decode cX5_lays 8 = .ok (.iload_n 1, 1) := dk_27 (dk_at dksX5_lays_0 8 rfl rfl)
theorem dX5_lays_9 : decode cX5_lays 9 = .ok (.i2b, 1) := dk_145 (dk_at dksX5_lays_0 9 rfl rfl)
theorem dX5_lays_10 : decode cX5_lays 10 = .ok (.bastore, 1) := dk_84 (dk_at dksX5_lays_0 10 rfl rfl)
theorem dX5_lays_11 : decode cX5_lays 11 = .ok (.aload_n 0, 1) := dk_42 (dk_at dksX5_lays_0 11 rfl rfl)
theorem dX5_lays_12 : decode cX5_lays 12 = .ok (.dup, 1) := dk_89 (dk_at dksX5_lays_0 12 rfl rfl)
theorem dX5_lays_13 : decode cX5_lays 13 = .ok (.getfield 413, 3) := dk_180 1 157 (dk_at dksX5_lays_0 13 rfl rfl)
theorem dX5_lays_16 : decode cX5_lays 16 = .ok (.iconst 1, 1) := dk_4 (dk_at dksX5_lays_0 16 rfl rfl)
theorem dX5_lays_17 : decode cX5_lays 17 = .ok (.iadd, 1) := dk_96 (dk_at dksX5_lays_0 17 rfl rfl)
theorem dX5_lays_18 : decode cX5_lays 18 = .ok (.putfield 413, 3) := dk_181 1 157 (dk_at dksX5_lays_0 18 rfl rfl)
theorem dX5_lays_21 : decode cX5_lays 21 = .ok (.return_, 1) := dk_177 (dk_at dksX5_lays_0 21 rfl rfl)
abbrev cX5_says : ByteArray := prog_32_method_94_code
def yX5_says : MethodName := ⟨RX5, "says", "(J)V"⟩
def dkwX5_says_0 : List UInt8 := [42, 16, 32, 182, 1, 162, 42, 31, 182, 1, 165, 177]
abbrev dktX5_says_0 : List UInt8 := dkwX5_says_0 ++ []
theorem dksX5_says_0 : cX5_says.data.toList.drop 0 = dktX5_says_0 := by decide +kernel
theorem dX5_says_0 : decode cX5_says 0 = .ok (.aload_n 0, 1) := dk_42 (dk_at dksX5_says_0 0 rfl rfl)
theorem dX5_says_1 : decode cX5_says 1 = .ok (.bipush 32, 2) := dk_16 32 (dk_at dksX5_says_0 1 rfl rfl)
theorem dX5_says_3 : decode cX5_says 3 = .ok (.invokevirtual 418, 3) := dk_182 1 162 (dk_at dksX5_says_0 3 rfl rfl)
theorem dX5_says_6 : decode cX5_says 6 = .ok (.aload_n 0, 1) := dk_42 (dk_at dksX5_says_0 6 rfl rfl)
theorem dX5_says_7 : decode cX5_says 7 = .ok (.lload_n 1, 1) := dk_31 (dk_at dksX5_says_0 7 rfl rfl)
theorem dX5_says_8 : decode cX5_says 8 = .ok (.invokevirtual 421, 3) := dk_182 1 165 (dk_at dksX5_says_0 8 rfl rfl)
theorem dX5_says_11 : decode cX5_says 11 = .ok (.return_, 1) := dk_177 (dk_at dksX5_says_0 11 rfl rfl)
abbrev cX5_byteAt : ByteArray := prog_32_method_96_code
def yX5_byteAt : MethodName := ⟨RX5, "byteAt", "(I)I"⟩
def dkwX5_byteAt_1 : List UInt8 := [51, 167, 0, 4, 2, 172]
abbrev dktX5_byteAt_1 : List UInt8 := dkwX5_byteAt_1 ++ []
def dkwX5_byteAt_0 : List UInt8 := [42, 3, 181, 0, 1, 27, 3, 42, 180, 1, 157, 4, 100, 184, 0, 207, 153, 0, 12, 42, 180, 0, 92, 27]
abbrev dktX5_byteAt_0 : List UInt8 := dkwX5_byteAt_0 ++ dktX5_byteAt_1
theorem dksX5_byteAt_0 : cX5_byteAt.data.toList.drop 0 = dktX5_byteAt_0 := by decide +kernel
theorem dksX5_byteAt_1 : cX5_byteAt.data.toList.drop 24 = dktX5_byteAt_1 := dk_seg dksX5_byteAt_0 24 rfl rfl
theorem dX5_byteAt_0 : decode cX5_byteAt 0 = .ok (.aload_n 0, 1) := dk_42 (dk_at dksX5_byteAt_0 0 rfl rfl)
theorem dX5_byteAt_1 : decode cX5_byteAt 1 = .ok (.iconst 0, 1) := dk_3 (dk_at dksX5_byteAt_0 1 rfl rfl)
theorem dX5_byteAt_2 : decode cX5_byteAt 2 = .ok (.putfield 1, 3) := dk_181 0 1 (dk_at dksX5_byteAt_0 2 rfl rfl)
theorem dX5_byteAt_5 : decode cX5_byteAt 5 = .ok (.iload_n 1, 1) := dk_27 (dk_at dksX5_byteAt_0 5 rfl rfl)
theorem dX5_byteAt_6 : decode cX5_byteAt 6 = .ok (.iconst 0, 1) := dk_3 (dk_at dksX5_byteAt_0 6 rfl rfl)
theorem dX5_byteAt_7 : decode cX5_byteAt 7 = .ok (.aload_n 0, 1) := dk_42 (dk_at dksX5_byteAt_0 7 rfl rfl)
theorem dX5_byteAt_8 : decode cX5_byteAt 8 = .ok (.getfield 413, 3) := dk_180 1 157 (dk_at dksX5_byteAt_0 8 rfl rfl)
theorem dX5_byteAt_11 : decode cX5_byteAt 11 = .ok (.iconst 1, 1) := dk_4 (dk_at dksX5_byteAt_0 11 rfl rfl)
theorem dX5_byteAt_12 : decode cX5_byteAt 12 = .ok (.isub, 1) := dk_100 (dk_at dksX5_byteAt_0 12 rfl rfl)
theorem dX5_byteAt_13 : decode cX5_byteAt 13 = .ok (.invokestatic 207, 3) := dk_184 0 207 (dk_at dksX5_byteAt_0 13 rfl rfl)
theorem dX5_byteAt_16 : decode cX5_byteAt 16 = .ok (.ifCond .eq 12, 3) := dk_153 0 12 (dk_at dksX5_byteAt_0 16 rfl rfl)
theorem dX5_byteAt_19 : decode cX5_byteAt 19 = .ok (.aload_n 0, 1) := dk_42 (dk_at dksX5_byteAt_0 19 rfl rfl)
theorem dX5_byteAt_20 : decode cX5_byteAt 20 = .ok (.getfield 92, 3) := dk_180 0 92 (dk_at dksX5_byteAt_0 20 rfl rfl)
theorem dX5_byteAt_23 : decode cX5_byteAt 23 = .ok (.iload_n 1, 1) := dk_27 (dk_at dksX5_byteAt_0 23 rfl rfl)
theorem dX5_byteAt_24 : decode cX5_byteAt 24 = .ok (.baload, 1) := dk_51 (dk_at dksX5_byteAt_1 0 rfl rfl)
theorem dX5_byteAt_25 : decode cX5_byteAt 25 = .ok (.goto 4, 3) := dk_167 0 4 (dk_at dksX5_byteAt_1 1 rfl rfl)
theorem dX5_byteAt_28 : decode cX5_byteAt 28 = .ok (.iconst (-1), 1) := dk_2 (dk_at dksX5_byteAt_1 4 rfl rfl)
theorem dX5_byteAt_29 : decode cX5_byteAt 29 = .ok (.ireturn, 1) := dk_172 (dk_at dksX5_byteAt_1 5 rfl rfl)
abbrev cX5_drawn : ByteArray := prog_32_method_99_code
def yX5_drawn : MethodName := ⟨RX5, "drawn", "(II)I"⟩
def dkwX5_drawn_2 : List UInt8 := [182, 1, 179, 172]
abbrev dktX5_drawn_2 : List UInt8 := dkwX5_drawn_2 ++ []
def dkwX5_drawn_1 : List UInt8 := [2, 172, 42, 180, 0, 33, 16, 91, 46, 17, 1, 144, 162, 0, 7, 42, 182, 1, 71, 42, 27, 28]
abbrev dktX5_drawn_1 : List UInt8 := dkwX5_drawn_1 ++ dktX5_drawn_2
def dkwX5_drawn_0 : List UInt8 := [42, 3, 181, 0, 1, 27, 4, 16, 60, 184, 0, 207, 153, 0, 12, 42, 180, 0, 33, 3, 46, 154, 0, 5]
abbrev dktX5_drawn_0 : List UInt8 := dkwX5_drawn_0 ++ dktX5_drawn_1
theorem dksX5_drawn_0 : cX5_drawn.data.toList.drop 0 = dktX5_drawn_0 := by decide +kernel
theorem dksX5_drawn_1 : cX5_drawn.data.toList.drop 24 = dktX5_drawn_1 := dk_seg dksX5_drawn_0 24 rfl rfl
theorem dksX5_drawn_2 : cX5_drawn.data.toList.drop 46 = dktX5_drawn_2 := dk_seg dksX5_drawn_1 22 rfl rfl
theorem dX5_drawn_0 : decode cX5_drawn 0 = .ok (.aload_n 0, 1) := dk_42 (dk_at dksX5_drawn_0 0 rfl rfl)
theorem dX5_drawn_1 : decode cX5_drawn 1 = .ok (.iconst 0, 1) := dk_3 (dk_at dksX5_drawn_0 1 rfl rfl)
theorem dX5_drawn_2 : decode cX5_drawn 2 = .ok (.putfield 1, 3) := dk_181 0 1 (dk_at dksX5_drawn_0 2 rfl rfl)
theorem dX5_drawn_5 : decode cX5_drawn 5 = .ok (.iload_n 1, 1) := dk_27 (dk_at dksX5_drawn_0 5 rfl rfl)
theorem dX5_drawn_6 : decode cX5_drawn 6 = .ok (.iconst 1, 1) := dk_4 (dk_at dksX5_drawn_0 6 rfl rfl)
theorem dX5_drawn_7 : decode cX5_drawn 7 = .ok (.bipush 60, 2) := dk_16 60 (dk_at dksX5_drawn_0 7 rfl rfl)
theorem dX5_drawn_9 : decode cX5_drawn 9 = .ok (.invokestatic 207, 3) := dk_184 0 207 (dk_at dksX5_drawn_0 9 rfl rfl)
theorem dX5_drawn_12 : decode cX5_drawn 12 = .ok (.ifCond .eq 12, 3) := dk_153 0 12 (dk_at dksX5_drawn_0 12 rfl rfl)
theorem dX5_drawn_15 : decode cX5_drawn 15 = .ok (.aload_n 0, 1) := dk_42 (dk_at dksX5_drawn_0 15 rfl rfl)
theorem dX5_drawn_16 : decode cX5_drawn 16 = .ok (.getfield 33, 3) := dk_180 0 33 (dk_at dksX5_drawn_0 16 rfl rfl)
theorem dX5_drawn_19 : decode cX5_drawn 19 = .ok (.iconst 0, 1) := dk_3 (dk_at dksX5_drawn_0 19 rfl rfl)
theorem dX5_drawn_20 : decode cX5_drawn 20 = .ok (.iaload, 1) := dk_46 (dk_at dksX5_drawn_0 20 rfl rfl)
theorem dX5_drawn_21 : decode cX5_drawn 21 = .ok (.ifCond .ne 5, 3) := dk_154 0 5 (dk_at dksX5_drawn_0 21 rfl rfl)
theorem dX5_drawn_24 : decode cX5_drawn 24 = .ok (.iconst (-1), 1) := dk_2 (dk_at dksX5_drawn_1 0 rfl rfl)
theorem dX5_drawn_25 : decode cX5_drawn 25 = .ok (.ireturn, 1) := dk_172 (dk_at dksX5_drawn_1 1 rfl rfl)
theorem dX5_drawn_26 : decode cX5_drawn 26 = .ok (.aload_n 0, 1) := dk_42 (dk_at dksX5_drawn_1 2 rfl rfl)
theorem dX5_drawn_27 : decode cX5_drawn 27 = .ok (.getfield 33, 3) := dk_180 0 33 (dk_at dksX5_drawn_1 3 rfl rfl)
theorem dX5_drawn_30 : decode cX5_drawn 30 = .ok (.bipush 91, 2) := dk_16 91 (dk_at dksX5_drawn_1 6 rfl rfl)
theorem dX5_drawn_32 : decode cX5_drawn 32 = .ok (.iaload, 1) := dk_46 (dk_at dksX5_drawn_1 8 rfl rfl)
theorem dX5_drawn_33 : decode cX5_drawn 33 = .ok (.sipush 400, 3) := dk_17 1 144 (dk_at dksX5_drawn_1 9 rfl rfl)
theorem dX5_drawn_36 : decode cX5_drawn 36 = .ok (.if_icmp .ge 7, 3) := dk_162 0 7 (dk_at dksX5_drawn_1 12 rfl rfl)
theorem dX5_drawn_39 : decode cX5_drawn 39 = .ok (.aload_n 0, 1) := dk_42 (dk_at dksX5_drawn_1 15 rfl rfl)
theorem dX5_drawn_40 : decode cX5_drawn 40 = .ok (.invokevirtual 327, 3) := dk_182 1 71 (dk_at dksX5_drawn_1 16 rfl rfl)
theorem dX5_drawn_43 : decode cX5_drawn 43 = .ok (.aload_n 0, 1) := dk_42 (dk_at dksX5_drawn_1 19 rfl rfl)
theorem dX5_drawn_44 : decode cX5_drawn 44 = .ok (.iload_n 1, 1) := dk_27 (dk_at dksX5_drawn_1 20 rfl rfl)
theorem dX5_drawn_45 : decode cX5_drawn 45 = .ok (.iload_n 2, 1) := dk_28 (dk_at dksX5_drawn_1 21 rfl rfl)
theorem dX5_drawn_46 : decode cX5_drawn 46 = .ok (.invokevirtual 435, 3) := dk_182 1 179 (dk_at dksX5_drawn_2 0 rfl rfl)
theorem dX5_drawn_49 : decode cX5_drawn 49 = .ok (.ireturn, 1) := dk_172 (dk_at dksX5_drawn_2 3 rfl rfl)
abbrev cX5_draws : ByteArray := prog_32_method_98_code
def yX5_draws : MethodName := ⟨RX5, "draws", "(II)I"⟩
def dkwX5_draws_5 : List UInt8 := [182, 1, 68, 132, 3, 1, 167, 255, 141, 29, 172]
abbrev dktX5_draws_5 : List UInt8 := dkwX5_draws_5 ++ []
def dkwX5_draws_4 : List UInt8 := [21, 5, 182, 1, 36, 154, 0, 11, 42, 21, 4, 21, 5, 182, 1, 74, 132, 4, 1, 167, 255, 211, 42]
abbrev dktX5_draws_4 : List UInt8 := dkwX5_draws_4 ++ dktX5_draws_5
def dkwX5_draws_3 : List UInt8 := [180, 0, 33, 5, 46, 162, 0, 40, 42, 42, 180, 0, 33, 3, 46, 182, 1, 176, 54, 5, 42, 21, 4]
abbrev dktX5_draws_3 : List UInt8 := dkwX5_draws_3 ++ dktX5_draws_4
def dkwX5_draws_2 : List UInt8 := [16, 93, 92, 46, 4, 42, 42, 180, 0, 33, 4, 46, 182, 1, 176, 120, 130, 79, 3, 54, 4, 21, 4, 42]
abbrev dktX5_draws_2 : List UInt8 := dkwX5_draws_2 ++ dktX5_draws_3
def dkwX5_draws_1 : List UInt8 := [162, 0, 103, 42, 7, 182, 1, 176, 154, 0, 34, 42, 180, 0, 33, 4, 46, 158, 0, 25, 42, 180, 0, 33]
abbrev dktX5_draws_1 : List UInt8 := dkwX5_draws_1 ++ dktX5_draws_2
def dkwX5_draws_0 : List UInt8 := [42, 28, 181, 1, 172, 3, 62, 29, 27, 162, 0, 116, 42, 180, 0, 33, 16, 91, 46, 17, 1, 144]
abbrev dktX5_draws_0 : List UInt8 := dkwX5_draws_0 ++ dktX5_draws_1
theorem dksX5_draws_0 : cX5_draws.data.toList.drop 0 = dktX5_draws_0 := by decide +kernel
theorem dksX5_draws_1 : cX5_draws.data.toList.drop 22 = dktX5_draws_1 := dk_seg dksX5_draws_0 22 rfl rfl
theorem dksX5_draws_2 : cX5_draws.data.toList.drop 46 = dktX5_draws_2 := dk_seg dksX5_draws_1 24 rfl rfl
theorem dksX5_draws_3 : cX5_draws.data.toList.drop 70 = dktX5_draws_3 := dk_seg dksX5_draws_2 24 rfl rfl
theorem dksX5_draws_4 : cX5_draws.data.toList.drop 93 = dktX5_draws_4 := dk_seg dksX5_draws_3 23 rfl rfl
theorem dksX5_draws_5 : cX5_draws.data.toList.drop 116 = dktX5_draws_5 := dk_seg dksX5_draws_4 23 rfl rfl
theorem dX5_draws_0 : decode cX5_draws 0 = .ok (.aload_n 0, 1) := dk_42 (dk_at dksX5_draws_0 0 rfl rfl)
theorem dX5_draws_1 : decode cX5_draws 1 = .ok (.iload_n 2, 1) := dk_28 (dk_at dksX5_draws_0 1 rfl rfl)
theorem dX5_draws_2 : decode cX5_draws 2 = .ok (.putfield 428, 3) := dk_181 1 172 (dk_at dksX5_draws_0 2 rfl rfl)
theorem dX5_draws_5 : decode cX5_draws 5 = .ok (.iconst 0, 1) := dk_3 (dk_at dksX5_draws_0 5 rfl rfl)
theorem dX5_draws_6 : decode cX5_draws 6 = .ok (.istore_n 3, 1) := dk_62 (dk_at dksX5_draws_0 6 rfl rfl)
theorem dX5_draws_7 : decode cX5_draws 7 = .ok (.iload_n 3, 1) := dk_29 (dk_at dksX5_draws_0 7 rfl rfl)
theorem dX5_draws_8 : decode cX5_draws 8 = .ok (.iload_n 1, 1) := dk_27 (dk_at dksX5_draws_0 8 rfl rfl)
theorem dX5_draws_9 : decode cX5_draws 9 = .ok (.if_icmp .ge 116, 3) := dk_162 0 116 (dk_at dksX5_draws_0 9 rfl rfl)
theorem dX5_draws_12 : decode cX5_draws 12 = .ok (.aload_n 0, 1) := dk_42 (dk_at dksX5_draws_0 12 rfl rfl)
theorem dX5_draws_13 : decode cX5_draws 13 = .ok (.getfield 33, 3) := dk_180 0 33 (dk_at dksX5_draws_0 13 rfl rfl)
theorem dX5_draws_16 : decode cX5_draws 16 = .ok (.bipush 91, 2) := dk_16 91 (dk_at dksX5_draws_0 16 rfl rfl)
theorem dX5_draws_18 : decode cX5_draws 18 = .ok (.iaload, 1) := dk_46 (dk_at dksX5_draws_0 18 rfl rfl)
theorem dX5_draws_19 : decode cX5_draws 19 = .ok (.sipush 400, 3) := dk_17 1 144 (dk_at dksX5_draws_0 19 rfl rfl)
theorem dX5_draws_22 : decode cX5_draws 22 = .ok (.if_icmp .ge 103, 3) := dk_162 0 103 (dk_at dksX5_draws_1 0 rfl rfl)
theorem dX5_draws_25 : decode cX5_draws 25 = .ok (.aload_n 0, 1) := dk_42 (dk_at dksX5_draws_1 3 rfl rfl)
theorem dX5_draws_26 : decode cX5_draws 26 = .ok (.iconst 4, 1) := dk_7 (dk_at dksX5_draws_1 4 rfl rfl)
theorem dX5_draws_27 : decode cX5_draws 27 = .ok (.invokevirtual 432, 3) := dk_182 1 176 (dk_at dksX5_draws_1 5 rfl rfl)
theorem dX5_draws_30 : decode cX5_draws 30 = .ok (.ifCond .ne 34, 3) := dk_154 0 34 (dk_at dksX5_draws_1 8 rfl rfl)
theorem dX5_draws_33 : decode cX5_draws 33 = .ok (.aload_n 0, 1) := dk_42 (dk_at dksX5_draws_1 11 rfl rfl)
theorem dX5_draws_34 : decode cX5_draws 34 = .ok (.getfield 33, 3) := dk_180 0 33 (dk_at dksX5_draws_1 12 rfl rfl)
theorem dX5_draws_37 : decode cX5_draws 37 = .ok (.iconst 1, 1) := dk_4 (dk_at dksX5_draws_1 15 rfl rfl)
theorem dX5_draws_38 : decode cX5_draws 38 = .ok (.iaload, 1) := dk_46 (dk_at dksX5_draws_1 16 rfl rfl)
theorem dX5_draws_39 : decode cX5_draws 39 = .ok (.ifCond .le 25, 3) := dk_158 0 25 (dk_at dksX5_draws_1 17 rfl rfl)
theorem dX5_draws_42 : decode cX5_draws 42 = .ok (.aload_n 0, 1) := dk_42 (dk_at dksX5_draws_1 20 rfl rfl)
theorem dX5_draws_43 : decode cX5_draws 43 = .ok (.getfield 33, 3) := dk_180 0 33 (dk_at dksX5_draws_1 21 rfl rfl)
theorem dX5_draws_46 : decode cX5_draws 46 = .ok (.bipush 93, 2) := dk_16 93 (dk_at dksX5_draws_2 0 rfl rfl)
theorem dX5_draws_48 : decode cX5_draws 48 = .ok (.dup2, 1) := dk_92 (dk_at dksX5_draws_2 2 rfl rfl)
theorem dX5_draws_49 : decode cX5_draws 49 = .ok (.iaload, 1) := dk_46 (dk_at dksX5_draws_2 3 rfl rfl)
theorem dX5_draws_50 : decode cX5_draws 50 = .ok (.iconst 1, 1) := dk_4 (dk_at dksX5_draws_2 4 rfl rfl)
theorem dX5_draws_51 : decode cX5_draws 51 = .ok (.aload_n 0, 1) := dk_42 (dk_at dksX5_draws_2 5 rfl rfl)
theorem dX5_draws_52 : decode cX5_draws 52 = .ok (.aload_n 0, 1) := dk_42 (dk_at dksX5_draws_2 6 rfl rfl)
theorem dX5_draws_53 : decode cX5_draws 53 = .ok (.getfield 33, 3) := dk_180 0 33 (dk_at dksX5_draws_2 7 rfl rfl)
theorem dX5_draws_56 : decode cX5_draws 56 = .ok (.iconst 1, 1) := dk_4 (dk_at dksX5_draws_2 10 rfl rfl)
theorem dX5_draws_57 : decode cX5_draws 57 = .ok (.iaload, 1) := dk_46 (dk_at dksX5_draws_2 11 rfl rfl)
theorem dX5_draws_58 : decode cX5_draws 58 = .ok (.invokevirtual 432, 3) := dk_182 1 176 (dk_at dksX5_draws_2 12 rfl rfl)
theorem dX5_draws_61 : decode cX5_draws 61 = .ok (.ishl, 1) := dk_120 (dk_at dksX5_draws_2 15 rfl rfl)
theorem dX5_draws_62 : decode cX5_draws 62 = .ok (.ixor, 1) := dk_130 (dk_at dksX5_draws_2 16 rfl rfl)
theorem dX5_draws_63 : decode cX5_draws 63 = .ok (.iastore, 1) := dk_79 (dk_at dksX5_draws_2 17 rfl rfl)
theorem dX5_draws_64 : decode cX5_draws 64 = .ok (.iconst 0, 1) := dk_3 (dk_at dksX5_draws_2 18 rfl rfl)
theorem dX5_draws_65 : decode cX5_draws 65 = .ok (.istore 4, 2) := dk_54 4 (dk_at dksX5_draws_2 19 rfl rfl)
theorem dX5_draws_67 : decode cX5_draws 67 = .ok (.iload 4, 2) := dk_21 4 (dk_at dksX5_draws_2 21 rfl rfl)
theorem dX5_draws_69 : decode cX5_draws 69 = .ok (.aload_n 0, 1) := dk_42 (dk_at dksX5_draws_2 23 rfl rfl)
theorem dX5_draws_70 : decode cX5_draws 70 = .ok (.getfield 33, 3) := dk_180 0 33 (dk_at dksX5_draws_3 0 rfl rfl)
theorem dX5_draws_73 : decode cX5_draws 73 = .ok (.iconst 2, 1) := dk_5 (dk_at dksX5_draws_3 3 rfl rfl)
theorem dX5_draws_74 : decode cX5_draws 74 = .ok (.iaload, 1) := dk_46 (dk_at dksX5_draws_3 4 rfl rfl)
theorem dX5_draws_75 : decode cX5_draws 75 = .ok (.if_icmp .ge 40, 3) := dk_162 0 40 (dk_at dksX5_draws_3 5 rfl rfl)
theorem dX5_draws_78 : decode cX5_draws 78 = .ok (.aload_n 0, 1) := dk_42 (dk_at dksX5_draws_3 8 rfl rfl)
theorem dX5_draws_79 : decode cX5_draws 79 = .ok (.aload_n 0, 1) := dk_42 (dk_at dksX5_draws_3 9 rfl rfl)
theorem dX5_draws_80 : decode cX5_draws 80 = .ok (.getfield 33, 3) := dk_180 0 33 (dk_at dksX5_draws_3 10 rfl rfl)
theorem dX5_draws_83 : decode cX5_draws 83 = .ok (.iconst 0, 1) := dk_3 (dk_at dksX5_draws_3 13 rfl rfl)
theorem dX5_draws_84 : decode cX5_draws 84 = .ok (.iaload, 1) := dk_46 (dk_at dksX5_draws_3 14 rfl rfl)
theorem dX5_draws_85 : decode cX5_draws 85 = .ok (.invokevirtual 432, 3) := dk_182 1 176 (dk_at dksX5_draws_3 15 rfl rfl)
theorem dX5_draws_88 : decode cX5_draws 88 = .ok (.istore 5, 2) := dk_54 5 (dk_at dksX5_draws_3 18 rfl rfl)
theorem dX5_draws_90 : decode cX5_draws 90 = .ok (.aload_n 0, 1) := dk_42 (dk_at dksX5_draws_3 20 rfl rfl)
theorem dX5_draws_91 : decode cX5_draws 91 = .ok (.iload 4, 2) := dk_21 4 (dk_at dksX5_draws_3 21 rfl rfl)
theorem dX5_draws_93 : decode cX5_draws 93 = .ok (.iload 5, 2) := dk_21 5 (dk_at dksX5_draws_4 0 rfl rfl)
theorem dX5_draws_95 : decode cX5_draws 95 = .ok (.invokevirtual 292, 3) := dk_182 1 36 (dk_at dksX5_draws_4 2 rfl rfl)
theorem dX5_draws_98 : decode cX5_draws 98 = .ok (.ifCond .ne 11, 3) := dk_154 0 11 (dk_at dksX5_draws_4 5 rfl rfl)
theorem dX5_draws_101 : decode cX5_draws 101 = .ok (.aload_n 0, 1) := dk_42 (dk_at dksX5_draws_4 8 rfl rfl)
theorem dX5_draws_102 : decode cX5_draws 102 = .ok (.iload 4, 2) := dk_21 4 (dk_at dksX5_draws_4 9 rfl rfl)
theorem dX5_draws_104 : decode cX5_draws 104 = .ok (.iload 5, 2) := dk_21 5 (dk_at dksX5_draws_4 11 rfl rfl)
theorem dX5_draws_106 : decode cX5_draws 106 = .ok (.invokevirtual 330, 3) := dk_182 1 74 (dk_at dksX5_draws_4 13 rfl rfl)
theorem dX5_draws_109 : decode cX5_draws 109 = .ok (.iinc 4 1, 3) := dk_132 4 1 (dk_at dksX5_draws_4 16 rfl rfl)
theorem dX5_draws_112 : decode cX5_draws 112 = .ok (.goto (-45), 3) := dk_167 255 211 (dk_at dksX5_draws_4 19 rfl rfl)
theorem dX5_draws_115 : decode cX5_draws 115 = .ok (.aload_n 0, 1) := dk_42 (dk_at dksX5_draws_4 22 rfl rfl)
theorem dX5_draws_116 : decode cX5_draws 116 = .ok (.invokevirtual 324, 3) := dk_182 1 68 (dk_at dksX5_draws_5 0 rfl rfl)
theorem dX5_draws_119 : decode cX5_draws 119 = .ok (.iinc 3 1, 3) := dk_132 3 1 (dk_at dksX5_draws_5 3 rfl rfl)
theorem dX5_draws_122 : decode cX5_draws 122 = .ok (.goto (-115), 3) := dk_167 255 141 (dk_at dksX5_draws_5 6 rfl rfl)
theorem dX5_draws_125 : decode cX5_draws 125 = .ok (.iload_n 3, 1) := dk_29 (dk_at dksX5_draws_5 9 rfl rfl)
theorem dX5_draws_126 : decode cX5_draws 126 = .ok (.ireturn, 1) := dk_172 (dk_at dksX5_draws_5 10 rfl rfl)
abbrev cX5_draw : ByteArray := prog_32_method_97_code
def yX5_draw : MethodName := ⟨RX5, "draw", "(I)I"⟩
def dkwX5_draw_1 : List UInt8 := [112, 172]
abbrev dktX5_draw_1 : List UInt8 := dkwX5_draw_1 ++ []
def dkwX5_draw_0 : List UInt8 := [42, 42, 180, 1, 172, 19, 1, 175, 104, 17, 48, 57, 96, 181, 1, 172, 42, 180, 1, 172, 16, 8, 124, 27]
abbrev dktX5_draw_0 : List UInt8 := dkwX5_draw_0 ++ dktX5_draw_1
theorem dksX5_draw_0 : cX5_draw.data.toList.drop 0 = dktX5_draw_0 := by decide +kernel
theorem dksX5_draw_1 : cX5_draw.data.toList.drop 24 = dktX5_draw_1 := dk_seg dksX5_draw_0 24 rfl rfl
theorem dX5_draw_0 : decode cX5_draw 0 = .ok (.aload_n 0, 1) := dk_42 (dk_at dksX5_draw_0 0 rfl rfl)
theorem dX5_draw_1 : decode cX5_draw 1 = .ok (.aload_n 0, 1) := dk_42 (dk_at dksX5_draw_0 1 rfl rfl)
theorem dX5_draw_2 : decode cX5_draw 2 = .ok (.getfield 428, 3) := dk_180 1 172 (dk_at dksX5_draw_0 2 rfl rfl)
theorem dX5_draw_5 : decode cX5_draw 5 = .ok (.ldc_w 431, 3) := dk_19 1 175 (dk_at dksX5_draw_0 5 rfl rfl)
theorem dX5_draw_8 : decode cX5_draw 8 = .ok (.imul, 1) := dk_104 (dk_at dksX5_draw_0 8 rfl rfl)
theorem dX5_draw_9 : decode cX5_draw 9 = .ok (.sipush 12345, 3) := dk_17 48 57 (dk_at dksX5_draw_0 9 rfl rfl)
theorem dX5_draw_12 : decode cX5_draw 12 = .ok (.iadd, 1) := dk_96 (dk_at dksX5_draw_0 12 rfl rfl)
theorem dX5_draw_13 : decode cX5_draw 13 = .ok (.putfield 428, 3) := dk_181 1 172 (dk_at dksX5_draw_0 13 rfl rfl)
theorem dX5_draw_16 : decode cX5_draw 16 = .ok (.aload_n 0, 1) := dk_42 (dk_at dksX5_draw_0 16 rfl rfl)
theorem dX5_draw_17 : decode cX5_draw 17 = .ok (.getfield 428, 3) := dk_180 1 172 (dk_at dksX5_draw_0 17 rfl rfl)
theorem dX5_draw_20 : decode cX5_draw 20 = .ok (.bipush 8, 2) := dk_16 8 (dk_at dksX5_draw_0 20 rfl rfl)
theorem dX5_draw_22 : decode cX5_draw 22 = .ok (.iushr, 1) := dk_124 (dk_at dksX5_draw_0 22 rfl rfl)
theorem dX5_draw_23 : decode cX5_draw 23 = .ok (.iload_n 1, 1) := dk_27 (dk_at dksX5_draw_0 23 rfl rfl)
theorem dX5_draw_24 : decode cX5_draw 24 = .ok (.irem, 1) := dk_112 (dk_at dksX5_draw_1 0 rfl rfl)
theorem dX5_draw_25 : decode cX5_draw 25 = .ok (.ireturn, 1) := dk_172 (dk_at dksX5_draw_1 1 rfl rfl)
abbrev cX5_odds : ByteArray := prog_32_method_100_code
def yX5_odds : MethodName := ⟨RX5, "odds", "(III)I"⟩
def dkwX5_odds_4 : List UInt8 := [167, 255, 208, 21, 5, 172]
abbrev dktX5_odds_4 : List UInt8 := dkwX5_odds_4 ++ []
def dkwX5_odds_3 : List UInt8 := [96, 46, 21, 4, 164, 0, 7, 4, 167, 0, 4, 3, 96, 54, 5, 42, 182, 1, 139, 132, 6, 1]
abbrev dktX5_odds_3 : List UInt8 := dkwX5_odds_3 ++ dktX5_odds_4
def dkwX5_odds_2 : List UInt8 := [28, 162, 0, 48, 42, 16, 20, 29, 21, 6, 96, 182, 1, 179, 87, 21, 5, 42, 180, 0, 33, 16, 114, 27]
abbrev dktX5_odds_2 : List UInt8 := dkwX5_odds_2 ++ dktX5_odds_3
def dkwX5_odds_1 : List UInt8 := [172, 42, 182, 1, 136, 42, 180, 0, 33, 16, 114, 27, 96, 46, 54, 4, 3, 54, 5, 3, 54, 6, 21, 6]
abbrev dktX5_odds_1 : List UInt8 := dkwX5_odds_1 ++ dktX5_odds_2
def dkwX5_odds_0 : List UInt8 := [42, 3, 181, 0, 1, 42, 27, 182, 1, 46, 153, 0, 13, 28, 4, 16, 30, 184, 0, 207, 154, 0, 5, 2]
abbrev dktX5_odds_0 : List UInt8 := dkwX5_odds_0 ++ dktX5_odds_1
theorem dksX5_odds_0 : cX5_odds.data.toList.drop 0 = dktX5_odds_0 := by decide +kernel
theorem dksX5_odds_1 : cX5_odds.data.toList.drop 24 = dktX5_odds_1 := dk_seg dksX5_odds_0 24 rfl rfl
theorem dksX5_odds_2 : cX5_odds.data.toList.drop 48 = dktX5_odds_2 := dk_seg dksX5_odds_1 24 rfl rfl
theorem dksX5_odds_3 : cX5_odds.data.toList.drop 72 = dktX5_odds_3 := dk_seg dksX5_odds_2 24 rfl rfl
theorem dksX5_odds_4 : cX5_odds.data.toList.drop 94 = dktX5_odds_4 := dk_seg dksX5_odds_3 22 rfl rfl
theorem dX5_odds_0 : decode cX5_odds 0 = .ok (.aload_n 0, 1) := dk_42 (dk_at dksX5_odds_0 0 rfl rfl)
theorem dX5_odds_1 : decode cX5_odds 1 = .ok (.iconst 0, 1) := dk_3 (dk_at dksX5_odds_0 1 rfl rfl)
theorem dX5_odds_2 : decode cX5_odds 2 = .ok (.putfield 1, 3) := dk_181 0 1 (dk_at dksX5_odds_0 2 rfl rfl)
theorem dX5_odds_5 : decode cX5_odds 5 = .ok (.aload_n 0, 1) := dk_42 (dk_at dksX5_odds_0 5 rfl rfl)
theorem dX5_odds_6 : decode cX5_odds 6 = .ok (.iload_n 1, 1) := dk_27 (dk_at dksX5_odds_0 6 rfl rfl)
theorem dX5_odds_7 : decode cX5_odds 7 = .ok (.invokevirtual 302, 3) := dk_182 1 46 (dk_at dksX5_odds_0 7 rfl rfl)
theorem dX5_odds_10 : decode cX5_odds 10 = .ok (.ifCond .eq 13, 3) := dk_153 0 13 (dk_at dksX5_odds_0 10 rfl rfl)
theorem dX5_odds_13 : decode cX5_odds 13 = .ok (.iload_n 2, 1) := dk_28 (dk_at dksX5_odds_0 13 rfl rfl)
theorem dX5_odds_14 : decode cX5_odds 14 = .ok (.iconst 1, 1) := dk_4 (dk_at dksX5_odds_0 14 rfl rfl)
theorem dX5_odds_15 : decode cX5_odds 15 = .ok (.bipush 30, 2) := dk_16 30 (dk_at dksX5_odds_0 15 rfl rfl)
theorem dX5_odds_17 : decode cX5_odds 17 = .ok (.invokestatic 207, 3) := dk_184 0 207 (dk_at dksX5_odds_0 17 rfl rfl)
theorem dX5_odds_20 : decode cX5_odds 20 = .ok (.ifCond .ne 5, 3) := dk_154 0 5 (dk_at dksX5_odds_0 20 rfl rfl)
theorem dX5_odds_23 : decode cX5_odds 23 = .ok (.iconst (-1), 1) := dk_2 (dk_at dksX5_odds_0 23 rfl rfl)
theorem dX5_odds_24 : decode cX5_odds 24 = .ok (.ireturn, 1) := dk_172 (dk_at dksX5_odds_1 0 rfl rfl)
theorem dX5_odds_25 : decode cX5_odds 25 = .ok (.aload_n 0, 1) := dk_42 (dk_at dksX5_odds_1 1 rfl rfl)
theorem dX5_odds_26 : decode cX5_odds 26 = .ok (.invokevirtual 392, 3) := dk_182 1 136 (dk_at dksX5_odds_1 2 rfl rfl)
theorem dX5_odds_29 : decode cX5_odds 29 = .ok (.aload_n 0, 1) := dk_42 (dk_at dksX5_odds_1 5 rfl rfl)
theorem dX5_odds_30 : decode cX5_odds 30 = .ok (.getfield 33, 3) := dk_180 0 33 (dk_at dksX5_odds_1 6 rfl rfl)
theorem dX5_odds_33 : decode cX5_odds 33 = .ok (.bipush 114, 2) := dk_16 114 (dk_at dksX5_odds_1 9 rfl rfl)
theorem dX5_odds_35 : decode cX5_odds 35 = .ok (.iload_n 1, 1) := dk_27 (dk_at dksX5_odds_1 11 rfl rfl)
theorem dX5_odds_36 : decode cX5_odds 36 = .ok (.iadd, 1) := dk_96 (dk_at dksX5_odds_1 12 rfl rfl)
theorem dX5_odds_37 : decode cX5_odds 37 = .ok (.iaload, 1) := dk_46 (dk_at dksX5_odds_1 13 rfl rfl)
theorem dX5_odds_38 : decode cX5_odds 38 = .ok (.istore 4, 2) := dk_54 4 (dk_at dksX5_odds_1 14 rfl rfl)
theorem dX5_odds_40 : decode cX5_odds 40 = .ok (.iconst 0, 1) := dk_3 (dk_at dksX5_odds_1 16 rfl rfl)
theorem dX5_odds_41 : decode cX5_odds 41 = .ok (.istore 5, 2) := dk_54 5 (dk_at dksX5_odds_1 17 rfl rfl)
theorem dX5_odds_43 : decode cX5_odds 43 = .ok (.iconst 0, 1) := dk_3 (dk_at dksX5_odds_1 19 rfl rfl)
theorem dX5_odds_44 : decode cX5_odds 44 = .ok (.istore 6, 2) := dk_54 6 (dk_at dksX5_odds_1 20 rfl rfl)
theorem dX5_odds_46 : decode cX5_odds 46 = .ok (.iload 6, 2) := dk_21 6 (dk_at dksX5_odds_1 22 rfl rfl)
theorem dX5_odds_48 : decode cX5_odds 48 = .ok (.iload_n 2, 1) := dk_28 (dk_at dksX5_odds_2 0 rfl rfl)
theorem dX5_odds_49 : decode cX5_odds 49 = .ok (.if_icmp .ge 48, 3) := dk_162 0 48 (dk_at dksX5_odds_2 1 rfl rfl)
theorem dX5_odds_52 : decode cX5_odds 52 = .ok (.aload_n 0, 1) := dk_42 (dk_at dksX5_odds_2 4 rfl rfl)
theorem dX5_odds_53 : decode cX5_odds 53 = .ok (.bipush 20, 2) := dk_16 20 (dk_at dksX5_odds_2 5 rfl rfl)
theorem dX5_odds_55 : decode cX5_odds 55 = .ok (.iload_n 3, 1) := dk_29 (dk_at dksX5_odds_2 7 rfl rfl)
theorem dX5_odds_56 : decode cX5_odds 56 = .ok (.iload 6, 2) := dk_21 6 (dk_at dksX5_odds_2 8 rfl rfl)
theorem dX5_odds_58 : decode cX5_odds 58 = .ok (.iadd, 1) := dk_96 (dk_at dksX5_odds_2 10 rfl rfl)
theorem dX5_odds_59 : decode cX5_odds 59 = .ok (.invokevirtual 435, 3) := dk_182 1 179 (dk_at dksX5_odds_2 11 rfl rfl)
theorem dX5_odds_62 : decode cX5_odds 62 = .ok (.pop, 1) := dk_87 (dk_at dksX5_odds_2 14 rfl rfl)
theorem dX5_odds_63 : decode cX5_odds 63 = .ok (.iload 5, 2) := dk_21 5 (dk_at dksX5_odds_2 15 rfl rfl)
theorem dX5_odds_65 : decode cX5_odds 65 = .ok (.aload_n 0, 1) := dk_42 (dk_at dksX5_odds_2 17 rfl rfl)
theorem dX5_odds_66 : decode cX5_odds 66 = .ok (.getfield 33, 3) := dk_180 0 33 (dk_at dksX5_odds_2 18 rfl rfl)
theorem dX5_odds_69 : decode cX5_odds 69 = .ok (.bipush 114, 2) := dk_16 114 (dk_at dksX5_odds_2 21 rfl rfl)
theorem dX5_odds_71 : decode cX5_odds 71 = .ok (.iload_n 1, 1) := dk_27 (dk_at dksX5_odds_2 23 rfl rfl)
theorem dX5_odds_72 : decode cX5_odds 72 = .ok (.iadd, 1) := dk_96 (dk_at dksX5_odds_3 0 rfl rfl)
theorem dX5_odds_73 : decode cX5_odds 73 = .ok (.iaload, 1) := dk_46 (dk_at dksX5_odds_3 1 rfl rfl)
theorem dX5_odds_74 : decode cX5_odds 74 = .ok (.iload 4, 2) := dk_21 4 (dk_at dksX5_odds_3 2 rfl rfl)
theorem dX5_odds_76 : decode cX5_odds 76 = .ok (.if_icmp .le 7, 3) := dk_164 0 7 (dk_at dksX5_odds_3 4 rfl rfl)
theorem dX5_odds_79 : decode cX5_odds 79 = .ok (.iconst 1, 1) := dk_4 (dk_at dksX5_odds_3 7 rfl rfl)
theorem dX5_odds_80 : decode cX5_odds 80 = .ok (.goto 4, 3) := dk_167 0 4 (dk_at dksX5_odds_3 8 rfl rfl)
theorem dX5_odds_83 : decode cX5_odds 83 = .ok (.iconst 0, 1) := dk_3 (dk_at dksX5_odds_3 11 rfl rfl)
theorem dX5_odds_84 : decode cX5_odds 84 = .ok (.iadd, 1) := dk_96 (dk_at dksX5_odds_3 12 rfl rfl)
theorem dX5_odds_85 : decode cX5_odds 85 = .ok (.istore 5, 2) := dk_54 5 (dk_at dksX5_odds_3 13 rfl rfl)
theorem dX5_odds_87 : decode cX5_odds 87 = .ok (.aload_n 0, 1) := dk_42 (dk_at dksX5_odds_3 15 rfl rfl)
theorem dX5_odds_88 : decode cX5_odds 88 = .ok (.invokevirtual 395, 3) := dk_182 1 139 (dk_at dksX5_odds_3 16 rfl rfl)
theorem dX5_odds_91 : decode cX5_odds 91 = .ok (.iinc 6 1, 3) := dk_132 6 1 (dk_at dksX5_odds_3 19 rfl rfl)
theorem dX5_odds_94 : decode cX5_odds 94 = .ok (.goto (-48), 3) := dk_167 255 208 (dk_at dksX5_odds_4 0 rfl rfl)
theorem dX5_odds_97 : decode cX5_odds 97 = .ok (.iload 5, 2) := dk_21 5 (dk_at dksX5_odds_4 3 rfl rfl)
theorem dX5_odds_99 : decode cX5_odds 99 = .ok (.ireturn, 1) := dk_172 (dk_at dksX5_odds_4 5 rfl rfl)
abbrev cX5_book : ByteArray := prog_32_method_103_code
def yX5_book : MethodName := ⟨RX5, "book", "(I)I"⟩
def dkwX5_book_12 : List UInt8 := [167, 255, 225, 27, 154, 0, 7, 42, 182, 1, 139, 28, 172]
abbrev dktX5_book_12 : List UInt8 := dkwX5_book_12 ++ []
def dkwX5_book_11 : List UInt8 := [180, 0, 50, 16, 47, 42, 180, 1, 19, 4, 100, 104, 29, 96, 42, 180, 0, 53, 29, 46, 79, 132, 3, 1]
abbrev dktX5_book_11 : List UInt8 := dkwX5_book_11 ++ dktX5_book_12
def dkwX5_book_10 : List UInt8 := [42, 180, 0, 95, 4, 46, 158, 0, 43, 42, 182, 1, 71, 3, 62, 29, 16, 47, 162, 0, 31, 42]
abbrev dktX5_book_10 : List UInt8 := dkwX5_book_10 ++ dktX5_book_11
def dkwX5_book_9 : List UInt8 := [16, 91, 46, 79, 42, 180, 0, 95, 6, 42, 182, 1, 62, 79, 42, 4, 181, 1, 191, 27, 4, 160, 0, 52]
abbrev dktX5_book_9 : List UInt8 := dkwX5_book_9 ++ dktX5_book_10
def dkwX5_book_8 : List UInt8 := [180, 0, 95, 4, 92, 46, 4, 96, 79, 132, 3, 1, 167, 255, 169, 42, 180, 0, 95, 5, 42, 180, 0, 33]
abbrev dktX5_book_8 : List UInt8 := dkwX5_book_8 ++ dktX5_book_9
def dkwX5_book_7 : List UInt8 := [29, 104, 6, 96, 46, 182, 1, 188, 79, 42, 180, 0, 95, 3, 46, 158, 0, 8, 29, 61, 167, 0, 13, 42]
abbrev dktX5_book_7 : List UInt8 := dkwX5_book_7 ++ dktX5_book_8
def dkwX5_book_6 : List UInt8 := [180, 0, 40, 7, 29, 104, 4, 96, 46, 42, 180, 0, 40, 7, 29, 104, 5, 96, 46, 42, 180, 0, 40, 7]
abbrev dktX5_book_6 : List UInt8 := dkwX5_book_6 ++ dktX5_book_7
def dkwX5_book_5 : List UInt8 := [162, 0, 85, 28, 156, 0, 81, 42, 180, 0, 95, 3, 42, 42, 180, 0, 40, 7, 29, 104, 46, 42]
abbrev dktX5_book_5 : List UInt8 := dkwX5_book_5 ++ dktX5_book_6
def dkwX5_book_4 : List UInt8 := [42, 180, 0, 95, 28, 3, 79, 132, 2, 1, 167, 255, 241, 2, 61, 3, 62, 29, 42, 180, 1, 182]
abbrev dktX5_book_4 : List UInt8 := dkwX5_book_4 ++ dktX5_book_5
def dkwX5_book_3 : List UInt8 := [42, 89, 180, 1, 182, 4, 96, 181, 1, 182, 167, 255, 215, 42, 182, 1, 136, 3, 61, 28, 7, 162, 0, 16]
abbrev dktX5_book_3 : List UInt8 := dkwX5_book_3 ++ dktX5_book_4
def dkwX5_book_2 : List UInt8 := [42, 182, 1, 185, 153, 0, 12, 42, 16, 59, 182, 1, 16, 154, 0, 11, 16, 254, 42, 180, 0, 195, 100, 172]
abbrev dktX5_book_2 : List UInt8 := dkwX5_book_2 ++ dktX5_book_3
def dkwX5_book_1 : List UInt8 := [182, 1, 7, 42, 3, 181, 0, 192, 42, 3, 181, 1, 182, 42, 182, 0, 204, 42, 180, 0, 175, 153, 0, 40]
abbrev dktX5_book_1 : List UInt8 := dkwX5_book_1 ++ dktX5_book_2
def dkwX5_book_0 : List UInt8 := [42, 3, 181, 0, 1, 27, 3, 4, 184, 0, 207, 154, 0, 7, 17, 252, 24, 172, 42, 17, 1, 144]
abbrev dktX5_book_0 : List UInt8 := dkwX5_book_0 ++ dktX5_book_1
theorem dksX5_book_0 : cX5_book.data.toList.drop 0 = dktX5_book_0 := by decide +kernel
theorem dksX5_book_1 : cX5_book.data.toList.drop 22 = dktX5_book_1 := dk_seg dksX5_book_0 22 rfl rfl
theorem dksX5_book_2 : cX5_book.data.toList.drop 46 = dktX5_book_2 := dk_seg dksX5_book_1 24 rfl rfl
theorem dksX5_book_3 : cX5_book.data.toList.drop 70 = dktX5_book_3 := dk_seg dksX5_book_2 24 rfl rfl
theorem dksX5_book_4 : cX5_book.data.toList.drop 94 = dktX5_book_4 := dk_seg dksX5_book_3 24 rfl rfl
theorem dksX5_book_5 : cX5_book.data.toList.drop 116 = dktX5_book_5 := dk_seg dksX5_book_4 22 rfl rfl
theorem dksX5_book_6 : cX5_book.data.toList.drop 138 = dktX5_book_6 := dk_seg dksX5_book_5 22 rfl rfl
theorem dksX5_book_7 : cX5_book.data.toList.drop 162 = dktX5_book_7 := dk_seg dksX5_book_6 24 rfl rfl
theorem dksX5_book_8 : cX5_book.data.toList.drop 186 = dktX5_book_8 := dk_seg dksX5_book_7 24 rfl rfl
theorem dksX5_book_9 : cX5_book.data.toList.drop 210 = dktX5_book_9 := dk_seg dksX5_book_8 24 rfl rfl
theorem dksX5_book_10 : cX5_book.data.toList.drop 234 = dktX5_book_10 := dk_seg dksX5_book_9 24 rfl rfl
theorem dksX5_book_11 : cX5_book.data.toList.drop 256 = dktX5_book_11 := dk_seg dksX5_book_10 22 rfl rfl
theorem dksX5_book_12 : cX5_book.data.toList.drop 280 = dktX5_book_12 := dk_seg dksX5_book_11 24 rfl rfl
theorem dX5_book_0 : decode cX5_book 0 = .ok (.aload_n 0, 1) := dk_42 (dk_at dksX5_book_0 0 rfl rfl)
theorem dX5_book_1 : decode cX5_book 1 = .ok (.iconst 0, 1) := dk_3 (dk_at dksX5_book_0 1 rfl rfl)
theorem dX5_book_2 : decode cX5_book 2 = .ok (.putfield 1, 3) := dk_181 0 1 (dk_at dksX5_book_0 2 rfl rfl)
theorem dX5_book_5 : decode cX5_book 5 = .ok (.iload_n 1, 1) := dk_27 (dk_at dksX5_book_0 5 rfl rfl)
theorem dX5_book_6 : decode cX5_book 6 = .ok (.iconst 0, 1) := dk_3 (dk_at dksX5_book_0 6 rfl rfl)
theorem dX5_book_7 : decode cX5_book 7 = .ok (.iconst 1, 1) := dk_4 (dk_at dksX5_book_0 7 rfl rfl)
theorem dX5_book_8 : decode cX5_book 8 = .ok (.invokestatic 207, 3) := dk_184 0 207 (dk_at dksX5_book_0 8 rfl rfl)
theorem dX5_book_11 : decode cX5_book 11 = .ok (.ifCond .ne 7, 3) := dk_154 0 7 (dk_at dksX5_book_0 11 rfl rfl)
theorem dX5_book_14 : decode cX5_book 14 = .ok (.sipush (-1000), 3) := dk_17 252 24 (dk_at dksX5_book_0 14 rfl rfl)
theorem dX5_book_17 : decode cX5_book 17 = .ok (.ireturn, 1) := dk_172 (dk_at dksX5_book_0 17 rfl rfl)
theorem dX5_book_18 : decode cX5_book 18 = .ok (.aload_n 0, 1) := dk_42 (dk_at dksX5_book_0 18 rfl rfl)
theorem dX5_book_19 : decode cX5_book 19 = .ok (.sipush 400, 3) := dk_17 1 144 (dk_at dksX5_book_0 19 rfl rfl)
theorem dX5_book_22 : decode cX5_book 22 = .ok (.invokevirtual 263, 3) := dk_182 1 7 (dk_at dksX5_book_1 0 rfl rfl)
theorem dX5_book_25 : decode cX5_book 25 = .ok (.aload_n 0, 1) := dk_42 (dk_at dksX5_book_1 3 rfl rfl)
theorem dX5_book_26 : decode cX5_book 26 = .ok (.iconst 0, 1) := dk_3 (dk_at dksX5_book_1 4 rfl rfl)
theorem dX5_book_27 : decode cX5_book 27 = .ok (.putfield 192, 3) := dk_181 0 192 (dk_at dksX5_book_1 5 rfl rfl)
theorem dX5_book_30 : decode cX5_book 30 = .ok (.aload_n 0, 1) := dk_42 (dk_at dksX5_book_1 8 rfl rfl)
theorem dX5_book_31 : decode cX5_book 31 = .ok (.iconst 0, 1) := dk_3 (dk_at dksX5_book_1 9 rfl rfl)
theorem dX5_book_32 : decode cX5_book 32 = .ok (.putfield 438, 3) := dk_181 1 182 (dk_at dksX5_book_1 10 rfl rfl)
theorem dX5_book_35 : decode cX5_book 35 = .ok (.aload_n 0, 1) := dk_42 (dk_at dksX5_book_1 13 rfl rfl)
theorem dX5_book_36 : decode cX5_book 36 = .ok (.invokevirtual 204, 3) := dk_182 0 204 (dk_at dksX5_book_1 14 rfl rfl)
theorem dX5_book_39 : decode cX5_book 39 = .ok (.aload_n 0, 1) := dk_42 (dk_at dksX5_book_1 17 rfl rfl)
theorem dX5_book_40 : decode cX5_book 40 = .ok (.getfield 175, 3) := dk_180 0 175 (dk_at dksX5_book_1 18 rfl rfl)
theorem dX5_book_43 : decode cX5_book 43 = .ok (.ifCond .eq 40, 3) := dk_153 0 40 (dk_at dksX5_book_1 21 rfl rfl)
theorem dX5_book_46 : decode cX5_book 46 = .ok (.aload_n 0, 1) := dk_42 (dk_at dksX5_book_2 0 rfl rfl)
theorem dX5_book_47 : decode cX5_book 47 = .ok (.invokevirtual 441, 3) := dk_182 1 185 (dk_at dksX5_book_2 1 rfl rfl)
theorem dX5_book_50 : decode cX5_book 50 = .ok (.ifCond .eq 12, 3) := dk_153 0 12 (dk_at dksX5_book_2 4 rfl rfl)
theorem dX5_book_53 : decode cX5_book 53 = .ok (.aload_n 0, 1) := dk_42 (dk_at dksX5_book_2 7 rfl rfl)
theorem dX5_book_54 : decode cX5_book 54 = .ok (.bipush 59, 2) := dk_16 59 (dk_at dksX5_book_2 8 rfl rfl)
theorem dX5_book_56 : decode cX5_book 56 = .ok (.invokevirtual 272, 3) := dk_182 1 16 (dk_at dksX5_book_2 10 rfl rfl)
theorem dX5_book_59 : decode cX5_book 59 = .ok (.ifCond .ne 11, 3) := dk_154 0 11 (dk_at dksX5_book_2 13 rfl rfl)
theorem dX5_book_62 : decode cX5_book 62 = .ok (.bipush (-2), 2) := dk_16 254 (dk_at dksX5_book_2 16 rfl rfl)
theorem dX5_book_64 : decode cX5_book 64 = .ok (.aload_n 0, 1) := dk_42 (dk_at dksX5_book_2 18 rfl rfl)
theorem dX5_book_65 : decode cX5_book 65 = .ok (.getfield 195, 3) := dk_180 0 195 (dk_at dksX5_book_2 19 rfl rfl)
theorem dX5_book_68 : decode cX5_book 68 = .ok (.isub, 1) := dk_100 (dk_at dksX5_book_2 22 rfl rfl)
theorem dX5_book_69 : decode cX5_book 69 = .ok (.ireturn, 1) := dk_172 (dk_at dksX5_book_2 23 rfl rfl)
theorem dX5_book_70 : decode cX5_book 70 = .ok (.aload_n 0, 1) := dk_42 (dk_at dksX5_book_3 0 rfl rfl)
theorem dX5_book_71 : decode cX5_book 71 = .ok (.dup, 1) := dk_89 (dk_at dksX5_book_3 1 rfl rfl)
theorem dX5_book_72 : decode cX5_book 72 = .ok (.getfield 438, 3) := dk_180 1 182 (dk_at dksX5_book_3 2 rfl rfl)
theorem dX5_book_75 : decode cX5_book 75 = .ok (.iconst 1, 1) := dk_4 (dk_at dksX5_book_3 5 rfl rfl)
theorem dX5_book_76 : decode cX5_book 76 = .ok (.iadd, 1) := dk_96 (dk_at dksX5_book_3 6 rfl rfl)
theorem dX5_book_77 : decode cX5_book 77 = .ok (.putfield 438, 3) := dk_181 1 182 (dk_at dksX5_book_3 7 rfl rfl)
theorem dX5_book_80 : decode cX5_book 80 = .ok (.goto (-41), 3) := dk_167 255 215 (dk_at dksX5_book_3 10 rfl rfl)
theorem dX5_book_83 : decode cX5_book 83 = .ok (.aload_n 0, 1) := dk_42 (dk_at dksX5_book_3 13 rfl rfl)
theorem dX5_book_84 : decode cX5_book 84 = .ok (.invokevirtual 392, 3) := dk_182 1 136 (dk_at dksX5_book_3 14 rfl rfl)
theorem dX5_book_87 : decode cX5_book 87 = .ok (.iconst 0, 1) := dk_3 (dk_at dksX5_book_3 17 rfl rfl)
theorem dX5_book_88 : decode cX5_book 88 = .ok (.istore_n 2, 1) := dk_61 (dk_at dksX5_book_3 18 rfl rfl)
theorem dX5_book_89 : decode cX5_book 89 = .ok (.iload_n 2, 1) := dk_28 (dk_at dksX5_book_3 19 rfl rfl)
theorem dX5_book_90 : decode cX5_book 90 = .ok (.iconst 4, 1) := dk_7 (dk_at dksX5_book_3 20 rfl rfl)
theorem dX5_book_91 : decode cX5_book 91 = .ok (.if_icmp .ge 16, 3) := dk_162 0 16 (dk_at dksX5_book_3 21 rfl rfl)
theorem dX5_book_94 : decode cX5_book 94 = .ok (.aload_n 0, 1) := dk_42 (dk_at dksX5_book_4 0 rfl rfl)
theorem dX5_book_95 : decode cX5_book 95 = .ok (.getfield 95, 3) := dk_180 0 95 (dk_at dksX5_book_4 1 rfl rfl)
theorem dX5_book_98 : decode cX5_book 98 = .ok (.iload_n 2, 1) := dk_28 (dk_at dksX5_book_4 4 rfl rfl)
theorem dX5_book_99 : decode cX5_book 99 = .ok (.iconst 0, 1) := dk_3 (dk_at dksX5_book_4 5 rfl rfl)
theorem dX5_book_100 : decode cX5_book 100 = .ok (.iastore, 1) := dk_79 (dk_at dksX5_book_4 6 rfl rfl)
theorem dX5_book_101 : decode cX5_book 101 = .ok (.iinc 2 1, 3) := dk_132 2 1 (dk_at dksX5_book_4 7 rfl rfl)
theorem dX5_book_104 : decode cX5_book 104 = .ok (.goto (-15), 3) := dk_167 255 241 (dk_at dksX5_book_4 10 rfl rfl)
theorem dX5_book_107 : decode cX5_book 107 = .ok (.iconst (-1), 1) := dk_2 (dk_at dksX5_book_4 13 rfl rfl)
theorem dX5_book_108 : decode cX5_book 108 = .ok (.istore_n 2, 1) := dk_61 (dk_at dksX5_book_4 14 rfl rfl)
theorem dX5_book_109 : decode cX5_book 109 = .ok (.iconst 0, 1) := dk_3 (dk_at dksX5_book_4 15 rfl rfl)
theorem dX5_book_110 : decode cX5_book 110 = .ok (.istore_n 3, 1) := dk_62 (dk_at dksX5_book_4 16 rfl rfl)
theorem dX5_book_111 : decode cX5_book 111 = .ok (.iload_n 3, 1) := dk_29 (dk_at dksX5_book_4 17 rfl rfl)
theorem dX5_book_112 : decode cX5_book 112 = .ok (.aload_n 0, 1) := dk_42 (dk_at dksX5_book_4 18 rfl rfl)
theorem dX5_book_113 : decode cX5_book 113 = .ok (.getfield 438, 3) := dk_180 1 182 (dk_at dksX5_book_4 19 rfl rfl)
theorem dX5_book_116 : decode cX5_book 116 = .ok (.if_icmp .ge 85, 3) := dk_162 0 85 (dk_at dksX5_book_5 0 rfl rfl)
theorem dX5_book_119 : decode cX5_book 119 = .ok (.iload_n 2, 1) := dk_28 (dk_at dksX5_book_5 3 rfl rfl)
theorem dX5_book_120 : decode cX5_book 120 = .ok (.ifCond .ge 81, 3) := dk_156 0 81 (dk_at dksX5_book_5 4 rfl rfl)
theorem dX5_book_123 : decode cX5_book 123 = .ok (.aload_n 0, 1) := dk_42 (dk_at dksX5_book_5 7 rfl rfl)
theorem dX5_book_124 : decode cX5_book 124 = .ok (.getfield 95, 3) := dk_180 0 95 (dk_at dksX5_book_5 8 rfl rfl)
theorem dX5_book_127 : decode cX5_book 127 = .ok (.iconst 0, 1) := dk_3 (dk_at dksX5_book_5 11 rfl rfl)
theorem dX5_book_128 : decode cX5_book 128 = .ok (.aload_n 0, 1) := dk_42 (dk_at dksX5_book_5 12 rfl rfl)
theorem dX5_book_129 : decode cX5_book 129 = .ok (.aload_n 0, 1) := dk_42 (dk_at dksX5_book_5 13 rfl rfl)
theorem dX5_book_130 : decode cX5_book 130 = .ok (.getfield 40, 3) := dk_180 0 40 (dk_at dksX5_book_5 14 rfl rfl)
theorem dX5_book_133 : decode cX5_book 133 = .ok (.iconst 4, 1) := dk_7 (dk_at dksX5_book_5 17 rfl rfl)
theorem dX5_book_134 : decode cX5_book 134 = .ok (.iload_n 3, 1) := dk_29 (dk_at dksX5_book_5 18 rfl rfl)
theorem dX5_book_135 : decode cX5_book 135 = .ok (.imul, 1) := dk_104 (dk_at dksX5_book_5 19 rfl rfl)
theorem dX5_book_136 : decode cX5_book 136 = .ok (.iaload, 1) := dk_46 (dk_at dksX5_book_5 20 rfl rfl)
theorem dX5_book_137 : decode cX5_book 137 = .ok (.aload_n 0, 1) := dk_42 (dk_at dksX5_book_5 21 rfl rfl)
theorem dX5_book_138 : decode cX5_book 138 = .ok (.getfield 40, 3) := dk_180 0 40 (dk_at dksX5_book_6 0 rfl rfl)
theorem dX5_book_141 : decode cX5_book 141 = .ok (.iconst 4, 1) := dk_7 (dk_at dksX5_book_6 3 rfl rfl)
theorem dX5_book_142 : decode cX5_book 142 = .ok (.iload_n 3, 1) := dk_29 (dk_at dksX5_book_6 4 rfl rfl)
theorem dX5_book_143 : decode cX5_book 143 = .ok (.imul, 1) := dk_104 (dk_at dksX5_book_6 5 rfl rfl)
theorem dX5_book_144 : decode cX5_book 144 = .ok (.iconst 1, 1) := dk_4 (dk_at dksX5_book_6 6 rfl rfl)
theorem dX5_book_145 : decode cX5_book 145 = .ok (.iadd, 1) := dk_96 (dk_at dksX5_book_6 7 rfl rfl)
theorem dX5_book_146 : decode cX5_book 146 = .ok (.iaload, 1) := dk_46 (dk_at dksX5_book_6 8 rfl rfl)
theorem dX5_book_147 : decode cX5_book 147 = .ok (.aload_n 0, 1) := dk_42 (dk_at dksX5_book_6 9 rfl rfl)
theorem dX5_book_148 : decode cX5_book 148 = .ok (.getfield 40, 3) := dk_180 0 40 (dk_at dksX5_book_6 10 rfl rfl)
theorem dX5_book_151 : decode cX5_book 151 = .ok (.iconst 4, 1) := dk_7 (dk_at dksX5_book_6 13 rfl rfl)
theorem dX5_book_152 : decode cX5_book 152 = .ok (.iload_n 3, 1) := dk_29 (dk_at dksX5_book_6 14 rfl rfl)
theorem dX5_book_153 : decode cX5_book 153 = .ok (.imul, 1) := dk_104 (dk_at dksX5_book_6 15 rfl rfl)
theorem dX5_book_154 : decode cX5_book 154 = .ok (.iconst 2, 1) := dk_5 (dk_at dksX5_book_6 16 rfl rfl)
theorem dX5_book_155 : decode cX5_book 155 = .ok (.iadd, 1) := dk_96 (dk_at dksX5_book_6 17 rfl rfl)
theorem dX5_book_156 : decode cX5_book 156 = .ok (.iaload, 1) := dk_46 (dk_at dksX5_book_6 18 rfl rfl)
theorem dX5_book_157 : decode cX5_book 157 = .ok (.aload_n 0, 1) := dk_42 (dk_at dksX5_book_6 19 rfl rfl)
theorem dX5_book_158 : decode cX5_book 158 = .ok (.getfield 40, 3) := dk_180 0 40 (dk_at dksX5_book_6 20 rfl rfl)
theorem dX5_book_161 : decode cX5_book 161 = .ok (.iconst 4, 1) := dk_7 (dk_at dksX5_book_6 23 rfl rfl)
theorem dX5_book_162 : decode cX5_book 162 = .ok (.iload_n 3, 1) := dk_29 (dk_at dksX5_book_7 0 rfl rfl)
theorem dX5_book_163 : decode cX5_book 163 = .ok (.imul, 1) := dk_104 (dk_at dksX5_book_7 1 rfl rfl)
theorem dX5_book_164 : decode cX5_book 164 = .ok (.iconst 3, 1) := dk_6 (dk_at dksX5_book_7 2 rfl rfl)
theorem dX5_book_165 : decode cX5_book 165 = .ok (.iadd, 1) := dk_96 (dk_at dksX5_book_7 3 rfl rfl)
theorem dX5_book_166 : decode cX5_book 166 = .ok (.iaload, 1) := dk_46 (dk_at dksX5_book_7 4 rfl rfl)
theorem dX5_book_167 : decode cX5_book 167 = .ok (.invokevirtual 444, 3) := dk_182 1 188 (dk_at dksX5_book_7 5 rfl rfl)
theorem dX5_book_170 : decode cX5_book 170 = .ok (.iastore, 1) := dk_79 (dk_at dksX5_book_7 8 rfl rfl)
theorem dX5_book_171 : decode cX5_book 171 = .ok (.aload_n 0, 1) := dk_42 (dk_at dksX5_book_7 9 rfl rfl)
theorem dX5_book_172 : decode cX5_book 172 = .ok (.getfield 95, 3) := dk_180 0 95 (dk_at dksX5_book_7 10 rfl rfl)
theorem dX5_book_175 : decode cX5_book 175 = .ok (.iconst 0, 1) := dk_3 (dk_at dksX5_book_7 13 rfl rfl)
theorem dX5_book_176 : decode cX5_book 176 = .ok (.iaload, 1) := dk_46 (dk_at dksX5_book_7 14 rfl rfl)
theorem dX5_book_177 : decode cX5_book 177 = .ok (.ifCond .le 8, 3) := dk_158 0 8 (dk_at dksX5_book_7 15 rfl rfl)
theorem dX5_book_180 : decode cX5_book 180 = .ok (.iload_n 3, 1) := dk_29 (dk_at dksX5_book_7 18 rfl rfl)
theorem dX5_book_181 : decode cX5_book 181 = .ok (.istore_n 2, 1) := dk_61 (dk_at dksX5_book_7 19 rfl rfl)
theorem dX5_book_182 : decode cX5_book 182 = .ok (.goto 13, 3) := dk_167 0 13 (dk_at dksX5_book_7 20 rfl rfl)
theorem dX5_book_185 : decode cX5_book 185 = .ok (.aload_n 0, 1) := dk_42 (dk_at dksX5_book_7 23 rfl rfl)
theorem dX5_book_186 : decode cX5_book 186 = .ok (.getfield 95, 3) := dk_180 0 95 (dk_at dksX5_book_8 0 rfl rfl)
theorem dX5_book_189 : decode cX5_book 189 = .ok (.iconst 1, 1) := dk_4 (dk_at dksX5_book_8 3 rfl rfl)
theorem dX5_book_190 : decode cX5_book 190 = .ok (.dup2, 1) := dk_92 (dk_at dksX5_book_8 4 rfl rfl)
theorem dX5_book_191 : decode cX5_book 191 = .ok (.iaload, 1) := dk_46 (dk_at dksX5_book_8 5 rfl rfl)
theorem dX5_book_192 : decode cX5_book 192 = .ok (.iconst 1, 1) := dk_4 (dk_at dksX5_book_8 6 rfl rfl)
theorem dX5_book_193 : decode cX5_book 193 = .ok (.iadd, 1) := dk_96 (dk_at dksX5_book_8 7 rfl rfl)
theorem dX5_book_194 : decode cX5_book 194 = .ok (.iastore, 1) := dk_79 (dk_at dksX5_book_8 8 rfl rfl)
theorem dX5_book_195 : decode cX5_book 195 = .ok (.iinc 3 1, 3) := dk_132 3 1 (dk_at dksX5_book_8 9 rfl rfl)
theorem dX5_book_198 : decode cX5_book 198 = .ok (.goto (-87), 3) := dk_167 255 169 (dk_at dksX5_book_8 12 rfl rfl)
theorem dX5_book_201 : decode cX5_book 201 = .ok (.aload_n 0, 1) := dk_42 (dk_at dksX5_book_8 15 rfl rfl)
theorem dX5_book_202 : decode cX5_book 202 = .ok (.getfield 95, 3) := dk_180 0 95 (dk_at dksX5_book_8 16 rfl rfl)
theorem dX5_book_205 : decode cX5_book 205 = .ok (.iconst 2, 1) := dk_5 (dk_at dksX5_book_8 19 rfl rfl)
theorem dX5_book_206 : decode cX5_book 206 = .ok (.aload_n 0, 1) := dk_42 (dk_at dksX5_book_8 20 rfl rfl)
theorem dX5_book_207 : decode cX5_book 207 = .ok (.getfield 33, 3) := dk_180 0 33 (dk_at dksX5_book_8 21 rfl rfl)
theorem dX5_book_210 : decode cX5_book 210 = .ok (.bipush 91, 2) := dk_16 91 (dk_at dksX5_book_9 0 rfl rfl)
theorem dX5_book_212 : decode cX5_book 212 = .ok (.iaload, 1) := dk_46 (dk_at dksX5_book_9 2 rfl rfl)
theorem dX5_book_213 : decode cX5_book 213 = .ok (.iastore, 1) := dk_79 (dk_at dksX5_book_9 3 rfl rfl)
theorem dX5_book_214 : decode cX5_book 214 = .ok (.aload_n 0, 1) := dk_42 (dk_at dksX5_book_9 4 rfl rfl)
theorem dX5_book_215 : decode cX5_book 215 = .ok (.getfield 95, 3) := dk_180 0 95 (dk_at dksX5_book_9 5 rfl rfl)
theorem dX5_book_218 : decode cX5_book 218 = .ok (.iconst 3, 1) := dk_6 (dk_at dksX5_book_9 8 rfl rfl)
theorem dX5_book_219 : decode cX5_book 219 = .ok (.aload_n 0, 1) := dk_42 (dk_at dksX5_book_9 9 rfl rfl)
theorem dX5_book_220 : decode cX5_book 220 = .ok (.invokevirtual 318, 3) := dk_182 1 62 (dk_at dksX5_book_9 10 rfl rfl)
theorem dX5_book_223 : decode cX5_book 223 = .ok (.iastore, 1) := dk_79 (dk_at dksX5_book_9 13 rfl rfl)
theorem dX5_book_224 : decode cX5_book 224 = .ok (.aload_n 0, 1) := dk_42 (dk_at dksX5_book_9 14 rfl rfl)
theorem dX5_book_225 : decode cX5_book 225 = .ok (.iconst 1, 1) := dk_4 (dk_at dksX5_book_9 15 rfl rfl)
theorem dX5_book_226 : decode cX5_book 226 = .ok (.putfield 447, 3) := dk_181 1 191 (dk_at dksX5_book_9 16 rfl rfl)
theorem dX5_book_229 : decode cX5_book 229 = .ok (.iload_n 1, 1) := dk_27 (dk_at dksX5_book_9 19 rfl rfl)
theorem dX5_book_230 : decode cX5_book 230 = .ok (.iconst 1, 1) := dk_4 (dk_at dksX5_book_9 20 rfl rfl)
theorem dX5_book_231 : decode cX5_book 231 = .ok (.if_icmp .ne 52, 3) := dk_160 0 52 (dk_at dksX5_book_9 21 rfl rfl)
theorem dX5_book_234 : decode cX5_book 234 = .ok (.aload_n 0, 1) := dk_42 (dk_at dksX5_book_10 0 rfl rfl)
theorem dX5_book_235 : decode cX5_book 235 = .ok (.getfield 95, 3) := dk_180 0 95 (dk_at dksX5_book_10 1 rfl rfl)
theorem dX5_book_238 : decode cX5_book 238 = .ok (.iconst 1, 1) := dk_4 (dk_at dksX5_book_10 4 rfl rfl)
theorem dX5_book_239 : decode cX5_book 239 = .ok (.iaload, 1) := dk_46 (dk_at dksX5_book_10 5 rfl rfl)
theorem dX5_book_240 : decode cX5_book 240 = .ok (.ifCond .le 43, 3) := dk_158 0 43 (dk_at dksX5_book_10 6 rfl rfl)
theorem dX5_book_243 : decode cX5_book 243 = .ok (.aload_n 0, 1) := dk_42 (dk_at dksX5_book_10 9 rfl rfl)
theorem dX5_book_244 : decode cX5_book 244 = .ok (.invokevirtual 327, 3) := dk_182 1 71 (dk_at dksX5_book_10 10 rfl rfl)
theorem dX5_book_247 : decode cX5_book 247 = .ok (.iconst 0, 1) := dk_3 (dk_at dksX5_book_10 13 rfl rfl)
theorem dX5_book_248 : decode cX5_book 248 = .ok (.istore_n 3, 1) := dk_62 (dk_at dksX5_book_10 14 rfl rfl)
theorem dX5_book_249 : decode cX5_book 249 = .ok (.iload_n 3, 1) := dk_29 (dk_at dksX5_book_10 15 rfl rfl)
theorem dX5_book_250 : decode cX5_book 250 = .ok (.bipush 47, 2) := dk_16 47 (dk_at dksX5_book_10 16 rfl rfl)
theorem dX5_book_252 : decode cX5_book 252 = .ok (.if_icmp .ge 31, 3) := dk_162 0 31 (dk_at dksX5_book_10 18 rfl rfl)
theorem dX5_book_255 : decode cX5_book 255 = .ok (.aload_n 0, 1) := dk_42 (dk_at dksX5_book_10 21 rfl rfl)
theorem dX5_book_256 : decode cX5_book 256 = .ok (.getfield 50, 3) := dk_180 0 50 (dk_at dksX5_book_11 0 rfl rfl)
theorem dX5_book_259 : decode cX5_book 259 = .ok (.bipush 47, 2) := dk_16 47 (dk_at dksX5_book_11 3 rfl rfl)
theorem dX5_book_261 : decode cX5_book 261 = .ok (.aload_n 0, 1) := dk_42 (dk_at dksX5_book_11 5 rfl rfl)
theorem dX5_book_262 : decode cX5_book 262 = .ok (.getfield 275, 3) := dk_180 1 19 (dk_at dksX5_book_11 6 rfl rfl)
theorem dX5_book_265 : decode cX5_book 265 = .ok (.iconst 1, 1) := dk_4 (dk_at dksX5_book_11 9 rfl rfl)
theorem dX5_book_266 : decode cX5_book 266 = .ok (.isub, 1) := dk_100 (dk_at dksX5_book_11 10 rfl rfl)
theorem dX5_book_267 : decode cX5_book 267 = .ok (.imul, 1) := dk_104 (dk_at dksX5_book_11 11 rfl rfl)
theorem dX5_book_268 : decode cX5_book 268 = .ok (.iload_n 3, 1) := dk_29 (dk_at dksX5_book_11 12 rfl rfl)
theorem dX5_book_269 : decode cX5_book 269 = .ok (.iadd, 1) := dk_96 (dk_at dksX5_book_11 13 rfl rfl)
theorem dX5_book_270 : decode cX5_book 270 = .ok (.aload_n 0, 1) := dk_42 (dk_at dksX5_book_11 14 rfl rfl)
theorem dX5_book_271 : decode cX5_book 271 = .ok (.getfield 53, 3) := dk_180 0 53 (dk_at dksX5_book_11 15 rfl rfl)
theorem dX5_book_274 : decode cX5_book 274 = .ok (.iload_n 3, 1) := dk_29 (dk_at dksX5_book_11 18 rfl rfl)
theorem dX5_book_275 : decode cX5_book 275 = .ok (.iaload, 1) := dk_46 (dk_at dksX5_book_11 19 rfl rfl)
theorem dX5_book_276 : decode cX5_book 276 = .ok (.iastore, 1) := dk_79 (dk_at dksX5_book_11 20 rfl rfl)
theorem dX5_book_277 : decode cX5_book 277 = .ok (.iinc 3 1, 3) := dk_132 3 1 (dk_at dksX5_book_11 21 rfl rfl)
theorem dX5_book_280 : decode cX5_book 280 = .ok (.goto (-31), 3) := dk_167 255 225 (dk_at dksX5_book_12 0 rfl rfl)
theorem dX5_book_283 : decode cX5_book 283 = .ok (.iload_n 1, 1) := dk_27 (dk_at dksX5_book_12 3 rfl rfl)
theorem dX5_book_284 : decode cX5_book 284 = .ok (.ifCond .ne 7, 3) := dk_154 0 7 (dk_at dksX5_book_12 4 rfl rfl)
theorem dX5_book_287 : decode cX5_book 287 = .ok (.aload_n 0, 1) := dk_42 (dk_at dksX5_book_12 7 rfl rfl)
theorem dX5_book_288 : decode cX5_book 288 = .ok (.invokevirtual 395, 3) := dk_182 1 139 (dk_at dksX5_book_12 8 rfl rfl)
theorem dX5_book_291 : decode cX5_book 291 = .ok (.iload_n 2, 1) := dk_28 (dk_at dksX5_book_12 11 rfl rfl)
theorem dX5_book_292 : decode cX5_book 292 = .ok (.ireturn, 1) := dk_172 (dk_at dksX5_book_12 12 rfl rfl)
abbrev cX5_bookLine : ByteArray := prog_32_method_101_code
def yX5_bookLine : MethodName := ⟨RX5, "bookLine", "()Z"⟩
def dkwX5_bookLine_14 : List UInt8 := [4, 172]
abbrev dktX5_bookLine_14 : List UInt8 := dkwX5_bookLine_14 ++ []
def dkwX5_bookLine_13 : List UInt8 := [42, 4, 16, 99, 182, 0, 214, 154, 0, 5, 3, 172, 42, 180, 0, 40, 27, 6, 96, 42, 180, 0, 211, 79]
abbrev dktX5_bookLine_13 : List UInt8 := dkwX5_bookLine_13 ++ dktX5_bookLine_14
def dkwX5_bookLine_12 : List UInt8 := [154, 0, 5, 3, 172, 42, 180, 0, 40, 27, 5, 96, 42, 180, 0, 211, 79, 28, 8, 159, 0, 5, 4, 172]
abbrev dktX5_bookLine_12 : List UInt8 := dkwX5_bookLine_12 ++ dktX5_bookLine_13
def dkwX5_bookLine_11 : List UInt8 := [159, 0, 9, 28, 16, 6, 160, 0, 5, 4, 172, 42, 3, 42, 180, 0, 33, 3, 46, 182, 1, 4]
abbrev dktX5_bookLine_11 : List UInt8 := dkwX5_bookLine_11 ++ dktX5_bookLine_12
def dkwX5_bookLine_10 : List UInt8 := [154, 0, 5, 3, 172, 42, 180, 0, 40, 27, 4, 96, 42, 180, 0, 211, 79, 28, 6, 159, 0, 14, 28, 7]
abbrev dktX5_bookLine_10 : List UInt8 := dkwX5_bookLine_10 ++ dktX5_bookLine_11
def dkwX5_bookLine_9 : List UInt8 := [3, 16, 11, 182, 0, 214, 167, 0, 14, 42, 3, 42, 180, 0, 33, 3, 46, 182, 1, 4, 54, 4, 21, 4]
abbrev dktX5_bookLine_9 : List UInt8 := dkwX5_bookLine_9 ++ dktX5_bookLine_10
def dkwX5_bookLine_8 : List UInt8 := [160, 0, 13, 42, 4, 16, 60, 182, 0, 214, 167, 0, 34, 28, 6, 159, 0, 8, 28, 7, 160, 0, 13, 42]
abbrev dktX5_bookLine_8 : List UInt8 := dkwX5_bookLine_8 ++ dktX5_bookLine_9
def dkwX5_bookLine_7 : List UInt8 := [182, 0, 201, 172, 42, 182, 0, 204, 42, 180, 0, 40, 27, 4, 96, 29, 79, 167, 0, 71, 28, 16, 6]
abbrev dktX5_bookLine_7 : List UInt8 := dkwX5_bookLine_7 ++ dktX5_bookLine_8
def dkwX5_bookLine_6 : List UInt8 := [180, 0, 40, 27, 28, 79, 28, 154, 0, 35, 42, 20, 0, 124, 182, 0, 229, 154, 0, 9, 42, 4]
abbrev dktX5_bookLine_6 : List UInt8 := dkwX5_bookLine_6 ++ dktX5_bookLine_7
def dkwX5_bookLine_5 : List UInt8 := [180, 1, 182, 16, 40, 160, 0, 9, 42, 7, 182, 0, 201, 172, 42, 180, 0, 211, 62, 42, 182, 0, 204, 42]
abbrev dktX5_bookLine_5 : List UInt8 := dkwX5_bookLine_5 ++ dktX5_bookLine_6
def dkwX5_bookLine_4 : List UInt8 := [28, 154, 0, 20, 42, 16, 7, 42, 180, 0, 33, 5, 46, 182, 0, 226, 154, 0, 5, 3, 172, 42]
abbrev dktX5_bookLine_4 : List UInt8 := dkwX5_bookLine_4 ++ dktX5_bookLine_5
def dkwX5_bookLine_3 : List UInt8 := [153, 0, 7, 8, 167, 0, 19, 42, 20, 0, 136, 182, 0, 229, 153, 0, 8, 16, 6, 167, 0, 4, 3, 61]
abbrev dktX5_bookLine_3 : List UInt8 := dkwX5_bookLine_3 ++ dktX5_bookLine_4
def dkwX5_bookLine_2 : List UInt8 := [167, 0, 47, 42, 20, 0, 132, 182, 0, 229, 153, 0, 7, 7, 167, 0, 33, 42, 20, 0, 134, 182, 0, 229]
abbrev dktX5_bookLine_2 : List UInt8 := dkwX5_bookLine_2 ++ dktX5_bookLine_3
def dkwX5_bookLine_1 : List UInt8 := [20, 0, 128, 182, 0, 229, 153, 0, 7, 5, 167, 0, 61, 42, 20, 0, 130, 182, 0, 229, 153, 0, 7, 6]
abbrev dktX5_bookLine_1 : List UInt8 := dkwX5_bookLine_1 ++ dktX5_bookLine_2
def dkwX5_bookLine_0 : List UInt8 := [7, 42, 180, 1, 182, 104, 60, 42, 20, 0, 126, 182, 0, 229, 153, 0, 7, 4, 167, 0, 75, 42]
abbrev dktX5_bookLine_0 : List UInt8 := dkwX5_bookLine_0 ++ dktX5_bookLine_1
theorem dksX5_bookLine_0 : cX5_bookLine.data.toList.drop 0 = dktX5_bookLine_0 := by decide +kernel
theorem dksX5_bookLine_1 : cX5_bookLine.data.toList.drop 22 = dktX5_bookLine_1 := dk_seg dksX5_bookLine_0 22 rfl rfl
theorem dksX5_bookLine_2 : cX5_bookLine.data.toList.drop 46 = dktX5_bookLine_2 := dk_seg dksX5_bookLine_1 24 rfl rfl
theorem dksX5_bookLine_3 : cX5_bookLine.data.toList.drop 70 = dktX5_bookLine_3 := dk_seg dksX5_bookLine_2 24 rfl rfl
theorem dksX5_bookLine_4 : cX5_bookLine.data.toList.drop 94 = dktX5_bookLine_4 := dk_seg dksX5_bookLine_3 24 rfl rfl
theorem dksX5_bookLine_5 : cX5_bookLine.data.toList.drop 116 = dktX5_bookLine_5 := dk_seg dksX5_bookLine_4 22 rfl rfl
theorem dksX5_bookLine_6 : cX5_bookLine.data.toList.drop 140 = dktX5_bookLine_6 := dk_seg dksX5_bookLine_5 24 rfl rfl
theorem dksX5_bookLine_7 : cX5_bookLine.data.toList.drop 162 = dktX5_bookLine_7 := dk_seg dksX5_bookLine_6 22 rfl rfl
theorem dksX5_bookLine_8 : cX5_bookLine.data.toList.drop 185 = dktX5_bookLine_8 := dk_seg dksX5_bookLine_7 23 rfl rfl
theorem dksX5_bookLine_9 : cX5_bookLine.data.toList.drop 209 = dktX5_bookLine_9 := dk_seg dksX5_bookLine_8 24 rfl rfl
theorem dksX5_bookLine_10 : cX5_bookLine.data.toList.drop 233 = dktX5_bookLine_10 := dk_seg dksX5_bookLine_9 24 rfl rfl
theorem dksX5_bookLine_11 : cX5_bookLine.data.toList.drop 257 = dktX5_bookLine_11 := dk_seg dksX5_bookLine_10 24 rfl rfl
theorem dksX5_bookLine_12 : cX5_bookLine.data.toList.drop 279 = dktX5_bookLine_12 := dk_seg dksX5_bookLine_11 22 rfl rfl
theorem dksX5_bookLine_13 : cX5_bookLine.data.toList.drop 303 = dktX5_bookLine_13 := dk_seg dksX5_bookLine_12 24 rfl rfl
theorem dksX5_bookLine_14 : cX5_bookLine.data.toList.drop 327 = dktX5_bookLine_14 := dk_seg dksX5_bookLine_13 24 rfl rfl
theorem dX5_bookLine_0 : decode cX5_bookLine 0 = .ok (.iconst 4, 1) := dk_7 (dk_at dksX5_bookLine_0 0 rfl rfl)
theorem dX5_bookLine_1 : decode cX5_bookLine 1 = .ok (.aload_n 0, 1) := dk_42 (dk_at dksX5_bookLine_0 1 rfl rfl)
theorem dX5_bookLine_2 : decode cX5_bookLine 2 = .ok (.getfield 438, 3) := dk_180 1 182 (dk_at dksX5_bookLine_0 2 rfl rfl)
theorem dX5_bookLine_5 : decode cX5_bookLine 5 = .ok (.imul, 1) := dk_104 (dk_at dksX5_bookLine_0 5 rfl rfl)
theorem dX5_bookLine_6 : decode cX5_bookLine 6 = .ok (.istore_n 1, 1) := dk_60 (dk_at dksX5_bookLine_0 6 rfl rfl)
theorem dX5_bookLine_7 : decode cX5_bookLine 7 = .ok (.aload_n 0, 1) := dk_42 (dk_at dksX5_bookLine_0 7 rfl rfl)
theorem dX5_bookLine_8 : decode cX5_bookLine 8 = .ok (.ldc2_w 126, 3) := dk_20 0 126 (dk_at dksX5_bookLine_0 8 rfl rfl)
theorem dX5_bookLine_11 : decode cX5_bookLine 11 = .ok (.invokevirtual 229, 3) := dk_182 0 229 (dk_at dksX5_bookLine_0 11 rfl rfl)
theorem dX5_bookLine_14 : decode cX5_bookLine 14 = .ok (.ifCond .eq 7, 3) := dk_153 0 7 (dk_at dksX5_bookLine_0 14 rfl rfl)
theorem dX5_bookLine_17 : decode cX5_bookLine 17 = .ok (.iconst 1, 1) := dk_4 (dk_at dksX5_bookLine_0 17 rfl rfl)
theorem dX5_bookLine_18 : decode cX5_bookLine 18 = .ok (.goto 75, 3) := dk_167 0 75 (dk_at dksX5_bookLine_0 18 rfl rfl)
theorem dX5_bookLine_21 : decode cX5_bookLine 21 = .ok (.aload_n 0, 1) := dk_42 (dk_at dksX5_bookLine_0 21 rfl rfl)
theorem dX5_bookLine_22 : decode cX5_bookLine 22 = .ok (.ldc2_w 128, 3) := dk_20 0 128 (dk_at dksX5_bookLine_1 0 rfl rfl)
theorem dX5_bookLine_25 : decode cX5_bookLine 25 = .ok (.invokevirtual 229, 3) := dk_182 0 229 (dk_at dksX5_bookLine_1 3 rfl rfl)
theorem dX5_bookLine_28 : decode cX5_bookLine 28 = .ok (.ifCond .eq 7, 3) := dk_153 0 7 (dk_at dksX5_bookLine_1 6 rfl rfl)
theorem dX5_bookLine_31 : decode cX5_bookLine 31 = .ok (.iconst 2, 1) := dk_5 (dk_at dksX5_bookLine_1 9 rfl rfl)
theorem dX5_bookLine_32 : decode cX5_bookLine 32 = .ok (.goto 61, 3) := dk_167 0 61 (dk_at dksX5_bookLine_1 10 rfl rfl)
theorem dX5_bookLine_35 : decode cX5_bookLine 35 = .ok (.aload_n 0, 1) := dk_42 (dk_at dksX5_bookLine_1 13 rfl rfl)
theorem dX5_bookLine_36 : decode cX5_bookLine 36 = .ok (.ldc2_w 130, 3) := dk_20 0 130 (dk_at dksX5_bookLine_1 14 rfl rfl)
theorem dX5_bookLine_39 : decode cX5_bookLine 39 = .ok (.invokevirtual 229, 3) := dk_182 0 229 (dk_at dksX5_bookLine_1 17 rfl rfl)
theorem dX5_bookLine_42 : decode cX5_bookLine 42 = .ok (.ifCond .eq 7, 3) := dk_153 0 7 (dk_at dksX5_bookLine_1 20 rfl rfl)
theorem dX5_bookLine_45 : decode cX5_bookLine 45 = .ok (.iconst 3, 1) := dk_6 (dk_at dksX5_bookLine_1 23 rfl rfl)
theorem dX5_bookLine_46 : decode cX5_bookLine 46 = .ok (.goto 47, 3) := dk_167 0 47 (dk_at dksX5_bookLine_2 0 rfl rfl)
theorem dX5_bookLine_49 : decode cX5_bookLine 49 = .ok (.aload_n 0, 1) := dk_42 (dk_at dksX5_bookLine_2 3 rfl rfl)
theorem dX5_bookLine_50 : decode cX5_bookLine 50 = .ok (.ldc2_w 132, 3) := dk_20 0 132 (dk_at dksX5_bookLine_2 4 rfl rfl)
theorem dX5_bookLine_53 : decode cX5_bookLine 53 = .ok (.invokevirtual 229, 3) := dk_182 0 229 (dk_at dksX5_bookLine_2 7 rfl rfl)
theorem dX5_bookLine_56 : decode cX5_bookLine 56 = .ok (.ifCond .eq 7, 3) := dk_153 0 7 (dk_at dksX5_bookLine_2 10 rfl rfl)
theorem dX5_bookLine_59 : decode cX5_bookLine 59 = .ok (.iconst 4, 1) := dk_7 (dk_at dksX5_bookLine_2 13 rfl rfl)
theorem dX5_bookLine_60 : decode cX5_bookLine 60 = .ok (.goto 33, 3) := dk_167 0 33 (dk_at dksX5_bookLine_2 14 rfl rfl)
theorem dX5_bookLine_63 : decode cX5_bookLine 63 = .ok (.aload_n 0, 1) := dk_42 (dk_at dksX5_bookLine_2 17 rfl rfl)
theorem dX5_bookLine_64 : decode cX5_bookLine 64 = .ok (.ldc2_w 134, 3) := dk_20 0 134 (dk_at dksX5_bookLine_2 18 rfl rfl)
theorem dX5_bookLine_67 : decode cX5_bookLine 67 = .ok (.invokevirtual 229, 3) := dk_182 0 229 (dk_at dksX5_bookLine_2 21 rfl rfl)
theorem dX5_bookLine_70 : decode cX5_bookLine 70 = .ok (.ifCond .eq 7, 3) := dk_153 0 7 (dk_at dksX5_bookLine_3 0 rfl rfl)
theorem dX5_bookLine_73 : decode cX5_bookLine 73 = .ok (.iconst 5, 1) := dk_8 (dk_at dksX5_bookLine_3 3 rfl rfl)
theorem dX5_bookLine_74 : decode cX5_bookLine 74 = .ok (.goto 19, 3) := dk_167 0 19 (dk_at dksX5_bookLine_3 4 rfl rfl)
theorem dX5_bookLine_77 : decode cX5_bookLine 77 = .ok (.aload_n 0, 1) := dk_42 (dk_at dksX5_bookLine_3 7 rfl rfl)
theorem dX5_bookLine_78 : decode cX5_bookLine 78 = .ok (.ldc2_w 136, 3) := dk_20 0 136 (dk_at dksX5_bookLine_3 8 rfl rfl)
theorem dX5_bookLine_81 : decode cX5_bookLine 81 = .ok (.invokevirtual 229, 3) := dk_182 0 229 (dk_at dksX5_bookLine_3 11 rfl rfl)
theorem dX5_bookLine_84 : decode cX5_bookLine 84 = .ok (.ifCond .eq 8, 3) := dk_153 0 8 (dk_at dksX5_bookLine_3 14 rfl rfl)
theorem dX5_bookLine_87 : decode cX5_bookLine 87 = .ok (.bipush 6, 2) := dk_16 6 (dk_at dksX5_bookLine_3 17 rfl rfl)
theorem dX5_bookLine_89 : decode cX5_bookLine 89 = .ok (.goto 4, 3) := dk_167 0 4 (dk_at dksX5_bookLine_3 19 rfl rfl)
theorem dX5_bookLine_92 : decode cX5_bookLine 92 = .ok (.iconst 0, 1) := dk_3 (dk_at dksX5_bookLine_3 22 rfl rfl)
theorem dX5_bookLine_93 : decode cX5_bookLine 93 = .ok (.istore_n 2, 1) := dk_61 (dk_at dksX5_bookLine_3 23 rfl rfl)
theorem dX5_bookLine_94 : decode cX5_bookLine 94 = .ok (.iload_n 2, 1) := dk_28 (dk_at dksX5_bookLine_4 0 rfl rfl)
theorem dX5_bookLine_95 : decode cX5_bookLine 95 = .ok (.ifCond .ne 20, 3) := dk_154 0 20 (dk_at dksX5_bookLine_4 1 rfl rfl)
theorem dX5_bookLine_98 : decode cX5_bookLine 98 = .ok (.aload_n 0, 1) := dk_42 (dk_at dksX5_bookLine_4 4 rfl rfl)
theorem dX5_bookLine_99 : decode cX5_bookLine 99 = .ok (.bipush 7, 2) := dk_16 7 (dk_at dksX5_bookLine_4 5 rfl rfl)
theorem dX5_bookLine_101 : decode cX5_bookLine 101 = .ok (.aload_n 0, 1) := dk_42 (dk_at dksX5_bookLine_4 7 rfl rfl)
theorem dX5_bookLine_102 : decode cX5_bookLine 102 = .ok (.getfield 33, 3) := dk_180 0 33 (dk_at dksX5_bookLine_4 8 rfl rfl)
theorem dX5_bookLine_105 : decode cX5_bookLine 105 = .ok (.iconst 2, 1) := dk_5 (dk_at dksX5_bookLine_4 11 rfl rfl)
theorem dX5_bookLine_106 : decode cX5_bookLine 106 = .ok (.iaload, 1) := dk_46 (dk_at dksX5_bookLine_4 12 rfl rfl)
theorem dX5_bookLine_107 : decode cX5_bookLine 107 = .ok (.invokevirtual 226, 3) := dk_182 0 226 (dk_at dksX5_bookLine_4 13 rfl rfl)
theorem dX5_bookLine_110 : decode cX5_bookLine 110 = .ok (.ifCond .ne 5, 3) := dk_154 0 5 (dk_at dksX5_bookLine_4 16 rfl rfl)
theorem dX5_bookLine_113 : decode cX5_bookLine 113 = .ok (.iconst 0, 1) := dk_3 (dk_at dksX5_bookLine_4 19 rfl rfl)
theorem dX5_bookLine_114 : decode cX5_bookLine 114 = .ok (.ireturn, 1) := dk_172 (dk_at dksX5_bookLine_4 20 rfl rfl)
theorem dX5_bookLine_115 : decode cX5_bookLine 115 = .ok (.aload_n 0, 1) := dk_42 (dk_at dksX5_bookLine_4 21 rfl rfl)
theorem dX5_bookLine_116 : decode cX5_bookLine 116 = .ok (.getfield 438, 3) := dk_180 1 182 (dk_at dksX5_bookLine_5 0 rfl rfl)
theorem dX5_bookLine_119 : decode cX5_bookLine 119 = .ok (.bipush 40, 2) := dk_16 40 (dk_at dksX5_bookLine_5 3 rfl rfl)
theorem dX5_bookLine_121 : decode cX5_bookLine 121 = .ok (.if_icmp .ne 9, 3) := dk_160 0 9 (dk_at dksX5_bookLine_5 5 rfl rfl)
theorem dX5_bookLine_124 : decode cX5_bookLine 124 = .ok (.aload_n 0, 1) := dk_42 (dk_at dksX5_bookLine_5 8 rfl rfl)
theorem dX5_bookLine_125 : decode cX5_bookLine 125 = .ok (.iconst 4, 1) := dk_7 (dk_at dksX5_bookLine_5 9 rfl rfl)
theorem dX5_bookLine_126 : decode cX5_bookLine 126 = .ok (.invokevirtual 201, 3) := dk_182 0 201 (dk_at dksX5_bookLine_5 10 rfl rfl)
theorem dX5_bookLine_129 : decode cX5_bookLine 129 = .ok (.ireturn, 1) := dk_172 (dk_at dksX5_bookLine_5 13 rfl rfl)
theorem dX5_bookLine_130 : decode cX5_bookLine 130 = .ok (.aload_n 0, 1) := dk_42 (dk_at dksX5_bookLine_5 14 rfl rfl)
theorem dX5_bookLine_131 : decode cX5_bookLine 131 = .ok (.getfield 211, 3) := dk_180 0 211 (dk_at dksX5_bookLine_5 15 rfl rfl)
theorem dX5_bookLine_134 : decode cX5_bookLine 134 = .ok (.istore_n 3, 1) := dk_62 (dk_at dksX5_bookLine_5 18 rfl rfl)
theorem dX5_bookLine_135 : decode cX5_bookLine 135 = .ok (.aload_n 0, 1) := dk_42 (dk_at dksX5_bookLine_5 19 rfl rfl)
theorem dX5_bookLine_136 : decode cX5_bookLine 136 = .ok (.invokevirtual 204, 3) := dk_182 0 204 (dk_at dksX5_bookLine_5 20 rfl rfl)
theorem dX5_bookLine_139 : decode cX5_bookLine 139 = .ok (.aload_n 0, 1) := dk_42 (dk_at dksX5_bookLine_5 23 rfl rfl)
theorem dX5_bookLine_140 : decode cX5_bookLine 140 = .ok (.getfield 40, 3) := dk_180 0 40 (dk_at dksX5_bookLine_6 0 rfl rfl)
theorem dX5_bookLine_143 : decode cX5_bookLine 143 = .ok (.iload_n 1, 1) := dk_27 (dk_at dksX5_bookLine_6 3 rfl rfl)
theorem dX5_bookLine_144 : decode cX5_bookLine 144 = .ok (.iload_n 2, 1) := dk_28 (dk_at dksX5_bookLine_6 4 rfl rfl)
theorem dX5_bookLine_145 : decode cX5_bookLine 145 = .ok (.iastore, 1) := dk_79 (dk_at dksX5_bookLine_6 5 rfl rfl)
theorem dX5_bookLine_146 : decode cX5_bookLine 146 = .ok (.iload_n 2, 1) := dk_28 (dk_at dksX5_bookLine_6 6 rfl rfl)
theorem dX5_bookLine_147 : decode cX5_bookLine 147 = .ok (.ifCond .ne 35, 3) := dk_154 0 35 (dk_at dksX5_bookLine_6 7 rfl rfl)
theorem dX5_bookLine_150 : decode cX5_bookLine 150 = .ok (.aload_n 0, 1) := dk_42 (dk_at dksX5_bookLine_6 10 rfl rfl)
theorem dX5_bookLine_151 : decode cX5_bookLine 151 = .ok (.ldc2_w 124, 3) := dk_20 0 124 (dk_at dksX5_bookLine_6 11 rfl rfl)
theorem dX5_bookLine_154 : decode cX5_bookLine 154 = .ok (.invokevirtual 229, 3) := dk_182 0 229 (dk_at dksX5_bookLine_6 14 rfl rfl)
theorem dX5_bookLine_157 : decode cX5_bookLine 157 = .ok (.ifCond .ne 9, 3) := dk_154 0 9 (dk_at dksX5_bookLine_6 17 rfl rfl)
theorem dX5_bookLine_160 : decode cX5_bookLine 160 = .ok (.aload_n 0, 1) := dk_42 (dk_at dksX5_bookLine_6 20 rfl rfl)
theorem dX5_bookLine_161 : decode cX5_bookLine 161 = .ok (.iconst 1, 1) := dk_4 (dk_at dksX5_bookLine_6 21 rfl rfl)
theorem dX5_bookLine_162 : decode cX5_bookLine 162 = .ok (.invokevirtual 201, 3) := dk_182 0 201 (dk_at dksX5_bookLine_7 0 rfl rfl)
theorem dX5_bookLine_165 : decode cX5_bookLine 165 = .ok (.ireturn, 1) := dk_172 (dk_at dksX5_bookLine_7 3 rfl rfl)
theorem dX5_bookLine_166 : decode cX5_bookLine 166 = .ok (.aload_n 0, 1) := dk_42 (dk_at dksX5_bookLine_7 4 rfl rfl)
theorem dX5_bookLine_167 : decode cX5_bookLine 167 = .ok (.invokevirtual 204, 3) := dk_182 0 204 (dk_at dksX5_bookLine_7 5 rfl rfl)
theorem dX5_bookLine_170 : decode cX5_bookLine 170 = .ok (.aload_n 0, 1) := dk_42 (dk_at dksX5_bookLine_7 8 rfl rfl)
theorem dX5_bookLine_171 : decode cX5_bookLine 171 = .ok (.getfield 40, 3) := dk_180 0 40 (dk_at dksX5_bookLine_7 9 rfl rfl)
theorem dX5_bookLine_174 : decode cX5_bookLine 174 = .ok (.iload_n 1, 1) := dk_27 (dk_at dksX5_bookLine_7 12 rfl rfl)
theorem dX5_bookLine_175 : decode cX5_bookLine 175 = .ok (.iconst 1, 1) := dk_4 (dk_at dksX5_bookLine_7 13 rfl rfl)
theorem dX5_bookLine_176 : decode cX5_bookLine 176 = .ok (.iadd, 1) := dk_96 (dk_at dksX5_bookLine_7 14 rfl rfl)
theorem dX5_bookLine_177 : decode cX5_bookLine 177 = .ok (.iload_n 3, 1) := dk_29 (dk_at dksX5_bookLine_7 15 rfl rfl)
theorem dX5_bookLine_178 : decode cX5_bookLine 178 = .ok (.iastore, 1) := dk_79 (dk_at dksX5_bookLine_7 16 rfl rfl)
theorem dX5_bookLine_179 : decode cX5_bookLine 179 = .ok (.goto 71, 3) := dk_167 0 71 (dk_at dksX5_bookLine_7 17 rfl rfl)
theorem dX5_bookLine_182 : decode cX5_bookLine 182 = .ok (.iload_n 2, 1) := dk_28 (dk_at dksX5_bookLine_7 20 rfl rfl)
theorem dX5_bookLine_183 : decode cX5_bookLine 183 = .ok (.bipush 6, 2) := dk_16 6 (dk_at dksX5_bookLine_7 21 rfl rfl)
theorem dX5_bookLine_185 : decode cX5_bookLine 185 = .ok (.if_icmp .ne 13, 3) := dk_160 0 13 (dk_at dksX5_bookLine_8 0 rfl rfl)
theorem dX5_bookLine_188 : decode cX5_bookLine 188 = .ok (.aload_n 0, 1) := dk_42 (dk_at dksX5_bookLine_8 3 rfl rfl)
theorem dX5_bookLine_189 : decode cX5_bookLine 189 = .ok (.iconst 1, 1) := dk_4 (dk_at dksX5_bookLine_8 4 rfl rfl)
theorem dX5_bookLine_190 : decode cX5_bookLine 190 = .ok (.bipush 60, 2) := dk_16 60 (dk_at dksX5_bookLine_8 5 rfl rfl)
theorem dX5_bookLine_192 : decode cX5_bookLine 192 = .ok (.invokevirtual 214, 3) := dk_182 0 214 (dk_at dksX5_bookLine_8 7 rfl rfl)
theorem dX5_bookLine_195 : decode cX5_bookLine 195 = .ok (.goto 34, 3) := dk_167 0 34 (dk_at dksX5_bookLine_8 10 rfl rfl)
theorem dX5_bookLine_198 : decode cX5_bookLine 198 = .ok (.iload_n 2, 1) := dk_28 (dk_at dksX5_bookLine_8 13 rfl rfl)
theorem dX5_bookLine_199 : decode cX5_bookLine 199 = .ok (.iconst 3, 1) := dk_6 (dk_at dksX5_bookLine_8 14 rfl rfl)
theorem dX5_bookLine_200 : decode cX5_bookLine 200 = .ok (.if_icmp .eq 8, 3) := dk_159 0 8 (dk_at dksX5_bookLine_8 15 rfl rfl)
theorem dX5_bookLine_203 : decode cX5_bookLine 203 = .ok (.iload_n 2, 1) := dk_28 (dk_at dksX5_bookLine_8 18 rfl rfl)
theorem dX5_bookLine_204 : decode cX5_bookLine 204 = .ok (.iconst 4, 1) := dk_7 (dk_at dksX5_bookLine_8 19 rfl rfl)
theorem dX5_bookLine_205 : decode cX5_bookLine 205 = .ok (.if_icmp .ne 13, 3) := dk_160 0 13 (dk_at dksX5_bookLine_8 20 rfl rfl)
theorem dX5_bookLine_208 : decode cX5_bookLine 208 = .ok (.aload_n 0, 1) := dk_42 (dk_at dksX5_bookLine_8 23 rfl rfl)
theorem dX5_bookLine_209 : decode cX5_bookLine 209 = .ok (.iconst 0, 1) := dk_3 (dk_at dksX5_bookLine_9 0 rfl rfl)
theorem dX5_bookLine_210 : decode cX5_bookLine 210 = .ok (.bipush 11, 2) := dk_16 11 (dk_at dksX5_bookLine_9 1 rfl rfl)
theorem dX5_bookLine_212 : decode cX5_bookLine 212 = .ok (.invokevirtual 214, 3) := dk_182 0 214 (dk_at dksX5_bookLine_9 3 rfl rfl)
theorem dX5_bookLine_215 : decode cX5_bookLine 215 = .ok (.goto 14, 3) := dk_167 0 14 (dk_at dksX5_bookLine_9 6 rfl rfl)
theorem dX5_bookLine_218 : decode cX5_bookLine 218 = .ok (.aload_n 0, 1) := dk_42 (dk_at dksX5_bookLine_9 9 rfl rfl)
theorem dX5_bookLine_219 : decode cX5_bookLine 219 = .ok (.iconst 0, 1) := dk_3 (dk_at dksX5_bookLine_9 10 rfl rfl)
theorem dX5_bookLine_220 : decode cX5_bookLine 220 = .ok (.aload_n 0, 1) := dk_42 (dk_at dksX5_bookLine_9 11 rfl rfl)
theorem dX5_bookLine_221 : decode cX5_bookLine 221 = .ok (.getfield 33, 3) := dk_180 0 33 (dk_at dksX5_bookLine_9 12 rfl rfl)
theorem dX5_bookLine_224 : decode cX5_bookLine 224 = .ok (.iconst 0, 1) := dk_3 (dk_at dksX5_bookLine_9 15 rfl rfl)
theorem dX5_bookLine_225 : decode cX5_bookLine 225 = .ok (.iaload, 1) := dk_46 (dk_at dksX5_bookLine_9 16 rfl rfl)
theorem dX5_bookLine_226 : decode cX5_bookLine 226 = .ok (.invokevirtual 260, 3) := dk_182 1 4 (dk_at dksX5_bookLine_9 17 rfl rfl)
theorem dX5_bookLine_229 : decode cX5_bookLine 229 = .ok (.istore 4, 2) := dk_54 4 (dk_at dksX5_bookLine_9 20 rfl rfl)
theorem dX5_bookLine_231 : decode cX5_bookLine 231 = .ok (.iload 4, 2) := dk_21 4 (dk_at dksX5_bookLine_9 22 rfl rfl)
theorem dX5_bookLine_233 : decode cX5_bookLine 233 = .ok (.ifCond .ne 5, 3) := dk_154 0 5 (dk_at dksX5_bookLine_10 0 rfl rfl)
theorem dX5_bookLine_236 : decode cX5_bookLine 236 = .ok (.iconst 0, 1) := dk_3 (dk_at dksX5_bookLine_10 3 rfl rfl)
theorem dX5_bookLine_237 : decode cX5_bookLine 237 = .ok (.ireturn, 1) := dk_172 (dk_at dksX5_bookLine_10 4 rfl rfl)
theorem dX5_bookLine_238 : decode cX5_bookLine 238 = .ok (.aload_n 0, 1) := dk_42 (dk_at dksX5_bookLine_10 5 rfl rfl)
theorem dX5_bookLine_239 : decode cX5_bookLine 239 = .ok (.getfield 40, 3) := dk_180 0 40 (dk_at dksX5_bookLine_10 6 rfl rfl)
theorem dX5_bookLine_242 : decode cX5_bookLine 242 = .ok (.iload_n 1, 1) := dk_27 (dk_at dksX5_bookLine_10 9 rfl rfl)
theorem dX5_bookLine_243 : decode cX5_bookLine 243 = .ok (.iconst 1, 1) := dk_4 (dk_at dksX5_bookLine_10 10 rfl rfl)
theorem dX5_bookLine_244 : decode cX5_bookLine 244 = .ok (.iadd, 1) := dk_96 (dk_at dksX5_bookLine_10 11 rfl rfl)
theorem dX5_bookLine_245 : decode cX5_bookLine 245 = .ok (.aload_n 0, 1) := dk_42 (dk_at dksX5_bookLine_10 12 rfl rfl)
theorem dX5_bookLine_246 : decode cX5_bookLine 246 = .ok (.getfield 211, 3) := dk_180 0 211 (dk_at dksX5_bookLine_10 13 rfl rfl)
theorem dX5_bookLine_249 : decode cX5_bookLine 249 = .ok (.iastore, 1) := dk_79 (dk_at dksX5_bookLine_10 16 rfl rfl)
theorem dX5_bookLine_250 : decode cX5_bookLine 250 = .ok (.iload_n 2, 1) := dk_28 (dk_at dksX5_bookLine_10 17 rfl rfl)
theorem dX5_bookLine_251 : decode cX5_bookLine 251 = .ok (.iconst 3, 1) := dk_6 (dk_at dksX5_bookLine_10 18 rfl rfl)
theorem dX5_bookLine_252 : decode cX5_bookLine 252 = .ok (.if_icmp .eq 14, 3) := dk_159 0 14 (dk_at dksX5_bookLine_10 19 rfl rfl)
theorem dX5_bookLine_255 : decode cX5_bookLine 255 = .ok (.iload_n 2, 1) := dk_28 (dk_at dksX5_bookLine_10 22 rfl rfl)
theorem dX5_bookLine_256 : decode cX5_bookLine 256 = .ok (.iconst 4, 1) := dk_7 (dk_at dksX5_bookLine_10 23 rfl rfl)
theorem dX5_bookLine_257 : decode cX5_bookLine 257 = .ok (.if_icmp .eq 9, 3) := dk_159 0 9 (dk_at dksX5_bookLine_11 0 rfl rfl)
theorem dX5_bookLine_260 : decode cX5_bookLine 260 = .ok (.iload_n 2, 1) := dk_28 (dk_at dksX5_bookLine_11 3 rfl rfl)
theorem dX5_bookLine_261 : decode cX5_bookLine 261 = .ok (.bipush 6, 2) := dk_16 6 (dk_at dksX5_bookLine_11 4 rfl rfl)
theorem dX5_bookLine_263 : decode cX5_bookLine 263 = .ok (.if_icmp .ne 5, 3) := dk_160 0 5 (dk_at dksX5_bookLine_11 6 rfl rfl)
theorem dX5_bookLine_266 : decode cX5_bookLine 266 = .ok (.iconst 1, 1) := dk_4 (dk_at dksX5_bookLine_11 9 rfl rfl)
theorem dX5_bookLine_267 : decode cX5_bookLine 267 = .ok (.ireturn, 1) := dk_172 (dk_at dksX5_bookLine_11 10 rfl rfl)
theorem dX5_bookLine_268 : decode cX5_bookLine 268 = .ok (.aload_n 0, 1) := dk_42 (dk_at dksX5_bookLine_11 11 rfl rfl)
theorem dX5_bookLine_269 : decode cX5_bookLine 269 = .ok (.iconst 0, 1) := dk_3 (dk_at dksX5_bookLine_11 12 rfl rfl)
theorem dX5_bookLine_270 : decode cX5_bookLine 270 = .ok (.aload_n 0, 1) := dk_42 (dk_at dksX5_bookLine_11 13 rfl rfl)
theorem dX5_bookLine_271 : decode cX5_bookLine 271 = .ok (.getfield 33, 3) := dk_180 0 33 (dk_at dksX5_bookLine_11 14 rfl rfl)
theorem dX5_bookLine_274 : decode cX5_bookLine 274 = .ok (.iconst 0, 1) := dk_3 (dk_at dksX5_bookLine_11 17 rfl rfl)
theorem dX5_bookLine_275 : decode cX5_bookLine 275 = .ok (.iaload, 1) := dk_46 (dk_at dksX5_bookLine_11 18 rfl rfl)
theorem dX5_bookLine_276 : decode cX5_bookLine 276 = .ok (.invokevirtual 260, 3) := dk_182 1 4 (dk_at dksX5_bookLine_11 19 rfl rfl)
theorem dX5_bookLine_279 : decode cX5_bookLine 279 = .ok (.ifCond .ne 5, 3) := dk_154 0 5 (dk_at dksX5_bookLine_12 0 rfl rfl)
theorem dX5_bookLine_282 : decode cX5_bookLine 282 = .ok (.iconst 0, 1) := dk_3 (dk_at dksX5_bookLine_12 3 rfl rfl)
theorem dX5_bookLine_283 : decode cX5_bookLine 283 = .ok (.ireturn, 1) := dk_172 (dk_at dksX5_bookLine_12 4 rfl rfl)
theorem dX5_bookLine_284 : decode cX5_bookLine 284 = .ok (.aload_n 0, 1) := dk_42 (dk_at dksX5_bookLine_12 5 rfl rfl)
theorem dX5_bookLine_285 : decode cX5_bookLine 285 = .ok (.getfield 40, 3) := dk_180 0 40 (dk_at dksX5_bookLine_12 6 rfl rfl)
theorem dX5_bookLine_288 : decode cX5_bookLine 288 = .ok (.iload_n 1, 1) := dk_27 (dk_at dksX5_bookLine_12 9 rfl rfl)
theorem dX5_bookLine_289 : decode cX5_bookLine 289 = .ok (.iconst 2, 1) := dk_5 (dk_at dksX5_bookLine_12 10 rfl rfl)
theorem dX5_bookLine_290 : decode cX5_bookLine 290 = .ok (.iadd, 1) := dk_96 (dk_at dksX5_bookLine_12 11 rfl rfl)
theorem dX5_bookLine_291 : decode cX5_bookLine 291 = .ok (.aload_n 0, 1) := dk_42 (dk_at dksX5_bookLine_12 12 rfl rfl)
theorem dX5_bookLine_292 : decode cX5_bookLine 292 = .ok (.getfield 211, 3) := dk_180 0 211 (dk_at dksX5_bookLine_12 13 rfl rfl)
theorem dX5_bookLine_295 : decode cX5_bookLine 295 = .ok (.iastore, 1) := dk_79 (dk_at dksX5_bookLine_12 16 rfl rfl)
theorem dX5_bookLine_296 : decode cX5_bookLine 296 = .ok (.iload_n 2, 1) := dk_28 (dk_at dksX5_bookLine_12 17 rfl rfl)
theorem dX5_bookLine_297 : decode cX5_bookLine 297 = .ok (.iconst 5, 1) := dk_8 (dk_at dksX5_bookLine_12 18 rfl rfl)
theorem dX5_bookLine_298 : decode cX5_bookLine 298 = .ok (.if_icmp .eq 5, 3) := dk_159 0 5 (dk_at dksX5_bookLine_12 19 rfl rfl)
theorem dX5_bookLine_301 : decode cX5_bookLine 301 = .ok (.iconst 1, 1) := dk_4 (dk_at dksX5_bookLine_12 22 rfl rfl)
theorem dX5_bookLine_302 : decode cX5_bookLine 302 = .ok (.ireturn, 1) := dk_172 (dk_at dksX5_bookLine_12 23 rfl rfl)
theorem dX5_bookLine_303 : decode cX5_bookLine 303 = .ok (.aload_n 0, 1) := dk_42 (dk_at dksX5_bookLine_13 0 rfl rfl)
theorem dX5_bookLine_304 : decode cX5_bookLine 304 = .ok (.iconst 1, 1) := dk_4 (dk_at dksX5_bookLine_13 1 rfl rfl)
theorem dX5_bookLine_305 : decode cX5_bookLine 305 = .ok (.bipush 99, 2) := dk_16 99 (dk_at dksX5_bookLine_13 2 rfl rfl)
theorem dX5_bookLine_307 : decode cX5_bookLine 307 = .ok (.invokevirtual 214, 3) := dk_182 0 214 (dk_at dksX5_bookLine_13 4 rfl rfl)
theorem dX5_bookLine_310 : decode cX5_bookLine 310 = .ok (.ifCond .ne 5, 3) := dk_154 0 5 (dk_at dksX5_bookLine_13 7 rfl rfl)
theorem dX5_bookLine_313 : decode cX5_bookLine 313 = .ok (.iconst 0, 1) := dk_3 (dk_at dksX5_bookLine_13 10 rfl rfl)
theorem dX5_bookLine_314 : decode cX5_bookLine 314 = .ok (.ireturn, 1) := dk_172 (dk_at dksX5_bookLine_13 11 rfl rfl)
theorem dX5_bookLine_315 : decode cX5_bookLine 315 = .ok (.aload_n 0, 1) := dk_42 (dk_at dksX5_bookLine_13 12 rfl rfl)
theorem dX5_bookLine_316 : decode cX5_bookLine 316 = .ok (.getfield 40, 3) := dk_180 0 40 (dk_at dksX5_bookLine_13 13 rfl rfl)
theorem dX5_bookLine_319 : decode cX5_bookLine 319 = .ok (.iload_n 1, 1) := dk_27 (dk_at dksX5_bookLine_13 16 rfl rfl)
theorem dX5_bookLine_320 : decode cX5_bookLine 320 = .ok (.iconst 3, 1) := dk_6 (dk_at dksX5_bookLine_13 17 rfl rfl)
theorem dX5_bookLine_321 : decode cX5_bookLine 321 = .ok (.iadd, 1) := dk_96 (dk_at dksX5_bookLine_13 18 rfl rfl)
theorem dX5_bookLine_322 : decode cX5_bookLine 322 = .ok (.aload_n 0, 1) := dk_42 (dk_at dksX5_bookLine_13 19 rfl rfl)
theorem dX5_bookLine_323 : decode cX5_bookLine 323 = .ok (.getfield 211, 3) := dk_180 0 211 (dk_at dksX5_bookLine_13 20 rfl rfl)
theorem dX5_bookLine_326 : decode cX5_bookLine 326 = .ok (.iastore, 1) := dk_79 (dk_at dksX5_bookLine_13 23 rfl rfl)
theorem dX5_bookLine_327 : decode cX5_bookLine 327 = .ok (.iconst 1, 1) := dk_4 (dk_at dksX5_bookLine_14 0 rfl rfl)
theorem dX5_bookLine_328 : decode cX5_bookLine 328 = .ok (.ireturn, 1) := dk_172 (dk_at dksX5_bookLine_14 1 rfl rfl)
abbrev cX5_does : ByteArray := prog_32_method_102_code
def yX5_does : MethodName := ⟨RX5, "does", "(IIII)I"⟩
def dkwX5_does_10 : List UInt8 := [21, 5, 158, 0, 13, 16, 10, 27, 104, 21, 5, 96, 167, 0, 4, 3, 172]
abbrev dktX5_does_10 : List UInt8 := dkwX5_does_10 ++ []
def dkwX5_does_9 : List UInt8 := [180, 0, 33, 16, 91, 46, 28, 96, 17, 1, 144, 164, 0, 6, 16, 61, 172, 42, 28, 182, 1, 95, 87]
abbrev dktX5_does_9 : List UInt8 := dkwX5_does_9 ++ dktX5_does_10
def dkwX5_does_8 : List UInt8 := [182, 1, 88, 54, 5, 21, 5, 154, 0, 38, 42, 28, 29, 21, 4, 182, 1, 91, 167, 0, 27, 42]
abbrev dktX5_does_8 : List UInt8 := dkwX5_does_8 ++ dktX5_does_9
def dkwX5_does_7 : List UInt8 := [154, 0, 69, 42, 180, 0, 33, 16, 93, 92, 46, 4, 28, 120, 130, 79, 167, 0, 53, 42, 28, 29, 21, 4]
abbrev dktX5_does_7 : List UInt8 := dkwX5_does_7 ++ dktX5_does_8
def dkwX5_does_6 : List UInt8 := [130, 79, 167, 0, 91, 42, 28, 27, 6, 160, 0, 7, 4, 167, 0, 4, 3, 182, 1, 81, 54, 5, 21, 5]
abbrev dktX5_does_6 : List UInt8 := dkwX5_does_6 ++ dktX5_does_7
def dkwX5_does_5 : List UInt8 := [167, 0, 4, 4, 54, 5, 21, 5, 154, 0, 109, 42, 180, 0, 33, 16, 101, 28, 96, 92, 46, 4, 29, 120]
abbrev dktX5_does_5 : List UInt8 := dkwX5_does_5 ++ dktX5_does_6
def dkwX5_does_4 : List UInt8 := [128, 79, 167, 0, 137, 42, 180, 0, 33, 16, 101, 28, 96, 46, 29, 184, 1, 1, 153, 0, 7, 3]
abbrev dktX5_does_4 : List UInt8 := dkwX5_does_4 ++ dktX5_does_5
def dkwX5_does_3 : List UInt8 := [29, 182, 1, 78, 54, 5, 21, 5, 154, 0, 155, 42, 180, 0, 33, 16, 101, 28, 96, 92, 46, 4, 29, 120]
abbrev dktX5_does_3 : List UInt8 := dkwX5_does_3 ++ dktX5_does_4
def dkwX5_does_2 : List UInt8 := [42, 28, 29, 182, 1, 36, 54, 5, 21, 5, 154, 0, 177, 42, 28, 29, 182, 1, 74, 167, 0, 168, 42, 28]
abbrev dktX5_does_2 : List UInt8 := dkwX5_does_2 ++ dktX5_does_3
def dkwX5_does_1 : List UInt8 := [170, 0, 0, 0, 0, 0, 0, 203, 0, 0, 0, 0, 0, 0, 0, 5, 0, 0, 0, 40, 0, 0, 0, 62, 0, 0, 0, 93, 0, 0, 0, 139, 0, 0, 0, 139, 0, 0, 0, 177]
abbrev dktX5_does_1 : List UInt8 := dkwX5_does_1 ++ dktX5_does_2
def dkwX5_does_0 : List UInt8 := [3, 54, 5, 27]
abbrev dktX5_does_0 : List UInt8 := dkwX5_does_0 ++ dktX5_does_1
theorem dksX5_does_0 : cX5_does.data.toList.drop 0 = dktX5_does_0 := by decide +kernel
theorem dksX5_does_1 : cX5_does.data.toList.drop 4 = dktX5_does_1 := dk_seg dksX5_does_0 4 rfl rfl
theorem dksX5_does_2 : cX5_does.data.toList.drop 44 = dktX5_does_2 := dk_seg dksX5_does_1 40 rfl rfl
theorem dksX5_does_3 : cX5_does.data.toList.drop 68 = dktX5_does_3 := dk_seg dksX5_does_2 24 rfl rfl
theorem dksX5_does_4 : cX5_does.data.toList.drop 92 = dktX5_does_4 := dk_seg dksX5_does_3 24 rfl rfl
theorem dksX5_does_5 : cX5_does.data.toList.drop 114 = dktX5_does_5 := dk_seg dksX5_does_4 22 rfl rfl
theorem dksX5_does_6 : cX5_does.data.toList.drop 138 = dktX5_does_6 := dk_seg dksX5_does_5 24 rfl rfl
theorem dksX5_does_7 : cX5_does.data.toList.drop 162 = dktX5_does_7 := dk_seg dksX5_does_6 24 rfl rfl
theorem dksX5_does_8 : cX5_does.data.toList.drop 186 = dktX5_does_8 := dk_seg dksX5_does_7 24 rfl rfl
theorem dksX5_does_9 : cX5_does.data.toList.drop 208 = dktX5_does_9 := dk_seg dksX5_does_8 22 rfl rfl
theorem dksX5_does_10 : cX5_does.data.toList.drop 231 = dktX5_does_10 := dk_seg dksX5_does_9 23 rfl rfl
theorem dX5_does_0 : decode cX5_does 0 = .ok (.iconst 0, 1) := dk_3 (dk_at dksX5_does_0 0 rfl rfl)
theorem dX5_does_1 : decode cX5_does 1 = .ok (.istore 5, 2) := dk_54 5 (dk_at dksX5_does_0 1 rfl rfl)
theorem dX5_does_3 : decode cX5_does 3 = .ok (.iload_n 1, 1) := dk_27 (dk_at dksX5_does_0 3 rfl rfl)
theorem dX5_does_4 : decode cX5_does 4 = .ok (.tableswitch 203 0 5 #[40, 62, 93, 139, 139, 177], 40) := by decide +kernel
theorem dX5_does_44 : decode cX5_does 44 = .ok (.aload_n 0, 1) := dk_42 (dk_at dksX5_does_2 0 rfl rfl)
theorem dX5_does_45 : decode cX5_does 45 = .ok (.iload_n 2, 1) := dk_28 (dk_at dksX5_does_2 1 rfl rfl)
theorem dX5_does_46 : decode cX5_does 46 = .ok (.iload_n 3, 1) := dk_29 (dk_at dksX5_does_2 2 rfl rfl)
theorem dX5_does_47 : decode cX5_does 47 = .ok (.invokevirtual 292, 3) := dk_182 1 36 (dk_at dksX5_does_2 3 rfl rfl)
theorem dX5_does_50 : decode cX5_does 50 = .ok (.istore 5, 2) := dk_54 5 (dk_at dksX5_does_2 6 rfl rfl)
theorem dX5_does_52 : decode cX5_does 52 = .ok (.iload 5, 2) := dk_21 5 (dk_at dksX5_does_2 8 rfl rfl)
theorem dX5_does_54 : decode cX5_does 54 = .ok (.ifCond .ne 177, 3) := dk_154 0 177 (dk_at dksX5_does_2 10 rfl rfl)
theorem dX5_does_57 : decode cX5_does 57 = .ok (.aload_n 0, 1) := dk_42 (dk_at dksX5_does_2 13 rfl rfl)
theorem dX5_does_58 : decode cX5_does 58 = .ok (.iload_n 2, 1) := dk_28 (dk_at dksX5_does_2 14 rfl rfl)
theorem dX5_does_59 : decode cX5_does 59 = .ok (.iload_n 3, 1) := dk_29 (dk_at dksX5_does_2 15 rfl rfl)
theorem dX5_does_60 : decode cX5_does 60 = .ok (.invokevirtual 330, 3) := dk_182 1 74 (dk_at dksX5_does_2 16 rfl rfl)
theorem dX5_does_63 : decode cX5_does 63 = .ok (.goto 168, 3) := dk_167 0 168 (dk_at dksX5_does_2 19 rfl rfl)
theorem dX5_does_66 : decode cX5_does 66 = .ok (.aload_n 0, 1) := dk_42 (dk_at dksX5_does_2 22 rfl rfl)
theorem dX5_does_67 : decode cX5_does 67 = .ok (.iload_n 2, 1) := dk_28 (dk_at dksX5_does_2 23 rfl rfl)
theorem dX5_does_68 : decode cX5_does 68 = .ok (.iload_n 3, 1) := dk_29 (dk_at dksX5_does_3 0 rfl rfl)
theorem dX5_does_69 : decode cX5_does 69 = .ok (.invokevirtual 334, 3) := dk_182 1 78 (dk_at dksX5_does_3 1 rfl rfl)
theorem dX5_does_72 : decode cX5_does 72 = .ok (.istore 5, 2) := dk_54 5 (dk_at dksX5_does_3 4 rfl rfl)
theorem dX5_does_74 : decode cX5_does 74 = .ok (.iload 5, 2) := dk_21 5 (dk_at dksX5_does_3 6 rfl rfl)
theorem dX5_does_76 : decode cX5_does 76 = .ok (.ifCond .ne 155, 3) := dk_154 0 155 (dk_at dksX5_does_3 8 rfl rfl)
theorem dX5_does_79 : decode cX5_does 79 = .ok (.aload_n 0, 1) := dk_42 (dk_at dksX5_does_3 11 rfl rfl)
theorem dX5_does_80 : decode cX5_does 80 = .ok (.getfield 33, 3) := dk_180 0 33 (dk_at dksX5_does_3 12 rfl rfl)
theorem dX5_does_83 : decode cX5_does 83 = .ok (.bipush 101, 2) := dk_16 101 (dk_at dksX5_does_3 15 rfl rfl)
theorem dX5_does_85 : decode cX5_does 85 = .ok (.iload_n 2, 1) := dk_28 (dk_at dksX5_does_3 17 rfl rfl)
theorem dX5_does_86 : decode cX5_does 86 = .ok (.iadd, 1) := dk_96 (dk_at dksX5_does_3 18 rfl rfl)
theorem dX5_does_87 : decode cX5_does 87 = .ok (.dup2, 1) := dk_92 (dk_at dksX5_does_3 19 rfl rfl)
theorem dX5_does_88 : decode cX5_does 88 = .ok (.iaload, 1) := dk_46 (dk_at dksX5_does_3 20 rfl rfl)
theorem dX5_does_89 : decode cX5_does 89 = .ok (.iconst 1, 1) := dk_4 (dk_at dksX5_does_3 21 rfl rfl)
theorem dX5_does_90 : decode cX5_does 90 = .ok (.iload_n 3, 1) := dk_29 (dk_at dksX5_does_3 22 rfl rfl)
theorem dX5_does_91 : decode cX5_does 91 = .ok (.ishl, 1) := dk_120 (dk_at dksX5_does_3 23 rfl rfl)
theorem dX5_does_92 : decode cX5_does 92 = .ok (.ior, 1) := dk_128 (dk_at dksX5_does_4 0 rfl rfl)
theorem dX5_does_93 : decode cX5_does 93 = .ok (.iastore, 1) := dk_79 (dk_at dksX5_does_4 1 rfl rfl)
theorem dX5_does_94 : decode cX5_does 94 = .ok (.goto 137, 3) := dk_167 0 137 (dk_at dksX5_does_4 2 rfl rfl)
theorem dX5_does_97 : decode cX5_does 97 = .ok (.aload_n 0, 1) := dk_42 (dk_at dksX5_does_4 5 rfl rfl)
theorem dX5_does_98 : decode cX5_does 98 = .ok (.getfield 33, 3) := dk_180 0 33 (dk_at dksX5_does_4 6 rfl rfl)
theorem dX5_does_101 : decode cX5_does 101 = .ok (.bipush 101, 2) := dk_16 101 (dk_at dksX5_does_4 9 rfl rfl)
theorem dX5_does_103 : decode cX5_does 103 = .ok (.iload_n 2, 1) := dk_28 (dk_at dksX5_does_4 11 rfl rfl)
theorem dX5_does_104 : decode cX5_does 104 = .ok (.iadd, 1) := dk_96 (dk_at dksX5_does_4 12 rfl rfl)
theorem dX5_does_105 : decode cX5_does 105 = .ok (.iaload, 1) := dk_46 (dk_at dksX5_does_4 13 rfl rfl)
theorem dX5_does_106 : decode cX5_does 106 = .ok (.iload_n 3, 1) := dk_29 (dk_at dksX5_does_4 14 rfl rfl)
theorem dX5_does_107 : decode cX5_does 107 = .ok (.invokestatic 257, 3) := dk_184 1 1 (dk_at dksX5_does_4 15 rfl rfl)
theorem dX5_does_110 : decode cX5_does 110 = .ok (.ifCond .eq 7, 3) := dk_153 0 7 (dk_at dksX5_does_4 18 rfl rfl)
theorem dX5_does_113 : decode cX5_does 113 = .ok (.iconst 0, 1) := dk_3 (dk_at dksX5_does_4 21 rfl rfl)
theorem dX5_does_114 : decode cX5_does 114 = .ok (.goto 4, 3) := dk_167 0 4 (dk_at dksX5_does_5 0 rfl rfl)
theorem dX5_does_117 : decode cX5_does 117 = .ok (.iconst 1, 1) := dk_4 (dk_at dksX5_does_5 3 rfl rfl)
theorem dX5_does_118 : decode cX5_does 118 = .ok (.istore 5, 2) := dk_54 5 (dk_at dksX5_does_5 4 rfl rfl)
theorem dX5_does_120 : decode cX5_does 120 = .ok (.iload 5, 2) := dk_21 5 (dk_at dksX5_does_5 6 rfl rfl)
theorem dX5_does_122 : decode cX5_does 122 = .ok (.ifCond .ne 109, 3) := dk_154 0 109 (dk_at dksX5_does_5 8 rfl rfl)
theorem dX5_does_125 : decode cX5_does 125 = .ok (.aload_n 0, 1) := dk_42 (dk_at dksX5_does_5 11 rfl rfl)
theorem dX5_does_126 : decode cX5_does 126 = .ok (.getfield 33, 3) := dk_180 0 33 (dk_at dksX5_does_5 12 rfl rfl)
theorem dX5_does_129 : decode cX5_does 129 = .ok (.bipush 101, 2) := dk_16 101 (dk_at dksX5_does_5 15 rfl rfl)
theorem dX5_does_131 : decode cX5_does 131 = .ok (.iload_n 2, 1) := dk_28 (dk_at dksX5_does_5 17 rfl rfl)
theorem dX5_does_132 : decode cX5_does 132 = .ok (.iadd, 1) := dk_96 (dk_at dksX5_does_5 18 rfl rfl)
theorem dX5_does_133 : decode cX5_does 133 = .ok (.dup2, 1) := dk_92 (dk_at dksX5_does_5 19 rfl rfl)
theorem dX5_does_134 : decode cX5_does 134 = .ok (.iaload, 1) := dk_46 (dk_at dksX5_does_5 20 rfl rfl)
theorem dX5_does_135 : decode cX5_does 135 = .ok (.iconst 1, 1) := dk_4 (dk_at dksX5_does_5 21 rfl rfl)
theorem dX5_does_136 : decode cX5_does 136 = .ok (.iload_n 3, 1) := dk_29 (dk_at dksX5_does_5 22 rfl rfl)
theorem dX5_does_137 : decode cX5_does 137 = .ok (.ishl, 1) := dk_120 (dk_at dksX5_does_5 23 rfl rfl)
theorem dX5_does_138 : decode cX5_does 138 = .ok (.ixor, 1) := dk_130 (dk_at dksX5_does_6 0 rfl rfl)
theorem dX5_does_139 : decode cX5_does 139 = .ok (.iastore, 1) := dk_79 (dk_at dksX5_does_6 1 rfl rfl)
theorem dX5_does_140 : decode cX5_does 140 = .ok (.goto 91, 3) := dk_167 0 91 (dk_at dksX5_does_6 2 rfl rfl)
theorem dX5_does_143 : decode cX5_does 143 = .ok (.aload_n 0, 1) := dk_42 (dk_at dksX5_does_6 5 rfl rfl)
theorem dX5_does_144 : decode cX5_does 144 = .ok (.iload_n 2, 1) := dk_28 (dk_at dksX5_does_6 6 rfl rfl)
theorem dX5_does_145 : decode cX5_does 145 = .ok (.iload_n 1, 1) := dk_27 (dk_at dksX5_does_6 7 rfl rfl)
theorem dX5_does_146 : decode cX5_does 146 = .ok (.iconst 3, 1) := dk_6 (dk_at dksX5_does_6 8 rfl rfl)
theorem dX5_does_147 : decode cX5_does 147 = .ok (.if_icmp .ne 7, 3) := dk_160 0 7 (dk_at dksX5_does_6 9 rfl rfl)
theorem dX5_does_150 : decode cX5_does 150 = .ok (.iconst 1, 1) := dk_4 (dk_at dksX5_does_6 12 rfl rfl)
theorem dX5_does_151 : decode cX5_does 151 = .ok (.goto 4, 3) := dk_167 0 4 (dk_at dksX5_does_6 13 rfl rfl)
theorem dX5_does_154 : decode cX5_does 154 = .ok (.iconst 0, 1) := dk_3 (dk_at dksX5_does_6 16 rfl rfl)
theorem dX5_does_155 : decode cX5_does 155 = .ok (.invokevirtual 337, 3) := dk_182 1 81 (dk_at dksX5_does_6 17 rfl rfl)
theorem dX5_does_158 : decode cX5_does 158 = .ok (.istore 5, 2) := dk_54 5 (dk_at dksX5_does_6 20 rfl rfl)
theorem dX5_does_160 : decode cX5_does 160 = .ok (.iload 5, 2) := dk_21 5 (dk_at dksX5_does_6 22 rfl rfl)
theorem dX5_does_162 : decode cX5_does 162 = .ok (.ifCond .ne 69, 3) := dk_154 0 69 (dk_at dksX5_does_7 0 rfl rfl)
theorem dX5_does_165 : decode cX5_does 165 = .ok (.aload_n 0, 1) := dk_42 (dk_at dksX5_does_7 3 rfl rfl)
theorem dX5_does_166 : decode cX5_does 166 = .ok (.getfield 33, 3) := dk_180 0 33 (dk_at dksX5_does_7 4 rfl rfl)
theorem dX5_does_169 : decode cX5_does 169 = .ok (.bipush 93, 2) := dk_16 93 (dk_at dksX5_does_7 7 rfl rfl)
theorem dX5_does_171 : decode cX5_does 171 = .ok (.dup2, 1) := dk_92 (dk_at dksX5_does_7 9 rfl rfl)
theorem dX5_does_172 : decode cX5_does 172 = .ok (.iaload, 1) := dk_46 (dk_at dksX5_does_7 10 rfl rfl)
theorem dX5_does_173 : decode cX5_does 173 = .ok (.iconst 1, 1) := dk_4 (dk_at dksX5_does_7 11 rfl rfl)
theorem dX5_does_174 : decode cX5_does 174 = .ok (.iload_n 2, 1) := dk_28 (dk_at dksX5_does_7 12 rfl rfl)
theorem dX5_does_175 : decode cX5_does 175 = .ok (.ishl, 1) := dk_120 (dk_at dksX5_does_7 13 rfl rfl)
theorem dX5_does_176 : decode cX5_does 176 = .ok (.ixor, 1) := dk_130 (dk_at dksX5_does_7 14 rfl rfl)
theorem dX5_does_177 : decode cX5_does 177 = .ok (.iastore, 1) := dk_79 (dk_at dksX5_does_7 15 rfl rfl)
theorem dX5_does_178 : decode cX5_does 178 = .ok (.goto 53, 3) := dk_167 0 53 (dk_at dksX5_does_7 16 rfl rfl)
theorem dX5_does_181 : decode cX5_does 181 = .ok (.aload_n 0, 1) := dk_42 (dk_at dksX5_does_7 19 rfl rfl)
theorem dX5_does_182 : decode cX5_does 182 = .ok (.iload_n 2, 1) := dk_28 (dk_at dksX5_does_7 20 rfl rfl)
theorem dX5_does_183 : decode cX5_does 183 = .ok (.iload_n 3, 1) := dk_29 (dk_at dksX5_does_7 21 rfl rfl)
theorem dX5_does_184 : decode cX5_does 184 = .ok (.iload 4, 2) := dk_21 4 (dk_at dksX5_does_7 22 rfl rfl)
theorem dX5_does_186 : decode cX5_does 186 = .ok (.invokevirtual 344, 3) := dk_182 1 88 (dk_at dksX5_does_8 0 rfl rfl)
theorem dX5_does_189 : decode cX5_does 189 = .ok (.istore 5, 2) := dk_54 5 (dk_at dksX5_does_8 3 rfl rfl)
theorem dX5_does_191 : decode cX5_does 191 = .ok (.iload 5, 2) := dk_21 5 (dk_at dksX5_does_8 5 rfl rfl)
theorem dX5_does_193 : decode cX5_does 193 = .ok (.ifCond .ne 38, 3) := dk_154 0 38 (dk_at dksX5_does_8 7 rfl rfl)
theorem dX5_does_196 : decode cX5_does 196 = .ok (.aload_n 0, 1) := dk_42 (dk_at dksX5_does_8 10 rfl rfl)
theorem dX5_does_197 : decode cX5_does 197 = .ok (.iload_n 2, 1) := dk_28 (dk_at dksX5_does_8 11 rfl rfl)
theorem dX5_does_198 : decode cX5_does 198 = .ok (.iload_n 3, 1) := dk_29 (dk_at dksX5_does_8 12 rfl rfl)
theorem dX5_does_199 : decode cX5_does 199 = .ok (.iload 4, 2) := dk_21 4 (dk_at dksX5_does_8 13 rfl rfl)
theorem dX5_does_201 : decode cX5_does 201 = .ok (.invokevirtual 347, 3) := dk_182 1 91 (dk_at dksX5_does_8 15 rfl rfl)
theorem dX5_does_204 : decode cX5_does 204 = .ok (.goto 27, 3) := dk_167 0 27 (dk_at dksX5_does_8 18 rfl rfl)
theorem dX5_does_207 : decode cX5_does 207 = .ok (.aload_n 0, 1) := dk_42 (dk_at dksX5_does_8 21 rfl rfl)
theorem dX5_does_208 : decode cX5_does 208 = .ok (.getfield 33, 3) := dk_180 0 33 (dk_at dksX5_does_9 0 rfl rfl)
theorem dX5_does_211 : decode cX5_does 211 = .ok (.bipush 91, 2) := dk_16 91 (dk_at dksX5_does_9 3 rfl rfl)
theorem dX5_does_213 : decode cX5_does 213 = .ok (.iaload, 1) := dk_46 (dk_at dksX5_does_9 5 rfl rfl)
theorem dX5_does_214 : decode cX5_does 214 = .ok (.iload_n 2, 1) := dk_28 (dk_at dksX5_does_9 6 rfl rfl)
theorem dX5_does_215 : decode cX5_does 215 = .ok (.iadd, 1) := dk_96 (dk_at dksX5_does_9 7 rfl rfl)
theorem dX5_does_216 : decode cX5_does 216 = .ok (.sipush 400, 3) := dk_17 1 144 (dk_at dksX5_does_9 8 rfl rfl)
theorem dX5_does_219 : decode cX5_does 219 = .ok (.if_icmp .le 6, 3) := dk_164 0 6 (dk_at dksX5_does_9 11 rfl rfl)
theorem dX5_does_222 : decode cX5_does 222 = .ok (.bipush 61, 2) := dk_16 61 (dk_at dksX5_does_9 14 rfl rfl)
theorem dX5_does_224 : decode cX5_does 224 = .ok (.ireturn, 1) := dk_172 (dk_at dksX5_does_9 16 rfl rfl)
theorem dX5_does_225 : decode cX5_does 225 = .ok (.aload_n 0, 1) := dk_42 (dk_at dksX5_does_9 17 rfl rfl)
theorem dX5_does_226 : decode cX5_does 226 = .ok (.iload_n 2, 1) := dk_28 (dk_at dksX5_does_9 18 rfl rfl)
theorem dX5_does_227 : decode cX5_does 227 = .ok (.invokevirtual 351, 3) := dk_182 1 95 (dk_at dksX5_does_9 19 rfl rfl)
theorem dX5_does_230 : decode cX5_does 230 = .ok (.pop, 1) := dk_87 (dk_at dksX5_does_9 22 rfl rfl)
theorem dX5_does_231 : decode cX5_does 231 = .ok (.iload 5, 2) := dk_21 5 (dk_at dksX5_does_10 0 rfl rfl)
theorem dX5_does_233 : decode cX5_does 233 = .ok (.ifCond .le 13, 3) := dk_158 0 13 (dk_at dksX5_does_10 2 rfl rfl)
theorem dX5_does_236 : decode cX5_does 236 = .ok (.bipush 10, 2) := dk_16 10 (dk_at dksX5_does_10 5 rfl rfl)
theorem dX5_does_238 : decode cX5_does 238 = .ok (.iload_n 1, 1) := dk_27 (dk_at dksX5_does_10 7 rfl rfl)
theorem dX5_does_239 : decode cX5_does 239 = .ok (.imul, 1) := dk_104 (dk_at dksX5_does_10 8 rfl rfl)
theorem dX5_does_240 : decode cX5_does 240 = .ok (.iload 5, 2) := dk_21 5 (dk_at dksX5_does_10 9 rfl rfl)
theorem dX5_does_242 : decode cX5_does 242 = .ok (.iadd, 1) := dk_96 (dk_at dksX5_does_10 11 rfl rfl)
theorem dX5_does_243 : decode cX5_does 243 = .ok (.goto 4, 3) := dk_167 0 4 (dk_at dksX5_does_10 12 rfl rfl)
theorem dX5_does_246 : decode cX5_does 246 = .ok (.iconst 0, 1) := dk_3 (dk_at dksX5_does_10 15 rfl rfl)
theorem dX5_does_247 : decode cX5_does 247 = .ok (.ireturn, 1) := dk_172 (dk_at dksX5_does_10 16 rfl rfl)
abbrev cX5_told : ByteArray := prog_32_method_104_code
def yX5_told : MethodName := ⟨RX5, "told", "(I)I"⟩
def dkwX5_told_1 : List UInt8 := [180, 0, 95, 27, 46, 167, 0, 4, 2, 172]
abbrev dktX5_told_1 : List UInt8 := dkwX5_told_1 ++ []
def dkwX5_told_0 : List UInt8 := [42, 3, 181, 0, 1, 42, 180, 1, 191, 153, 0, 21, 27, 3, 6, 184, 0, 207, 153, 0, 12, 42]
abbrev dktX5_told_0 : List UInt8 := dkwX5_told_0 ++ dktX5_told_1
theorem dksX5_told_0 : cX5_told.data.toList.drop 0 = dktX5_told_0 := by decide +kernel
theorem dksX5_told_1 : cX5_told.data.toList.drop 22 = dktX5_told_1 := dk_seg dksX5_told_0 22 rfl rfl
theorem dX5_told_0 : decode cX5_told 0 = .ok (.aload_n 0, 1) := dk_42 (dk_at dksX5_told_0 0 rfl rfl)
theorem dX5_told_1 : decode cX5_told 1 = .ok (.iconst 0, 1) := dk_3 (dk_at dksX5_told_0 1 rfl rfl)
theorem dX5_told_2 : decode cX5_told 2 = .ok (.putfield 1, 3) := dk_181 0 1 (dk_at dksX5_told_0 2 rfl rfl)
theorem dX5_told_5 : decode cX5_told 5 = .ok (.aload_n 0, 1) := dk_42 (dk_at dksX5_told_0 5 rfl rfl)
theorem dX5_told_6 : decode cX5_told 6 = .ok (.getfield 447, 3) := dk_180 1 191 (dk_at dksX5_told_0 6 rfl rfl)
theorem dX5_told_9 : decode cX5_told 9 = .ok (.ifCond .eq 21, 3) := dk_153 0 21 (dk_at dksX5_told_0 9 rfl rfl)
theorem dX5_told_12 : decode cX5_told 12 = .ok (.iload_n 1, 1) := dk_27 (dk_at dksX5_told_0 12 rfl rfl)
theorem dX5_told_13 : decode cX5_told 13 = .ok (.iconst 0, 1) := dk_3 (dk_at dksX5_told_0 13 rfl rfl)
theorem dX5_told_14 : decode cX5_told 14 = .ok (.iconst 3, 1) := dk_6 (dk_at dksX5_told_0 14 rfl rfl)
theorem dX5_told_15 : decode cX5_told 15 = .ok (.invokestatic 207, 3) := dk_184 0 207 (dk_at dksX5_told_0 15 rfl rfl)
theorem dX5_told_18 : decode cX5_told 18 = .ok (.ifCond .eq 12, 3) := dk_153 0 12 (dk_at dksX5_told_0 18 rfl rfl)
theorem dX5_told_21 : decode cX5_told 21 = .ok (.aload_n 0, 1) := dk_42 (dk_at dksX5_told_0 21 rfl rfl)
theorem dX5_told_22 : decode cX5_told 22 = .ok (.getfield 95, 3) := dk_180 0 95 (dk_at dksX5_told_1 0 rfl rfl)
theorem dX5_told_25 : decode cX5_told 25 = .ok (.iload_n 1, 1) := dk_27 (dk_at dksX5_told_1 3 rfl rfl)
theorem dX5_told_26 : decode cX5_told 26 = .ok (.iaload, 1) := dk_46 (dk_at dksX5_told_1 4 rfl rfl)
theorem dX5_told_27 : decode cX5_told 27 = .ok (.goto 4, 3) := dk_167 0 4 (dk_at dksX5_told_1 5 rfl rfl)
theorem dX5_told_30 : decode cX5_told 30 = .ok (.iconst (-1), 1) := dk_2 (dk_at dksX5_told_1 8 rfl rfl)
theorem dX5_told_31 : decode cX5_told 31 = .ok (.ireturn, 1) := dk_172 (dk_at dksX5_told_1 9 rfl rfl)
abbrev cX5_sentence : ByteArray := prog_32_method_111_code
def yX5_sentence : MethodName := ⟨RX5, "sentence", "()I"⟩
def dkwX5_sentence_7 : List UInt8 := [180, 0, 40, 28, 46, 79, 132, 2, 1, 167, 255, 227, 42, 180, 1, 209, 172]
abbrev dktX5_sentence_7 : List UInt8 := dkwX5_sentence_7 ++ []
def dkwX5_sentence_6 : List UInt8 := [79, 3, 61, 28, 6, 42, 180, 1, 194, 104, 162, 0, 25, 42, 180, 0, 33, 17, 0, 139, 28, 96, 42]
abbrev dktX5_sentence_6 : List UInt8 := dkwX5_sentence_6 ++ dktX5_sentence_7
def dkwX5_sentence_5 : List UInt8 := [182, 1, 224, 154, 255, 182, 2, 42, 180, 0, 195, 100, 172, 42, 180, 0, 33, 17, 0, 138, 42, 180, 1, 194]
abbrev dktX5_sentence_5 : List UInt8 := dkwX5_sentence_5 ++ dktX5_sentence_6
def dkwX5_sentence_4 : List UInt8 := [172, 3, 60, 167, 255, 206, 42, 180, 1, 212, 153, 0, 13, 42, 182, 1, 221, 154, 255, 192, 167, 0, 10, 42]
abbrev dktX5_sentence_4 : List UInt8 := dkwX5_sentence_4 ++ dktX5_sentence_5
def dkwX5_sentence_3 : List UInt8 := [16, 22, 182, 1, 218, 42, 180, 1, 197, 158, 0, 16, 42, 4, 182, 0, 201, 87, 2, 42, 180, 0, 195, 100]
abbrev dktX5_sentence_3 : List UInt8 := dkwX5_sentence_3 ++ dktX5_sentence_4
def dkwX5_sentence_2 : List UInt8 := [27, 153, 0, 83, 42, 180, 1, 212, 153, 0, 45, 42, 180, 0, 175, 154, 0, 38, 42, 182, 1, 215, 42]
abbrev dktX5_sentence_2 : List UInt8 := dkwX5_sentence_2 ++ dktX5_sentence_3
def dkwX5_sentence_1 : List UInt8 := [181, 1, 209, 42, 3, 181, 1, 197, 42, 4, 181, 1, 203, 42, 3, 181, 1, 212, 42, 182, 0, 204, 4, 60]
abbrev dktX5_sentence_1 : List UInt8 := dkwX5_sentence_1 ++ dktX5_sentence_2
def dkwX5_sentence_0 : List UInt8 := [42, 3, 181, 0, 1, 42, 17, 0, 200, 182, 1, 7, 42, 3, 181, 0, 192, 42, 3, 181, 1, 194, 42, 3]
abbrev dktX5_sentence_0 : List UInt8 := dkwX5_sentence_0 ++ dktX5_sentence_1
theorem dksX5_sentence_0 : cX5_sentence.data.toList.drop 0 = dktX5_sentence_0 := by decide +kernel
theorem dksX5_sentence_1 : cX5_sentence.data.toList.drop 24 = dktX5_sentence_1 := dk_seg dksX5_sentence_0 24 rfl rfl
theorem dksX5_sentence_2 : cX5_sentence.data.toList.drop 48 = dktX5_sentence_2 := dk_seg dksX5_sentence_1 24 rfl rfl
theorem dksX5_sentence_3 : cX5_sentence.data.toList.drop 71 = dktX5_sentence_3 := dk_seg dksX5_sentence_2 23 rfl rfl
theorem dksX5_sentence_4 : cX5_sentence.data.toList.drop 95 = dktX5_sentence_4 := dk_seg dksX5_sentence_3 24 rfl rfl
theorem dksX5_sentence_5 : cX5_sentence.data.toList.drop 119 = dktX5_sentence_5 := dk_seg dksX5_sentence_4 24 rfl rfl
theorem dksX5_sentence_6 : cX5_sentence.data.toList.drop 143 = dktX5_sentence_6 := dk_seg dksX5_sentence_5 24 rfl rfl
theorem dksX5_sentence_7 : cX5_sentence.data.toList.drop 166 = dktX5_sentence_7 := dk_seg dksX5_sentence_6 23 rfl rfl
theorem dX5_sentence_0 : decode cX5_sentence 0 = .ok (.aload_n 0, 1) := dk_42 (dk_at dksX5_sentence_0 0 rfl rfl)
theorem dX5_sentence_1 : decode cX5_sentence 1 = .ok (.iconst 0, 1) := dk_3 (dk_at dksX5_sentence_0 1 rfl rfl)
theorem dX5_sentence_2 : decode cX5_sentence 2 = .ok (.putfield 1, 3) := dk_181 0 1 (dk_at dksX5_sentence_0 2 rfl rfl)
theorem dX5_sentence_5 : decode cX5_sentence 5 = .ok (.aload_n 0, 1) := dk_42 (dk_at dksX5_sentence_0 5 rfl rfl)
theorem dX5_sentence_6 : decode cX5_sentence 6 = .ok (.sipush 200, 3) := dk_17 0 200 (dk_at dksX5_sentence_0 6 rfl rfl)
theorem dX5_sentence_9 : decode cX5_sentence 9 = .ok (.invokevirtual 263, 3) := dk_182 1 7 (dk_at dksX5_sentence_0 9 rfl rfl)
theorem dX5_sentence_12 : decode cX5_sentence 12 = .ok (.aload_n 0, 1) := dk_42 (dk_at dksX5_sentence_0 12 rfl rfl)
theorem dX5_sentence_13 : decode cX5_sentence 13 = .ok (.iconst 0, 1) := dk_3 (dk_at dksX5_sentence_0 13 rfl rfl)
theorem dX5_sentence_14 : decode cX5_sentence 14 = .ok (.putfield 192, 3) := dk_181 0 192 (dk_at dksX5_sentence_0 14 rfl rfl)
theorem dX5_sentence_17 : decode cX5_sentence 17 = .ok (.aload_n 0, 1) := dk_42 (dk_at dksX5_sentence_0 17 rfl rfl)
theorem dX5_sentence_18 : decode cX5_sentence 18 = .ok (.iconst 0, 1) := dk_3 (dk_at dksX5_sentence_0 18 rfl rfl)
theorem dX5_sentence_19 : decode cX5_sentence 19 = .ok (.putfield 450, 3) := dk_181 1 194 (dk_at dksX5_sentence_0 19 rfl rfl)
theorem dX5_sentence_22 : decode cX5_sentence 22 = .ok (.aload_n 0, 1) := dk_42 (dk_at dksX5_sentence_0 22 rfl rfl)
theorem dX5_sentence_23 : decode cX5_sentence 23 = .ok (.iconst 0, 1) := dk_3 (dk_at dksX5_sentence_0 23 rfl rfl)
theorem dX5_sentence_24 : decode cX5_sentence 24 = .ok (.putfield 465, 3) := dk_181 1 209 (dk_at dksX5_sentence_1 0 rfl rfl)
theorem dX5_sentence_27 : decode cX5_sentence 27 = .ok (.aload_n 0, 1) := dk_42 (dk_at dksX5_sentence_1 3 rfl rfl)
theorem dX5_sentence_28 : decode cX5_sentence 28 = .ok (.iconst 0, 1) := dk_3 (dk_at dksX5_sentence_1 4 rfl rfl)
theorem dX5_sentence_29 : decode cX5_sentence 29 = .ok (.putfield 453, 3) := dk_181 1 197 (dk_at dksX5_sentence_1 5 rfl rfl)
theorem dX5_sentence_32 : decode cX5_sentence 32 = .ok (.aload_n 0, 1) := dk_42 (dk_at dksX5_sentence_1 8 rfl rfl)
theorem dX5_sentence_33 : decode cX5_sentence 33 = .ok (.iconst 1, 1) := dk_4 (dk_at dksX5_sentence_1 9 rfl rfl)
theorem dX5_sentence_34 : decode cX5_sentence 34 = .ok (.putfield 459, 3) := dk_181 1 203 (dk_at dksX5_sentence_1 10 rfl rfl)
theorem dX5_sentence_37 : decode cX5_sentence 37 = .ok (.aload_n 0, 1) := dk_42 (dk_at dksX5_sentence_1 13 rfl rfl)
theorem dX5_sentence_38 : decode cX5_sentence 38 = .ok (.iconst 0, 1) := dk_3 (dk_at dksX5_sentence_1 14 rfl rfl)
theorem dX5_sentence_39 : decode cX5_sentence 39 = .ok (.putfield 468, 3) := dk_181 1 212 (dk_at dksX5_sentence_1 15 rfl rfl)
theorem dX5_sentence_42 : decode cX5_sentence 42 = .ok (.aload_n 0, 1) := dk_42 (dk_at dksX5_sentence_1 18 rfl rfl)
theorem dX5_sentence_43 : decode cX5_sentence 43 = .ok (.invokevirtual 204, 3) := dk_182 0 204 (dk_at dksX5_sentence_1 19 rfl rfl)
theorem dX5_sentence_46 : decode cX5_sentence 46 = .ok (.iconst 1, 1) := dk_4 (dk_at dksX5_sentence_1 22 rfl rfl)
theorem dX5_sentence_47 : decode cX5_sentence 47 = .ok (.istore_n 1, 1) := dk_60 (dk_at dksX5_sentence_1 23 rfl rfl)
theorem dX5_sentence_48 : decode cX5_sentence 48 = .ok (.iload_n 1, 1) := dk_27 (dk_at dksX5_sentence_2 0 rfl rfl)
theorem dX5_sentence_49 : decode cX5_sentence 49 = .ok (.ifCond .eq 83, 3) := dk_153 0 83 (dk_at dksX5_sentence_2 1 rfl rfl)
theorem dX5_sentence_52 : decode cX5_sentence 52 = .ok (.aload_n 0, 1) := dk_42 (dk_at dksX5_sentence_2 4 rfl rfl)
theorem dX5_sentence_53 : decode cX5_sentence 53 = .ok (.getfield 468, 3) := dk_180 1 212 (dk_at dksX5_sentence_2 5 rfl rfl)
theorem dX5_sentence_56 : decode cX5_sentence 56 = .ok (.ifCond .eq 45, 3) := dk_153 0 45 (dk_at dksX5_sentence_2 8 rfl rfl)
theorem dX5_sentence_59 : decode cX5_sentence 59 = .ok (.aload_n 0, 1) := dk_42 (dk_at dksX5_sentence_2 11 rfl rfl)
theorem dX5_sentence_60 : decode cX5_sentence 60 = .ok (.getfield 175, 3) := dk_180 0 175 (dk_at dksX5_sentence_2 12 rfl rfl)
theorem dX5_sentence_63 : decode cX5_sentence 63 = .ok (.ifCond .ne 38, 3) := dk_154 0 38 (dk_at dksX5_sentence_2 15 rfl rfl)
theorem dX5_sentence_66 : decode cX5_sentence 66 = .ok (.aload_n 0, 1) := dk_42 (dk_at dksX5_sentence_2 18 rfl rfl)
theorem dX5_sentence_67 : decode cX5_sentence 67 = .ok (.invokevirtual 471, 3) := dk_182 1 215 (dk_at dksX5_sentence_2 19 rfl rfl)
theorem dX5_sentence_70 : decode cX5_sentence 70 = .ok (.aload_n 0, 1) := dk_42 (dk_at dksX5_sentence_2 22 rfl rfl)
theorem dX5_sentence_71 : decode cX5_sentence 71 = .ok (.bipush 22, 2) := dk_16 22 (dk_at dksX5_sentence_3 0 rfl rfl)
theorem dX5_sentence_73 : decode cX5_sentence 73 = .ok (.invokevirtual 474, 3) := dk_182 1 218 (dk_at dksX5_sentence_3 2 rfl rfl)
theorem dX5_sentence_76 : decode cX5_sentence 76 = .ok (.aload_n 0, 1) := dk_42 (dk_at dksX5_sentence_3 5 rfl rfl)
theorem dX5_sentence_77 : decode cX5_sentence 77 = .ok (.getfield 453, 3) := dk_180 1 197 (dk_at dksX5_sentence_3 6 rfl rfl)
theorem dX5_sentence_80 : decode cX5_sentence 80 = .ok (.ifCond .le 16, 3) := dk_158 0 16 (dk_at dksX5_sentence_3 9 rfl rfl)
theorem dX5_sentence_83 : decode cX5_sentence 83 = .ok (.aload_n 0, 1) := dk_42 (dk_at dksX5_sentence_3 12 rfl rfl)
theorem dX5_sentence_84 : decode cX5_sentence 84 = .ok (.iconst 1, 1) := dk_4 (dk_at dksX5_sentence_3 13 rfl rfl)
theorem dX5_sentence_85 : decode cX5_sentence 85 = .ok (.invokevirtual 201, 3) := dk_182 0 201 (dk_at dksX5_sentence_3 14 rfl rfl)
theorem dX5_sentence_88 : decode cX5_sentence 88 = .ok (.pop, 1) := dk_87 (dk_at dksX5_sentence_3 17 rfl rfl)
theorem dX5_sentence_89 : decode cX5_sentence 89 = .ok (.iconst (-1), 1) := dk_2 (dk_at dksX5_sentence_3 18 rfl rfl)
theorem dX5_sentence_90 : decode cX5_sentence 90 = .ok (.aload_n 0, 1) := dk_42 (dk_at dksX5_sentence_3 19 rfl rfl)
theorem dX5_sentence_91 : decode cX5_sentence 91 = .ok (.getfield 195, 3) := dk_180 0 195 (dk_at dksX5_sentence_3 20 rfl rfl)
theorem dX5_sentence_94 : decode cX5_sentence 94 = .ok (.isub, 1) := dk_100 (dk_at dksX5_sentence_3 23 rfl rfl)
theorem dX5_sentence_95 : decode cX5_sentence 95 = .ok (.ireturn, 1) := dk_172 (dk_at dksX5_sentence_4 0 rfl rfl)
theorem dX5_sentence_96 : decode cX5_sentence 96 = .ok (.iconst 0, 1) := dk_3 (dk_at dksX5_sentence_4 1 rfl rfl)
theorem dX5_sentence_97 : decode cX5_sentence 97 = .ok (.istore_n 1, 1) := dk_60 (dk_at dksX5_sentence_4 2 rfl rfl)
theorem dX5_sentence_98 : decode cX5_sentence 98 = .ok (.goto (-50), 3) := dk_167 255 206 (dk_at dksX5_sentence_4 3 rfl rfl)
theorem dX5_sentence_101 : decode cX5_sentence 101 = .ok (.aload_n 0, 1) := dk_42 (dk_at dksX5_sentence_4 6 rfl rfl)
theorem dX5_sentence_102 : decode cX5_sentence 102 = .ok (.getfield 468, 3) := dk_180 1 212 (dk_at dksX5_sentence_4 7 rfl rfl)
theorem dX5_sentence_105 : decode cX5_sentence 105 = .ok (.ifCond .eq 13, 3) := dk_153 0 13 (dk_at dksX5_sentence_4 10 rfl rfl)
theorem dX5_sentence_108 : decode cX5_sentence 108 = .ok (.aload_n 0, 1) := dk_42 (dk_at dksX5_sentence_4 13 rfl rfl)
theorem dX5_sentence_109 : decode cX5_sentence 109 = .ok (.invokevirtual 477, 3) := dk_182 1 221 (dk_at dksX5_sentence_4 14 rfl rfl)
theorem dX5_sentence_112 : decode cX5_sentence 112 = .ok (.ifCond .ne (-64), 3) := dk_154 255 192 (dk_at dksX5_sentence_4 17 rfl rfl)
theorem dX5_sentence_115 : decode cX5_sentence 115 = .ok (.goto 10, 3) := dk_167 0 10 (dk_at dksX5_sentence_4 20 rfl rfl)
theorem dX5_sentence_118 : decode cX5_sentence 118 = .ok (.aload_n 0, 1) := dk_42 (dk_at dksX5_sentence_4 23 rfl rfl)
theorem dX5_sentence_119 : decode cX5_sentence 119 = .ok (.invokevirtual 480, 3) := dk_182 1 224 (dk_at dksX5_sentence_5 0 rfl rfl)
theorem dX5_sentence_122 : decode cX5_sentence 122 = .ok (.ifCond .ne (-74), 3) := dk_154 255 182 (dk_at dksX5_sentence_5 3 rfl rfl)
theorem dX5_sentence_125 : decode cX5_sentence 125 = .ok (.iconst (-1), 1) := dk_2 (dk_at dksX5_sentence_5 6 rfl rfl)
theorem dX5_sentence_126 : decode cX5_sentence 126 = .ok (.aload_n 0, 1) := dk_42 (dk_at dksX5_sentence_5 7 rfl rfl)
theorem dX5_sentence_127 : decode cX5_sentence 127 = .ok (.getfield 195, 3) := dk_180 0 195 (dk_at dksX5_sentence_5 8 rfl rfl)
theorem dX5_sentence_130 : decode cX5_sentence 130 = .ok (.isub, 1) := dk_100 (dk_at dksX5_sentence_5 11 rfl rfl)
theorem dX5_sentence_131 : decode cX5_sentence 131 = .ok (.ireturn, 1) := dk_172 (dk_at dksX5_sentence_5 12 rfl rfl)
theorem dX5_sentence_132 : decode cX5_sentence 132 = .ok (.aload_n 0, 1) := dk_42 (dk_at dksX5_sentence_5 13 rfl rfl)
theorem dX5_sentence_133 : decode cX5_sentence 133 = .ok (.getfield 33, 3) := dk_180 0 33 (dk_at dksX5_sentence_5 14 rfl rfl)
theorem dX5_sentence_136 : decode cX5_sentence 136 = .ok (.sipush 138, 3) := dk_17 0 138 (dk_at dksX5_sentence_5 17 rfl rfl)
theorem dX5_sentence_139 : decode cX5_sentence 139 = .ok (.aload_n 0, 1) := dk_42 (dk_at dksX5_sentence_5 20 rfl rfl)
theorem dX5_sentence_140 : decode cX5_sentence 140 = .ok (.getfield 450, 3) := dk_180 1 194 (dk_at dksX5_sentence_5 21 rfl rfl)
theorem dX5_sentence_143 : decode cX5_sentence 143 = .ok (.iastore, 1) := dk_79 (dk_at dksX5_sentence_6 0 rfl rfl)
theorem dX5_sentence_144 : decode cX5_sentence 144 = .ok (.iconst 0, 1) := dk_3 (dk_at dksX5_sentence_6 1 rfl rfl)
theorem dX5_sentence_145 : decode cX5_sentence 145 = .ok (.istore_n 2, 1) := dk_61 (dk_at dksX5_sentence_6 2 rfl rfl)
theorem dX5_sentence_146 : decode cX5_sentence 146 = .ok (.iload_n 2, 1) := dk_28 (dk_at dksX5_sentence_6 3 rfl rfl)
theorem dX5_sentence_147 : decode cX5_sentence 147 = .ok (.iconst 3, 1) := dk_6 (dk_at dksX5_sentence_6 4 rfl rfl)
theorem dX5_sentence_148 : decode cX5_sentence 148 = .ok (.aload_n 0, 1) := dk_42 (dk_at dksX5_sentence_6 5 rfl rfl)
theorem dX5_sentence_149 : decode cX5_sentence 149 = .ok (.getfield 450, 3) := dk_180 1 194 (dk_at dksX5_sentence_6 6 rfl rfl)
theorem dX5_sentence_152 : decode cX5_sentence 152 = .ok (.imul, 1) := dk_104 (dk_at dksX5_sentence_6 9 rfl rfl)
theorem dX5_sentence_153 : decode cX5_sentence 153 = .ok (.if_icmp .ge 25, 3) := dk_162 0 25 (dk_at dksX5_sentence_6 10 rfl rfl)
theorem dX5_sentence_156 : decode cX5_sentence 156 = .ok (.aload_n 0, 1) := dk_42 (dk_at dksX5_sentence_6 13 rfl rfl)
theorem dX5_sentence_157 : decode cX5_sentence 157 = .ok (.getfield 33, 3) := dk_180 0 33 (dk_at dksX5_sentence_6 14 rfl rfl)
theorem dX5_sentence_160 : decode cX5_sentence 160 = .ok (.sipush 139, 3) := dk_17 0 139 (dk_at dksX5_sentence_6 17 rfl rfl)
theorem dX5_sentence_163 : decode cX5_sentence 163 = .ok (.iload_n 2, 1) := dk_28 (dk_at dksX5_sentence_6 20 rfl rfl)
theorem dX5_sentence_164 : decode cX5_sentence 164 = .ok (.iadd, 1) := dk_96 (dk_at dksX5_sentence_6 21 rfl rfl)
theorem dX5_sentence_165 : decode cX5_sentence 165 = .ok (.aload_n 0, 1) := dk_42 (dk_at dksX5_sentence_6 22 rfl rfl)
theorem dX5_sentence_166 : decode cX5_sentence 166 = .ok (.getfield 40, 3) := dk_180 0 40 (dk_at dksX5_sentence_7 0 rfl rfl)
theorem dX5_sentence_169 : decode cX5_sentence 169 = .ok (.iload_n 2, 1) := dk_28 (dk_at dksX5_sentence_7 3 rfl rfl)
theorem dX5_sentence_170 : decode cX5_sentence 170 = .ok (.iaload, 1) := dk_46 (dk_at dksX5_sentence_7 4 rfl rfl)
theorem dX5_sentence_171 : decode cX5_sentence 171 = .ok (.iastore, 1) := dk_79 (dk_at dksX5_sentence_7 5 rfl rfl)
theorem dX5_sentence_172 : decode cX5_sentence 172 = .ok (.iinc 2 1, 3) := dk_132 2 1 (dk_at dksX5_sentence_7 6 rfl rfl)
theorem dX5_sentence_175 : decode cX5_sentence 175 = .ok (.goto (-29), 3) := dk_167 255 227 (dk_at dksX5_sentence_7 9 rfl rfl)
theorem dX5_sentence_178 : decode cX5_sentence 178 = .ok (.aload_n 0, 1) := dk_42 (dk_at dksX5_sentence_7 12 rfl rfl)
theorem dX5_sentence_179 : decode cX5_sentence 179 = .ok (.getfield 465, 3) := dk_180 1 209 (dk_at dksX5_sentence_7 13 rfl rfl)
theorem dX5_sentence_182 : decode cX5_sentence 182 = .ok (.ireturn, 1) := dk_172 (dk_at dksX5_sentence_7 16 rfl rfl)
abbrev cX5_nots : ByteArray := prog_32_method_107_code
def yX5_nots : MethodName := ⟨RX5, "nots", "()V"⟩
def dkwX5_nots_2 : List UInt8 := [182, 1, 200, 167, 255, 205, 177]
abbrev dktX5_nots_2 : List UInt8 := dkwX5_nots_2 ++ []
def dkwX5_nots_1 : List UInt8 := [89, 180, 1, 197, 4, 100, 181, 1, 197, 42, 89, 180, 1, 203, 4, 100, 181, 1, 203, 42, 16, 20, 3, 3]
abbrev dktX5_nots_1 : List UInt8 := dkwX5_nots_1 ++ dktX5_nots_2
def dkwX5_nots_0 : List UInt8 := [42, 180, 1, 197, 158, 0, 50, 42, 180, 0, 98, 42, 180, 1, 197, 4, 100, 46, 16, 20, 160, 0, 34, 42]
abbrev dktX5_nots_0 : List UInt8 := dkwX5_nots_0 ++ dktX5_nots_1
theorem dksX5_nots_0 : cX5_nots.data.toList.drop 0 = dktX5_nots_0 := by decide +kernel
theorem dksX5_nots_1 : cX5_nots.data.toList.drop 24 = dktX5_nots_1 := dk_seg dksX5_nots_0 24 rfl rfl
theorem dksX5_nots_2 : cX5_nots.data.toList.drop 48 = dktX5_nots_2 := dk_seg dksX5_nots_1 24 rfl rfl
theorem dX5_nots_0 : decode cX5_nots 0 = .ok (.aload_n 0, 1) := dk_42 (dk_at dksX5_nots_0 0 rfl rfl)
theorem dX5_nots_1 : decode cX5_nots 1 = .ok (.getfield 453, 3) := dk_180 1 197 (dk_at dksX5_nots_0 1 rfl rfl)
theorem dX5_nots_4 : decode cX5_nots 4 = .ok (.ifCond .le 50, 3) := dk_158 0 50 (dk_at dksX5_nots_0 4 rfl rfl)
theorem dX5_nots_7 : decode cX5_nots 7 = .ok (.aload_n 0, 1) := dk_42 (dk_at dksX5_nots_0 7 rfl rfl)
theorem dX5_nots_8 : decode cX5_nots 8 = .ok (.getfield 98, 3) := dk_180 0 98 (dk_at dksX5_nots_0 8 rfl rfl)
theorem dX5_nots_11 : decode cX5_nots 11 = .ok (.aload_n 0, 1) := dk_42 (dk_at dksX5_nots_0 11 rfl rfl)
theorem dX5_nots_12 : decode cX5_nots 12 = .ok (.getfield 453, 3) := dk_180 1 197 (dk_at dksX5_nots_0 12 rfl rfl)
theorem dX5_nots_15 : decode cX5_nots 15 = .ok (.iconst 1, 1) := dk_4 (dk_at dksX5_nots_0 15 rfl rfl)
theorem dX5_nots_16 : decode cX5_nots 16 = .ok (.isub, 1) := dk_100 (dk_at dksX5_nots_0 16 rfl rfl)
theorem dX5_nots_17 : decode cX5_nots 17 = .ok (.iaload, 1) := dk_46 (dk_at dksX5_nots_0 17 rfl rfl)
theorem dX5_nots_18 : decode cX5_nots 18 = .ok (.bipush 20, 2) := dk_16 20 (dk_at dksX5_nots_0 18 rfl rfl)
theorem dX5_nots_20 : decode cX5_nots 20 = .ok (.if_icmp .ne 34, 3) := dk_160 0 34 (dk_at dksX5_nots_0 20 rfl rfl)
theorem dX5_nots_23 : decode cX5_nots 23 = .ok (.aload_n 0, 1) := dk_42 (dk_at dksX5_nots_0 23 rfl rfl)
theorem dX5_nots_24 : decode cX5_nots 24 = .ok (.dup, 1) := dk_89 (dk_at dksX5_nots_1 0 rfl rfl)
theorem dX5_nots_25 : decode cX5_nots 25 = .ok (.getfield 453, 3) := dk_180 1 197 (dk_at dksX5_nots_1 1 rfl rfl)
theorem dX5_nots_28 : decode cX5_nots 28 = .ok (.iconst 1, 1) := dk_4 (dk_at dksX5_nots_1 4 rfl rfl)
theorem dX5_nots_29 : decode cX5_nots 29 = .ok (.isub, 1) := dk_100 (dk_at dksX5_nots_1 5 rfl rfl)
theorem dX5_nots_30 : decode cX5_nots 30 = .ok (.putfield 453, 3) := dk_181 1 197 (dk_at dksX5_nots_1 6 rfl rfl)
theorem dX5_nots_33 : decode cX5_nots 33 = .ok (.aload_n 0, 1) := dk_42 (dk_at dksX5_nots_1 9 rfl rfl)
theorem dX5_nots_34 : decode cX5_nots 34 = .ok (.dup, 1) := dk_89 (dk_at dksX5_nots_1 10 rfl rfl)
theorem dX5_nots_35 : decode cX5_nots 35 = .ok (.getfield 459, 3) := dk_180 1 203 (dk_at dksX5_nots_1 11 rfl rfl)
theorem dX5_nots_38 : decode cX5_nots 38 = .ok (.iconst 1, 1) := dk_4 (dk_at dksX5_nots_1 14 rfl rfl)
theorem dX5_nots_39 : decode cX5_nots 39 = .ok (.isub, 1) := dk_100 (dk_at dksX5_nots_1 15 rfl rfl)
theorem dX5_nots_40 : decode cX5_nots 40 = .ok (.putfield 459, 3) := dk_181 1 203 (dk_at dksX5_nots_1 16 rfl rfl)
theorem dX5_nots_43 : decode cX5_nots 43 = .ok (.aload_n 0, 1) := dk_42 (dk_at dksX5_nots_1 19 rfl rfl)
theorem dX5_nots_44 : decode cX5_nots 44 = .ok (.bipush 20, 2) := dk_16 20 (dk_at dksX5_nots_1 20 rfl rfl)
theorem dX5_nots_46 : decode cX5_nots 46 = .ok (.iconst 0, 1) := dk_3 (dk_at dksX5_nots_1 22 rfl rfl)
theorem dX5_nots_47 : decode cX5_nots 47 = .ok (.iconst 0, 1) := dk_3 (dk_at dksX5_nots_1 23 rfl rfl)
theorem dX5_nots_48 : decode cX5_nots 48 = .ok (.invokevirtual 456, 3) := dk_182 1 200 (dk_at dksX5_nots_2 0 rfl rfl)
theorem dX5_nots_51 : decode cX5_nots 51 = .ok (.goto (-51), 3) := dk_167 255 205 (dk_at dksX5_nots_2 3 rfl rfl)
theorem dX5_nots_54 : decode cX5_nots 54 = .ok (.return_, 1) := dk_177 (dk_at dksX5_nots_2 6 rfl rfl)
abbrev cX5_code : ByteArray := prog_32_method_105_code
def yX5_code : MethodName := ⟨RX5, "code", "(III)V"⟩
def dkwX5_code_2 : List UInt8 := [181, 1, 194, 177]
abbrev dktX5_code_2 : List UInt8 := dkwX5_code_2 ++ []
def dkwX5_code_1 : List UInt8 := [28, 79, 42, 180, 0, 40, 6, 42, 180, 1, 194, 104, 5, 96, 29, 79, 42, 89, 180, 1, 194, 4, 96]
abbrev dktX5_code_1 : List UInt8 := dkwX5_code_1 ++ dktX5_code_2
def dkwX5_code_0 : List UInt8 := [42, 180, 0, 40, 6, 42, 180, 1, 194, 104, 27, 79, 42, 180, 0, 40, 6, 42, 180, 1, 194, 104, 4, 96]
abbrev dktX5_code_0 : List UInt8 := dkwX5_code_0 ++ dktX5_code_1
theorem dksX5_code_0 : cX5_code.data.toList.drop 0 = dktX5_code_0 := by decide +kernel
theorem dksX5_code_1 : cX5_code.data.toList.drop 24 = dktX5_code_1 := dk_seg dksX5_code_0 24 rfl rfl
theorem dksX5_code_2 : cX5_code.data.toList.drop 47 = dktX5_code_2 := dk_seg dksX5_code_1 23 rfl rfl
theorem dX5_code_0 : decode cX5_code 0 = .ok (.aload_n 0, 1) := dk_42 (dk_at dksX5_code_0 0 rfl rfl)
theorem dX5_code_1 : decode cX5_code 1 = .ok (.getfield 40, 3) := dk_180 0 40 (dk_at dksX5_code_0 1 rfl rfl)
theorem dX5_code_4 : decode cX5_code 4 = .ok (.iconst 3, 1) := dk_6 (dk_at dksX5_code_0 4 rfl rfl)
theorem dX5_code_5 : decode cX5_code 5 = .ok (.aload_n 0, 1) := dk_42 (dk_at dksX5_code_0 5 rfl rfl)
theorem dX5_code_6 : decode cX5_code 6 = .ok (.getfield 450, 3) := dk_180 1 194 (dk_at dksX5_code_0 6 rfl rfl)
theorem dX5_code_9 : decode cX5_code 9 = .ok (.imul, 1) := dk_104 (dk_at dksX5_code_0 9 rfl rfl)
theorem dX5_code_10 : decode cX5_code 10 = .ok (.iload_n 1, 1) := dk_27 (dk_at dksX5_code_0 10 rfl rfl)
theorem dX5_code_11 : decode cX5_code 11 = .ok (.iastore, 1) := dk_79 (dk_at dksX5_code_0 11 rfl rfl)
theorem dX5_code_12 : decode cX5_code 12 = .ok (.aload_n 0, 1) := dk_42 (dk_at dksX5_code_0 12 rfl rfl)
theorem dX5_code_13 : decode cX5_code 13 = .ok (.getfield 40, 3) := dk_180 0 40 (dk_at dksX5_code_0 13 rfl rfl)
theorem dX5_code_16 : decode cX5_code 16 = .ok (.iconst 3, 1) := dk_6 (dk_at dksX5_code_0 16 rfl rfl)
theorem dX5_code_17 : decode cX5_code 17 = .ok (.aload_n 0, 1) := dk_42 (dk_at dksX5_code_0 17 rfl rfl)
theorem dX5_code_18 : decode cX5_code 18 = .ok (.getfield 450, 3) := dk_180 1 194 (dk_at dksX5_code_0 18 rfl rfl)
theorem dX5_code_21 : decode cX5_code 21 = .ok (.imul, 1) := dk_104 (dk_at dksX5_code_0 21 rfl rfl)
theorem dX5_code_22 : decode cX5_code 22 = .ok (.iconst 1, 1) := dk_4 (dk_at dksX5_code_0 22 rfl rfl)
theorem dX5_code_23 : decode cX5_code 23 = .ok (.iadd, 1) := dk_96 (dk_at dksX5_code_0 23 rfl rfl)
theorem dX5_code_24 : decode cX5_code 24 = .ok (.iload_n 2, 1) := dk_28 (dk_at dksX5_code_1 0 rfl rfl)
theorem dX5_code_25 : decode cX5_code 25 = .ok (.iastore, 1) := dk_79 (dk_at dksX5_code_1 1 rfl rfl)
theorem dX5_code_26 : decode cX5_code 26 = .ok (.aload_n 0, 1) := dk_42 (dk_at dksX5_code_1 2 rfl rfl)
theorem dX5_code_27 : decode cX5_code 27 = .ok (.getfield 40, 3) := dk_180 0 40 (dk_at dksX5_code_1 3 rfl rfl)
theorem dX5_code_30 : decode cX5_code 30 = .ok (.iconst 3, 1) := dk_6 (dk_at dksX5_code_1 6 rfl rfl)
theorem dX5_code_31 : decode cX5_code 31 = .ok (.aload_n 0, 1) := dk_42 (dk_at dksX5_code_1 7 rfl rfl)
theorem dX5_code_32 : decode cX5_code 32 = .ok (.getfield 450, 3) := dk_180 1 194 (dk_at dksX5_code_1 8 rfl rfl)
theorem dX5_code_35 : decode cX5_code 35 = .ok (.imul, 1) := dk_104 (dk_at dksX5_code_1 11 rfl rfl)
theorem dX5_code_36 : decode cX5_code 36 = .ok (.iconst 2, 1) := dk_5 (dk_at dksX5_code_1 12 rfl rfl)
theorem dX5_code_37 : decode cX5_code 37 = .ok (.iadd, 1) := dk_96 (dk_at dksX5_code_1 13 rfl rfl)
theorem dX5_code_38 : decode cX5_code 38 = .ok (.iload_n 3, 1) := dk_29 (dk_at dksX5_code_1 14 rfl rfl)
theorem dX5_code_39 : decode cX5_code 39 = .ok (.iastore, 1) := dk_79 (dk_at dksX5_code_1 15 rfl rfl)
theorem dX5_code_40 : decode cX5_code 40 = .ok (.aload_n 0, 1) := dk_42 (dk_at dksX5_code_1 16 rfl rfl)
theorem dX5_code_41 : decode cX5_code 41 = .ok (.dup, 1) := dk_89 (dk_at dksX5_code_1 17 rfl rfl)
theorem dX5_code_42 : decode cX5_code 42 = .ok (.getfield 450, 3) := dk_180 1 194 (dk_at dksX5_code_1 18 rfl rfl)
theorem dX5_code_45 : decode cX5_code 45 = .ok (.iconst 1, 1) := dk_4 (dk_at dksX5_code_1 21 rfl rfl)
theorem dX5_code_46 : decode cX5_code 46 = .ok (.iadd, 1) := dk_96 (dk_at dksX5_code_1 22 rfl rfl)
theorem dX5_code_47 : decode cX5_code 47 = .ok (.putfield 450, 3) := dk_181 1 194 (dk_at dksX5_code_2 0 rfl rfl)
theorem dX5_code_50 : decode cX5_code 50 = .ok (.return_, 1) := dk_177 (dk_at dksX5_code_2 3 rfl rfl)
abbrev cX5_joins : ByteArray := prog_32_method_106_code
def yX5_joins : MethodName := ⟨RX5, "joins", "(I)V"⟩
def dkwX5_joins_3 : List UInt8 := [167, 255, 186, 177]
abbrev dktX5_joins_3 : List UInt8 := dkwX5_joins_3 ++ []
def dkwX5_joins_2 : List UInt8 := [180, 1, 197, 4, 100, 181, 1, 197, 42, 42, 180, 0, 98, 42, 180, 1, 197, 46, 3, 3, 182, 1, 200]
abbrev dktX5_joins_2 : List UInt8 := dkwX5_joins_2 ++ dktX5_joins_3
def dkwX5_joins_1 : List UInt8 := [180, 0, 98, 42, 180, 1, 197, 4, 100, 46, 16, 22, 160, 0, 37, 27, 16, 22, 160, 0, 31, 42, 89]
abbrev dktX5_joins_1 : List UInt8 := dkwX5_joins_1 ++ dktX5_joins_2
def dkwX5_joins_0 : List UInt8 := [42, 180, 1, 197, 158, 0, 69, 42, 180, 0, 98, 42, 180, 1, 197, 4, 100, 46, 16, 21, 159, 0, 25, 42]
abbrev dktX5_joins_0 : List UInt8 := dkwX5_joins_0 ++ dktX5_joins_1
theorem dksX5_joins_0 : cX5_joins.data.toList.drop 0 = dktX5_joins_0 := by decide +kernel
theorem dksX5_joins_1 : cX5_joins.data.toList.drop 24 = dktX5_joins_1 := dk_seg dksX5_joins_0 24 rfl rfl
theorem dksX5_joins_2 : cX5_joins.data.toList.drop 47 = dktX5_joins_2 := dk_seg dksX5_joins_1 23 rfl rfl
theorem dksX5_joins_3 : cX5_joins.data.toList.drop 70 = dktX5_joins_3 := dk_seg dksX5_joins_2 23 rfl rfl
theorem dX5_joins_0 : decode cX5_joins 0 = .ok (.aload_n 0, 1) := dk_42 (dk_at dksX5_joins_0 0 rfl rfl)
theorem dX5_joins_1 : decode cX5_joins 1 = .ok (.getfield 453, 3) := dk_180 1 197 (dk_at dksX5_joins_0 1 rfl rfl)
theorem dX5_joins_4 : decode cX5_joins 4 = .ok (.ifCond .le 69, 3) := dk_158 0 69 (dk_at dksX5_joins_0 4 rfl rfl)
theorem dX5_joins_7 : decode cX5_joins 7 = .ok (.aload_n 0, 1) := dk_42 (dk_at dksX5_joins_0 7 rfl rfl)
theorem dX5_joins_8 : decode cX5_joins 8 = .ok (.getfield 98, 3) := dk_180 0 98 (dk_at dksX5_joins_0 8 rfl rfl)
theorem dX5_joins_11 : decode cX5_joins 11 = .ok (.aload_n 0, 1) := dk_42 (dk_at dksX5_joins_0 11 rfl rfl)
theorem dX5_joins_12 : decode cX5_joins 12 = .ok (.getfield 453, 3) := dk_180 1 197 (dk_at dksX5_joins_0 12 rfl rfl)
theorem dX5_joins_15 : decode cX5_joins 15 = .ok (.iconst 1, 1) := dk_4 (dk_at dksX5_joins_0 15 rfl rfl)
theorem dX5_joins_16 : decode cX5_joins 16 = .ok (.isub, 1) := dk_100 (dk_at dksX5_joins_0 16 rfl rfl)
theorem dX5_joins_17 : decode cX5_joins 17 = .ok (.iaload, 1) := dk_46 (dk_at dksX5_joins_0 17 rfl rfl)
theorem dX5_joins_18 : decode cX5_joins 18 = .ok (.bipush 21, 2) := dk_16 21 (dk_at dksX5_joins_0 18 rfl rfl)
theorem dX5_joins_20 : decode cX5_joins 20 = .ok (.if_icmp .eq 25, 3) := dk_159 0 25 (dk_at dksX5_joins_0 20 rfl rfl)
theorem dX5_joins_23 : decode cX5_joins 23 = .ok (.aload_n 0, 1) := dk_42 (dk_at dksX5_joins_0 23 rfl rfl)
theorem dX5_joins_24 : decode cX5_joins 24 = .ok (.getfield 98, 3) := dk_180 0 98 (dk_at dksX5_joins_1 0 rfl rfl)
theorem dX5_joins_27 : decode cX5_joins 27 = .ok (.aload_n 0, 1) := dk_42 (dk_at dksX5_joins_1 3 rfl rfl)
theorem dX5_joins_28 : decode cX5_joins 28 = .ok (.getfield 453, 3) := dk_180 1 197 (dk_at dksX5_joins_1 4 rfl rfl)
theorem dX5_joins_31 : decode cX5_joins 31 = .ok (.iconst 1, 1) := dk_4 (dk_at dksX5_joins_1 7 rfl rfl)
theorem dX5_joins_32 : decode cX5_joins 32 = .ok (.isub, 1) := dk_100 (dk_at dksX5_joins_1 8 rfl rfl)
theorem dX5_joins_33 : decode cX5_joins 33 = .ok (.iaload, 1) := dk_46 (dk_at dksX5_joins_1 9 rfl rfl)
theorem dX5_joins_34 : decode cX5_joins 34 = .ok (.bipush 22, 2) := dk_16 22 (dk_at dksX5_joins_1 10 rfl rfl)
theorem dX5_joins_36 : decode cX5_joins 36 = .ok (.if_icmp .ne 37, 3) := dk_160 0 37 (dk_at dksX5_joins_1 12 rfl rfl)
theorem dX5_joins_39 : decode cX5_joins 39 = .ok (.iload_n 1, 1) := dk_27 (dk_at dksX5_joins_1 15 rfl rfl)
theorem dX5_joins_40 : decode cX5_joins 40 = .ok (.bipush 22, 2) := dk_16 22 (dk_at dksX5_joins_1 16 rfl rfl)
theorem dX5_joins_42 : decode cX5_joins 42 = .ok (.if_icmp .ne 31, 3) := dk_160 0 31 (dk_at dksX5_joins_1 18 rfl rfl)
theorem dX5_joins_45 : decode cX5_joins 45 = .ok (.aload_n 0, 1) := dk_42 (dk_at dksX5_joins_1 21 rfl rfl)
theorem dX5_joins_46 : decode cX5_joins 46 = .ok (.dup, 1) := dk_89 (dk_at dksX5_joins_1 22 rfl rfl)
theorem dX5_joins_47 : decode cX5_joins 47 = .ok (.getfield 453, 3) := dk_180 1 197 (dk_at dksX5_joins_2 0 rfl rfl)
theorem dX5_joins_50 : decode cX5_joins 50 = .ok (.iconst 1, 1) := dk_4 (dk_at dksX5_joins_2 3 rfl rfl)
theorem dX5_joins_51 : decode cX5_joins 51 = .ok (.isub, 1) := dk_100 (dk_at dksX5_joins_2 4 rfl rfl)
theorem dX5_joins_52 : decode cX5_joins 52 = .ok (.putfield 453, 3) := dk_181 1 197 (dk_at dksX5_joins_2 5 rfl rfl)
theorem dX5_joins_55 : decode cX5_joins 55 = .ok (.aload_n 0, 1) := dk_42 (dk_at dksX5_joins_2 8 rfl rfl)
theorem dX5_joins_56 : decode cX5_joins 56 = .ok (.aload_n 0, 1) := dk_42 (dk_at dksX5_joins_2 9 rfl rfl)
theorem dX5_joins_57 : decode cX5_joins 57 = .ok (.getfield 98, 3) := dk_180 0 98 (dk_at dksX5_joins_2 10 rfl rfl)
theorem dX5_joins_60 : decode cX5_joins 60 = .ok (.aload_n 0, 1) := dk_42 (dk_at dksX5_joins_2 13 rfl rfl)
theorem dX5_joins_61 : decode cX5_joins 61 = .ok (.getfield 453, 3) := dk_180 1 197 (dk_at dksX5_joins_2 14 rfl rfl)
theorem dX5_joins_64 : decode cX5_joins 64 = .ok (.iaload, 1) := dk_46 (dk_at dksX5_joins_2 17 rfl rfl)
theorem dX5_joins_65 : decode cX5_joins 65 = .ok (.iconst 0, 1) := dk_3 (dk_at dksX5_joins_2 18 rfl rfl)
theorem dX5_joins_66 : decode cX5_joins 66 = .ok (.iconst 0, 1) := dk_3 (dk_at dksX5_joins_2 19 rfl rfl)
theorem dX5_joins_67 : decode cX5_joins 67 = .ok (.invokevirtual 456, 3) := dk_182 1 200 (dk_at dksX5_joins_2 20 rfl rfl)
theorem dX5_joins_70 : decode cX5_joins 70 = .ok (.goto (-70), 3) := dk_167 255 186 (dk_at dksX5_joins_3 0 rfl rfl)
theorem dX5_joins_73 : decode cX5_joins 73 = .ok (.return_, 1) := dk_177 (dk_at dksX5_joins_3 3 rfl rfl)
abbrev cX5_behind : ByteArray := prog_32_method_110_code
def yX5_behind : MethodName := ⟨RX5, "behind", "()Z"⟩
def dkwX5_behind_6 : List UInt8 := [42, 182, 0, 204, 4, 172]
abbrev dktX5_behind_6 : List UInt8 := dkwX5_behind_6 ++ []
def dkwX5_behind_5 : List UInt8 := [182, 0, 201, 172, 42, 89, 180, 1, 197, 4, 100, 181, 1, 197, 42, 89, 180, 1, 203, 4, 100, 181, 1, 203]
abbrev dktX5_behind_5 : List UInt8 := dkwX5_behind_5 ++ dktX5_behind_6
def dkwX5_behind_4 : List UInt8 := [16, 22, 182, 1, 218, 42, 16, 41, 182, 0, 198, 153, 0, 10, 42, 180, 1, 197, 154, 0, 9, 42, 4]
abbrev dktX5_behind_4 : List UInt8 := dkwX5_behind_4 ++ dktX5_behind_5
def dkwX5_behind_3 : List UInt8 := [79, 42, 89, 180, 1, 197, 4, 96, 181, 1, 197, 42, 3, 181, 1, 212, 42, 182, 0, 204, 4, 172, 42]
abbrev dktX5_behind_3 : List UInt8 := dkwX5_behind_3 ++ dktX5_behind_4
def dkwX5_behind_2 : List UInt8 := [180, 0, 98, 42, 180, 1, 197, 42, 20, 0, 140, 182, 0, 229, 153, 0, 8, 16, 21, 167, 0, 5, 16, 22]
abbrev dktX5_behind_2 : List UInt8 := dkwX5_behind_2 ++ dktX5_behind_3
def dkwX5_behind_1 : List UInt8 := [42, 42, 20, 0, 140, 182, 0, 229, 153, 0, 8, 16, 21, 167, 0, 5, 16, 22, 182, 1, 218, 42]
abbrev dktX5_behind_1 : List UInt8 := dkwX5_behind_1 ++ dktX5_behind_2
def dkwX5_behind_0 : List UInt8 := [42, 182, 1, 215, 42, 20, 0, 140, 182, 0, 229, 154, 0, 13, 42, 20, 0, 138, 182, 0, 229, 153, 0, 71]
abbrev dktX5_behind_0 : List UInt8 := dkwX5_behind_0 ++ dktX5_behind_1
theorem dksX5_behind_0 : cX5_behind.data.toList.drop 0 = dktX5_behind_0 := by decide +kernel
theorem dksX5_behind_1 : cX5_behind.data.toList.drop 24 = dktX5_behind_1 := dk_seg dksX5_behind_0 24 rfl rfl
theorem dksX5_behind_2 : cX5_behind.data.toList.drop 46 = dktX5_behind_2 := dk_seg dksX5_behind_1 22 rfl rfl
theorem dksX5_behind_3 : cX5_behind.data.toList.drop 70 = dktX5_behind_3 := dk_seg dksX5_behind_2 24 rfl rfl
theorem dksX5_behind_4 : cX5_behind.data.toList.drop 93 = dktX5_behind_4 := dk_seg dksX5_behind_3 23 rfl rfl
theorem dksX5_behind_5 : cX5_behind.data.toList.drop 116 = dktX5_behind_5 := dk_seg dksX5_behind_4 23 rfl rfl
theorem dksX5_behind_6 : cX5_behind.data.toList.drop 140 = dktX5_behind_6 := dk_seg dksX5_behind_5 24 rfl rfl
theorem dX5_behind_0 : decode cX5_behind 0 = .ok (.aload_n 0, 1) := dk_42 (dk_at dksX5_behind_0 0 rfl rfl)
theorem dX5_behind_1 : decode cX5_behind 1 = .ok (.invokevirtual 471, 3) := dk_182 1 215 (dk_at dksX5_behind_0 1 rfl rfl)
theorem dX5_behind_4 : decode cX5_behind 4 = .ok (.aload_n 0, 1) := dk_42 (dk_at dksX5_behind_0 4 rfl rfl)
theorem dX5_behind_5 : decode cX5_behind 5 = .ok (.ldc2_w 140, 3) := dk_20 0 140 (dk_at dksX5_behind_0 5 rfl rfl)
theorem dX5_behind_8 : decode cX5_behind 8 = .ok (.invokevirtual 229, 3) := dk_182 0 229 (dk_at dksX5_behind_0 8 rfl rfl)
theorem dX5_behind_11 : decode cX5_behind 11 = .ok (.ifCond .ne 13, 3) := dk_154 0 13 (dk_at dksX5_behind_0 11 rfl rfl)
theorem dX5_behind_14 : decode cX5_behind 14 = .ok (.aload_n 0, 1) := dk_42 (dk_at dksX5_behind_0 14 rfl rfl)
theorem dX5_behind_15 : decode cX5_behind 15 = .ok (.ldc2_w 138, 3) := dk_20 0 138 (dk_at dksX5_behind_0 15 rfl rfl)
theorem dX5_behind_18 : decode cX5_behind 18 = .ok (.invokevirtual 229, 3) := dk_182 0 229 (dk_at dksX5_behind_0 18 rfl rfl)
theorem dX5_behind_21 : decode cX5_behind 21 = .ok (.ifCond .eq 71, 3) := dk_153 0 71 (dk_at dksX5_behind_0 21 rfl rfl)
theorem dX5_behind_24 : decode cX5_behind 24 = .ok (.aload_n 0, 1) := dk_42 (dk_at dksX5_behind_1 0 rfl rfl)
theorem dX5_behind_25 : decode cX5_behind 25 = .ok (.aload_n 0, 1) := dk_42 (dk_at dksX5_behind_1 1 rfl rfl)
theorem dX5_behind_26 : decode cX5_behind 26 = .ok (.ldc2_w 140, 3) := dk_20 0 140 (dk_at dksX5_behind_1 2 rfl rfl)
theorem dX5_behind_29 : decode cX5_behind 29 = .ok (.invokevirtual 229, 3) := dk_182 0 229 (dk_at dksX5_behind_1 5 rfl rfl)
theorem dX5_behind_32 : decode cX5_behind 32 = .ok (.ifCond .eq 8, 3) := dk_153 0 8 (dk_at dksX5_behind_1 8 rfl rfl)
theorem dX5_behind_35 : decode cX5_behind 35 = .ok (.bipush 21, 2) := dk_16 21 (dk_at dksX5_behind_1 11 rfl rfl)
theorem dX5_behind_37 : decode cX5_behind 37 = .ok (.goto 5, 3) := dk_167 0 5 (dk_at dksX5_behind_1 13 rfl rfl)
theorem dX5_behind_40 : decode cX5_behind 40 = .ok (.bipush 22, 2) := dk_16 22 (dk_at dksX5_behind_1 16 rfl rfl)
theorem dX5_behind_42 : decode cX5_behind 42 = .ok (.invokevirtual 474, 3) := dk_182 1 218 (dk_at dksX5_behind_1 18 rfl rfl)
theorem dX5_behind_45 : decode cX5_behind 45 = .ok (.aload_n 0, 1) := dk_42 (dk_at dksX5_behind_1 21 rfl rfl)
theorem dX5_behind_46 : decode cX5_behind 46 = .ok (.getfield 98, 3) := dk_180 0 98 (dk_at dksX5_behind_2 0 rfl rfl)
theorem dX5_behind_49 : decode cX5_behind 49 = .ok (.aload_n 0, 1) := dk_42 (dk_at dksX5_behind_2 3 rfl rfl)
theorem dX5_behind_50 : decode cX5_behind 50 = .ok (.getfield 453, 3) := dk_180 1 197 (dk_at dksX5_behind_2 4 rfl rfl)
theorem dX5_behind_53 : decode cX5_behind 53 = .ok (.aload_n 0, 1) := dk_42 (dk_at dksX5_behind_2 7 rfl rfl)
theorem dX5_behind_54 : decode cX5_behind 54 = .ok (.ldc2_w 140, 3) := dk_20 0 140 (dk_at dksX5_behind_2 8 rfl rfl)
theorem dX5_behind_57 : decode cX5_behind 57 = .ok (.invokevirtual 229, 3) := dk_182 0 229 (dk_at dksX5_behind_2 11 rfl rfl)
theorem dX5_behind_60 : decode cX5_behind 60 = .ok (.ifCond .eq 8, 3) := dk_153 0 8 (dk_at dksX5_behind_2 14 rfl rfl)
theorem dX5_behind_63 : decode cX5_behind 63 = .ok (.bipush 21, 2) := dk_16 21 (dk_at dksX5_behind_2 17 rfl rfl)
theorem dX5_behind_65 : decode cX5_behind 65 = .ok (.goto 5, 3) := dk_167 0 5 (dk_at dksX5_behind_2 19 rfl rfl)
theorem dX5_behind_68 : decode cX5_behind 68 = .ok (.bipush 22, 2) := dk_16 22 (dk_at dksX5_behind_2 22 rfl rfl)
theorem dX5_behind_70 : decode cX5_behind 70 = .ok (.iastore, 1) := dk_79 (dk_at dksX5_behind_3 0 rfl rfl)
theorem dX5_behind_71 : decode cX5_behind 71 = .ok (.aload_n 0, 1) := dk_42 (dk_at dksX5_behind_3 1 rfl rfl)
theorem dX5_behind_72 : decode cX5_behind 72 = .ok (.dup, 1) := dk_89 (dk_at dksX5_behind_3 2 rfl rfl)
theorem dX5_behind_73 : decode cX5_behind 73 = .ok (.getfield 453, 3) := dk_180 1 197 (dk_at dksX5_behind_3 3 rfl rfl)
theorem dX5_behind_76 : decode cX5_behind 76 = .ok (.iconst 1, 1) := dk_4 (dk_at dksX5_behind_3 6 rfl rfl)
theorem dX5_behind_77 : decode cX5_behind 77 = .ok (.iadd, 1) := dk_96 (dk_at dksX5_behind_3 7 rfl rfl)
theorem dX5_behind_78 : decode cX5_behind 78 = .ok (.putfield 453, 3) := dk_181 1 197 (dk_at dksX5_behind_3 8 rfl rfl)
theorem dX5_behind_81 : decode cX5_behind 81 = .ok (.aload_n 0, 1) := dk_42 (dk_at dksX5_behind_3 11 rfl rfl)
theorem dX5_behind_82 : decode cX5_behind 82 = .ok (.iconst 0, 1) := dk_3 (dk_at dksX5_behind_3 12 rfl rfl)
theorem dX5_behind_83 : decode cX5_behind 83 = .ok (.putfield 468, 3) := dk_181 1 212 (dk_at dksX5_behind_3 13 rfl rfl)
theorem dX5_behind_86 : decode cX5_behind 86 = .ok (.aload_n 0, 1) := dk_42 (dk_at dksX5_behind_3 16 rfl rfl)
theorem dX5_behind_87 : decode cX5_behind 87 = .ok (.invokevirtual 204, 3) := dk_182 0 204 (dk_at dksX5_behind_3 17 rfl rfl)
theorem dX5_behind_90 : decode cX5_behind 90 = .ok (.iconst 1, 1) := dk_4 (dk_at dksX5_behind_3 20 rfl rfl)
theorem dX5_behind_91 : decode cX5_behind 91 = .ok (.ireturn, 1) := dk_172 (dk_at dksX5_behind_3 21 rfl rfl)
theorem dX5_behind_92 : decode cX5_behind 92 = .ok (.aload_n 0, 1) := dk_42 (dk_at dksX5_behind_3 22 rfl rfl)
theorem dX5_behind_93 : decode cX5_behind 93 = .ok (.bipush 22, 2) := dk_16 22 (dk_at dksX5_behind_4 0 rfl rfl)
theorem dX5_behind_95 : decode cX5_behind 95 = .ok (.invokevirtual 474, 3) := dk_182 1 218 (dk_at dksX5_behind_4 2 rfl rfl)
theorem dX5_behind_98 : decode cX5_behind 98 = .ok (.aload_n 0, 1) := dk_42 (dk_at dksX5_behind_4 5 rfl rfl)
theorem dX5_behind_99 : decode cX5_behind 99 = .ok (.bipush 41, 2) := dk_16 41 (dk_at dksX5_behind_4 6 rfl rfl)
theorem dX5_behind_101 : decode cX5_behind 101 = .ok (.invokevirtual 198, 3) := dk_182 0 198 (dk_at dksX5_behind_4 8 rfl rfl)
theorem dX5_behind_104 : decode cX5_behind 104 = .ok (.ifCond .eq 10, 3) := dk_153 0 10 (dk_at dksX5_behind_4 11 rfl rfl)
theorem dX5_behind_107 : decode cX5_behind 107 = .ok (.aload_n 0, 1) := dk_42 (dk_at dksX5_behind_4 14 rfl rfl)
theorem dX5_behind_108 : decode cX5_behind 108 = .ok (.getfield 453, 3) := dk_180 1 197 (dk_at dksX5_behind_4 15 rfl rfl)
theorem dX5_behind_111 : decode cX5_behind 111 = .ok (.ifCond .ne 9, 3) := dk_154 0 9 (dk_at dksX5_behind_4 18 rfl rfl)
theorem dX5_behind_114 : decode cX5_behind 114 = .ok (.aload_n 0, 1) := dk_42 (dk_at dksX5_behind_4 21 rfl rfl)
theorem dX5_behind_115 : decode cX5_behind 115 = .ok (.iconst 1, 1) := dk_4 (dk_at dksX5_behind_4 22 rfl rfl)
theorem dX5_behind_116 : decode cX5_behind 116 = .ok (.invokevirtual 201, 3) := dk_182 0 201 (dk_at dksX5_behind_5 0 rfl rfl)
theorem dX5_behind_119 : decode cX5_behind 119 = .ok (.ireturn, 1) := dk_172 (dk_at dksX5_behind_5 3 rfl rfl)
theorem dX5_behind_120 : decode cX5_behind 120 = .ok (.aload_n 0, 1) := dk_42 (dk_at dksX5_behind_5 4 rfl rfl)
theorem dX5_behind_121 : decode cX5_behind 121 = .ok (.dup, 1) := dk_89 (dk_at dksX5_behind_5 5 rfl rfl)
theorem dX5_behind_122 : decode cX5_behind 122 = .ok (.getfield 453, 3) := dk_180 1 197 (dk_at dksX5_behind_5 6 rfl rfl)
theorem dX5_behind_125 : decode cX5_behind 125 = .ok (.iconst 1, 1) := dk_4 (dk_at dksX5_behind_5 9 rfl rfl)
theorem dX5_behind_126 : decode cX5_behind 126 = .ok (.isub, 1) := dk_100 (dk_at dksX5_behind_5 10 rfl rfl)
theorem dX5_behind_127 : decode cX5_behind 127 = .ok (.putfield 453, 3) := dk_181 1 197 (dk_at dksX5_behind_5 11 rfl rfl)
theorem dX5_behind_130 : decode cX5_behind 130 = .ok (.aload_n 0, 1) := dk_42 (dk_at dksX5_behind_5 14 rfl rfl)
theorem dX5_behind_131 : decode cX5_behind 131 = .ok (.dup, 1) := dk_89 (dk_at dksX5_behind_5 15 rfl rfl)
theorem dX5_behind_132 : decode cX5_behind 132 = .ok (.getfield 459, 3) := dk_180 1 203 (dk_at dksX5_behind_5 16 rfl rfl)
theorem dX5_behind_135 : decode cX5_behind 135 = .ok (.iconst 1, 1) := dk_4 (dk_at dksX5_behind_5 19 rfl rfl)
theorem dX5_behind_136 : decode cX5_behind 136 = .ok (.isub, 1) := dk_100 (dk_at dksX5_behind_5 20 rfl rfl)
theorem dX5_behind_137 : decode cX5_behind 137 = .ok (.putfield 459, 3) := dk_181 1 203 (dk_at dksX5_behind_5 21 rfl rfl)
theorem dX5_behind_140 : decode cX5_behind 140 = .ok (.aload_n 0, 1) := dk_42 (dk_at dksX5_behind_6 0 rfl rfl)
theorem dX5_behind_141 : decode cX5_behind 141 = .ok (.invokevirtual 204, 3) := dk_182 0 204 (dk_at dksX5_behind_6 1 rfl rfl)
theorem dX5_behind_144 : decode cX5_behind 144 = .ok (.iconst 1, 1) := dk_4 (dk_at dksX5_behind_6 4 rfl rfl)
theorem dX5_behind_145 : decode cX5_behind 145 = .ok (.ireturn, 1) := dk_172 (dk_at dksX5_behind_6 5 rfl rfl)
abbrev cX5_operand : ByteArray := prog_32_method_109_code
def yX5_operand : MethodName := ⟨RX5, "operand", "()Z"⟩
def dkwX5_operand_10 : List UInt8 := [29, 21, 4, 42, 180, 0, 185, 182, 1, 200, 42, 182, 0, 204, 4, 172]
abbrev dktX5_operand_10 : List UInt8 := dkwX5_operand_10 ++ []
def dkwX5_operand_9 : List UInt8 := [180, 0, 185, 54, 4, 42, 182, 0, 204, 42, 180, 0, 175, 5, 159, 0, 9, 42, 4, 182, 0, 201, 172, 42]
abbrev dktX5_operand_9 : List UInt8 := dkwX5_operand_9 ++ dktX5_operand_10
def dkwX5_operand_8 : List UInt8 := [180, 0, 185, 16, 60, 161, 0, 12, 42, 180, 0, 185, 16, 62, 164, 0, 9, 42, 4, 182, 0, 201, 172, 42]
abbrev dktX5_operand_8 : List UInt8 := dkwX5_operand_8 ++ dktX5_operand_9
def dkwX5_operand_7 : List UInt8 := [3, 42, 180, 0, 211, 182, 1, 200, 42, 182, 0, 204, 4, 172, 42, 180, 0, 175, 6, 160, 0, 21, 42]
abbrev dktX5_operand_7 : List UInt8 := dkwX5_operand_7 ++ dktX5_operand_8
def dkwX5_operand_6 : List UInt8 := [172, 29, 8, 162, 0, 35, 42, 3, 42, 180, 0, 33, 3, 46, 182, 0, 226, 154, 0, 5, 3, 172, 42, 29]
abbrev dktX5_operand_6 : List UInt8 := dkwX5_operand_6 ++ dktX5_operand_7
def dkwX5_operand_5 : List UInt8 := [96, 181, 1, 203, 4, 172, 42, 4, 181, 1, 212, 29, 5, 162, 0, 12, 42, 29, 3, 3, 182, 1, 200, 4]
abbrev dktX5_operand_5 : List UInt8 := dkwX5_operand_5 ++ dktX5_operand_6
def dkwX5_operand_4 : List UInt8 := [16, 20, 167, 0, 5, 16, 23, 79, 42, 89, 180, 1, 197, 4, 96, 181, 1, 197, 42, 89, 180, 1, 203, 4]
abbrev dktX5_operand_4 : List UInt8 := dkwX5_operand_4 ++ dktX5_operand_5
def dkwX5_operand_3 : List UInt8 := [42, 182, 0, 204, 27, 154, 0, 7, 28, 153, 0, 45, 42, 180, 0, 98, 42, 180, 1, 197, 27, 153, 0, 8]
abbrev dktX5_operand_3 : List UInt8 := dkwX5_operand_3 ++ dktX5_operand_4
def dkwX5_operand_2 : List UInt8 := [180, 1, 203, 16, 8, 164, 0, 9, 42, 7, 182, 0, 201, 172, 42, 89, 180, 1, 209, 4, 96, 181, 1, 209]
abbrev dktX5_operand_2 : List UInt8 := dkwX5_operand_2 ++ dktX5_operand_3
def dkwX5_operand_1 : List UInt8 := [28, 154, 0, 13, 29, 156, 0, 9, 42, 4, 182, 0, 201, 172, 42, 180, 1, 209, 16, 20, 159, 0, 12, 42]
abbrev dktX5_operand_1 : List UInt8 := dkwX5_operand_1 ++ dktX5_operand_2
def dkwX5_operand_0 : List UInt8 := [42, 20, 0, 142, 182, 0, 229, 60, 42, 16, 40, 182, 0, 198, 61, 42, 182, 1, 206, 62, 27, 154, 0, 17]
abbrev dktX5_operand_0 : List UInt8 := dkwX5_operand_0 ++ dktX5_operand_1
theorem dksX5_operand_0 : cX5_operand.data.toList.drop 0 = dktX5_operand_0 := by decide +kernel
theorem dksX5_operand_1 : cX5_operand.data.toList.drop 24 = dktX5_operand_1 := dk_seg dksX5_operand_0 24 rfl rfl
theorem dksX5_operand_2 : cX5_operand.data.toList.drop 48 = dktX5_operand_2 := dk_seg dksX5_operand_1 24 rfl rfl
theorem dksX5_operand_3 : cX5_operand.data.toList.drop 72 = dktX5_operand_3 := dk_seg dksX5_operand_2 24 rfl rfl
theorem dksX5_operand_4 : cX5_operand.data.toList.drop 96 = dktX5_operand_4 := dk_seg dksX5_operand_3 24 rfl rfl
theorem dksX5_operand_5 : cX5_operand.data.toList.drop 120 = dktX5_operand_5 := dk_seg dksX5_operand_4 24 rfl rfl
theorem dksX5_operand_6 : cX5_operand.data.toList.drop 144 = dktX5_operand_6 := dk_seg dksX5_operand_5 24 rfl rfl
theorem dksX5_operand_7 : cX5_operand.data.toList.drop 168 = dktX5_operand_7 := dk_seg dksX5_operand_6 24 rfl rfl
theorem dksX5_operand_8 : cX5_operand.data.toList.drop 191 = dktX5_operand_8 := dk_seg dksX5_operand_7 23 rfl rfl
theorem dksX5_operand_9 : cX5_operand.data.toList.drop 215 = dktX5_operand_9 := dk_seg dksX5_operand_8 24 rfl rfl
theorem dksX5_operand_10 : cX5_operand.data.toList.drop 239 = dktX5_operand_10 := dk_seg dksX5_operand_9 24 rfl rfl
theorem dX5_operand_0 : decode cX5_operand 0 = .ok (.aload_n 0, 1) := dk_42 (dk_at dksX5_operand_0 0 rfl rfl)
theorem dX5_operand_1 : decode cX5_operand 1 = .ok (.ldc2_w 142, 3) := dk_20 0 142 (dk_at dksX5_operand_0 1 rfl rfl)
theorem dX5_operand_4 : decode cX5_operand 4 = .ok (.invokevirtual 229, 3) := dk_182 0 229 (dk_at dksX5_operand_0 4 rfl rfl)
theorem dX5_operand_7 : decode cX5_operand 7 = .ok (.istore_n 1, 1) := dk_60 (dk_at dksX5_operand_0 7 rfl rfl)
theorem dX5_operand_8 : decode cX5_operand 8 = .ok (.aload_n 0, 1) := dk_42 (dk_at dksX5_operand_0 8 rfl rfl)
theorem dX5_operand_9 : decode cX5_operand 9 = .ok (.bipush 40, 2) := dk_16 40 (dk_at dksX5_operand_0 9 rfl rfl)
theorem dX5_operand_11 : decode cX5_operand 11 = .ok (.invokevirtual 198, 3) := dk_182 0 198 (dk_at dksX5_operand_0 11 rfl rfl)
theorem dX5_operand_14 : decode cX5_operand 14 = .ok (.istore_n 2, 1) := dk_61 (dk_at dksX5_operand_0 14 rfl rfl)
theorem dX5_operand_15 : decode cX5_operand 15 = .ok (.aload_n 0, 1) := dk_42 (dk_at dksX5_operand_0 15 rfl rfl)
theorem dX5_operand_16 : decode cX5_operand 16 = .ok (.invokevirtual 462, 3) := dk_182 1 206 (dk_at dksX5_operand_0 16 rfl rfl)
theorem dX5_operand_19 : decode cX5_operand 19 = .ok (.istore_n 3, 1) := dk_62 (dk_at dksX5_operand_0 19 rfl rfl)
theorem dX5_operand_20 : decode cX5_operand 20 = .ok (.iload_n 1, 1) := dk_27 (dk_at dksX5_operand_0 20 rfl rfl)
theorem dX5_operand_21 : decode cX5_operand 21 = .ok (.ifCond .ne 17, 3) := dk_154 0 17 (dk_at dksX5_operand_0 21 rfl rfl)
theorem dX5_operand_24 : decode cX5_operand 24 = .ok (.iload_n 2, 1) := dk_28 (dk_at dksX5_operand_1 0 rfl rfl)
theorem dX5_operand_25 : decode cX5_operand 25 = .ok (.ifCond .ne 13, 3) := dk_154 0 13 (dk_at dksX5_operand_1 1 rfl rfl)
theorem dX5_operand_28 : decode cX5_operand 28 = .ok (.iload_n 3, 1) := dk_29 (dk_at dksX5_operand_1 4 rfl rfl)
theorem dX5_operand_29 : decode cX5_operand 29 = .ok (.ifCond .ge 9, 3) := dk_156 0 9 (dk_at dksX5_operand_1 5 rfl rfl)
theorem dX5_operand_32 : decode cX5_operand 32 = .ok (.aload_n 0, 1) := dk_42 (dk_at dksX5_operand_1 8 rfl rfl)
theorem dX5_operand_33 : decode cX5_operand 33 = .ok (.iconst 1, 1) := dk_4 (dk_at dksX5_operand_1 9 rfl rfl)
theorem dX5_operand_34 : decode cX5_operand 34 = .ok (.invokevirtual 201, 3) := dk_182 0 201 (dk_at dksX5_operand_1 10 rfl rfl)
theorem dX5_operand_37 : decode cX5_operand 37 = .ok (.ireturn, 1) := dk_172 (dk_at dksX5_operand_1 13 rfl rfl)
theorem dX5_operand_38 : decode cX5_operand 38 = .ok (.aload_n 0, 1) := dk_42 (dk_at dksX5_operand_1 14 rfl rfl)
theorem dX5_operand_39 : decode cX5_operand 39 = .ok (.getfield 465, 3) := dk_180 1 209 (dk_at dksX5_operand_1 15 rfl rfl)
theorem dX5_operand_42 : decode cX5_operand 42 = .ok (.bipush 20, 2) := dk_16 20 (dk_at dksX5_operand_1 18 rfl rfl)
theorem dX5_operand_44 : decode cX5_operand 44 = .ok (.if_icmp .eq 12, 3) := dk_159 0 12 (dk_at dksX5_operand_1 20 rfl rfl)
theorem dX5_operand_47 : decode cX5_operand 47 = .ok (.aload_n 0, 1) := dk_42 (dk_at dksX5_operand_1 23 rfl rfl)
theorem dX5_operand_48 : decode cX5_operand 48 = .ok (.getfield 459, 3) := dk_180 1 203 (dk_at dksX5_operand_2 0 rfl rfl)
theorem dX5_operand_51 : decode cX5_operand 51 = .ok (.bipush 8, 2) := dk_16 8 (dk_at dksX5_operand_2 3 rfl rfl)
theorem dX5_operand_53 : decode cX5_operand 53 = .ok (.if_icmp .le 9, 3) := dk_164 0 9 (dk_at dksX5_operand_2 5 rfl rfl)
theorem dX5_operand_56 : decode cX5_operand 56 = .ok (.aload_n 0, 1) := dk_42 (dk_at dksX5_operand_2 8 rfl rfl)
theorem dX5_operand_57 : decode cX5_operand 57 = .ok (.iconst 4, 1) := dk_7 (dk_at dksX5_operand_2 9 rfl rfl)
theorem dX5_operand_58 : decode cX5_operand 58 = .ok (.invokevirtual 201, 3) := dk_182 0 201 (dk_at dksX5_operand_2 10 rfl rfl)
theorem dX5_operand_61 : decode cX5_operand 61 = .ok (.ireturn, 1) := dk_172 (dk_at dksX5_operand_2 13 rfl rfl)
theorem dX5_operand_62 : decode cX5_operand 62 = .ok (.aload_n 0, 1) := dk_42 (dk_at dksX5_operand_2 14 rfl rfl)
theorem dX5_operand_63 : decode cX5_operand 63 = .ok (.dup, 1) := dk_89 (dk_at dksX5_operand_2 15 rfl rfl)
theorem dX5_operand_64 : decode cX5_operand 64 = .ok (.getfield 465, 3) := dk_180 1 209 (dk_at dksX5_operand_2 16 rfl rfl)
theorem dX5_operand_67 : decode cX5_operand 67 = .ok (.iconst 1, 1) := dk_4 (dk_at dksX5_operand_2 19 rfl rfl)
theorem dX5_operand_68 : decode cX5_operand 68 = .ok (.iadd, 1) := dk_96 (dk_at dksX5_operand_2 20 rfl rfl)
theorem dX5_operand_69 : decode cX5_operand 69 = .ok (.putfield 465, 3) := dk_181 1 209 (dk_at dksX5_operand_2 21 rfl rfl)
theorem dX5_operand_72 : decode cX5_operand 72 = .ok (.aload_n 0, 1) := dk_42 (dk_at dksX5_operand_3 0 rfl rfl)
theorem dX5_operand_73 : decode cX5_operand 73 = .ok (.invokevirtual 204, 3) := dk_182 0 204 (dk_at dksX5_operand_3 1 rfl rfl)
theorem dX5_operand_76 : decode cX5_operand 76 = .ok (.iload_n 1, 1) := dk_27 (dk_at dksX5_operand_3 4 rfl rfl)
theorem dX5_operand_77 : decode cX5_operand 77 = .ok (.ifCond .ne 7, 3) := dk_154 0 7 (dk_at dksX5_operand_3 5 rfl rfl)
theorem dX5_operand_80 : decode cX5_operand 80 = .ok (.iload_n 2, 1) := dk_28 (dk_at dksX5_operand_3 8 rfl rfl)
theorem dX5_operand_81 : decode cX5_operand 81 = .ok (.ifCond .eq 45, 3) := dk_153 0 45 (dk_at dksX5_operand_3 9 rfl rfl)
theorem dX5_operand_84 : decode cX5_operand 84 = .ok (.aload_n 0, 1) := dk_42 (dk_at dksX5_operand_3 12 rfl rfl)
theorem dX5_operand_85 : decode cX5_operand 85 = .ok (.getfield 98, 3) := dk_180 0 98 (dk_at dksX5_operand_3 13 rfl rfl)
theorem dX5_operand_88 : decode cX5_operand 88 = .ok (.aload_n 0, 1) := dk_42 (dk_at dksX5_operand_3 16 rfl rfl)
theorem dX5_operand_89 : decode cX5_operand 89 = .ok (.getfield 453, 3) := dk_180 1 197 (dk_at dksX5_operand_3 17 rfl rfl)
theorem dX5_operand_92 : decode cX5_operand 92 = .ok (.iload_n 1, 1) := dk_27 (dk_at dksX5_operand_3 20 rfl rfl)
theorem dX5_operand_93 : decode cX5_operand 93 = .ok (.ifCond .eq 8, 3) := dk_153 0 8 (dk_at dksX5_operand_3 21 rfl rfl)
theorem dX5_operand_96 : decode cX5_operand 96 = .ok (.bipush 20, 2) := dk_16 20 (dk_at dksX5_operand_4 0 rfl rfl)
theorem dX5_operand_98 : decode cX5_operand 98 = .ok (.goto 5, 3) := dk_167 0 5 (dk_at dksX5_operand_4 2 rfl rfl)
theorem dX5_operand_101 : decode cX5_operand 101 = .ok (.bipush 23, 2) := dk_16 23 (dk_at dksX5_operand_4 5 rfl rfl)
theorem dX5_operand_103 : decode cX5_operand 103 = .ok (.iastore, 1) := dk_79 (dk_at dksX5_operand_4 7 rfl rfl)
theorem dX5_operand_104 : decode cX5_operand 104 = .ok (.aload_n 0, 1) := dk_42 (dk_at dksX5_operand_4 8 rfl rfl)
theorem dX5_operand_105 : decode cX5_operand 105 = .ok (.dup, 1) := dk_89 (dk_at dksX5_operand_4 9 rfl rfl)
theorem dX5_operand_106 : decode cX5_operand 106 = .ok (.getfield 453, 3) := dk_180 1 197 (dk_at dksX5_operand_4 10 rfl rfl)
theorem dX5_operand_109 : decode cX5_operand 109 = .ok (.iconst 1, 1) := dk_4 (dk_at dksX5_operand_4 13 rfl rfl)
theorem dX5_operand_110 : decode cX5_operand 110 = .ok (.iadd, 1) := dk_96 (dk_at dksX5_operand_4 14 rfl rfl)
theorem dX5_operand_111 : decode cX5_operand 111 = .ok (.putfield 453, 3) := dk_181 1 197 (dk_at dksX5_operand_4 15 rfl rfl)
theorem dX5_operand_114 : decode cX5_operand 114 = .ok (.aload_n 0, 1) := dk_42 (dk_at dksX5_operand_4 18 rfl rfl)
theorem dX5_operand_115 : decode cX5_operand 115 = .ok (.dup, 1) := dk_89 (dk_at dksX5_operand_4 19 rfl rfl)
theorem dX5_operand_116 : decode cX5_operand 116 = .ok (.getfield 459, 3) := dk_180 1 203 (dk_at dksX5_operand_4 20 rfl rfl)
theorem dX5_operand_119 : decode cX5_operand 119 = .ok (.iconst 1, 1) := dk_4 (dk_at dksX5_operand_4 23 rfl rfl)
theorem dX5_operand_120 : decode cX5_operand 120 = .ok (.iadd, 1) := dk_96 (dk_at dksX5_operand_5 0 rfl rfl)
theorem dX5_operand_121 : decode cX5_operand 121 = .ok (.putfield 459, 3) := dk_181 1 203 (dk_at dksX5_operand_5 1 rfl rfl)
theorem dX5_operand_124 : decode cX5_operand 124 = .ok (.iconst 1, 1) := dk_4 (dk_at dksX5_operand_5 4 rfl rfl)
theorem dX5_operand_125 : decode cX5_operand 125 = .ok (.ireturn, 1) := dk_172 (dk_at dksX5_operand_5 5 rfl rfl)
theorem dX5_operand_126 : decode cX5_operand 126 = .ok (.aload_n 0, 1) := dk_42 (dk_at dksX5_operand_5 6 rfl rfl)
theorem dX5_operand_127 : decode cX5_operand 127 = .ok (.iconst 1, 1) := dk_4 (dk_at dksX5_operand_5 7 rfl rfl)
theorem dX5_operand_128 : decode cX5_operand 128 = .ok (.putfield 468, 3) := dk_181 1 212 (dk_at dksX5_operand_5 8 rfl rfl)
theorem dX5_operand_131 : decode cX5_operand 131 = .ok (.iload_n 3, 1) := dk_29 (dk_at dksX5_operand_5 11 rfl rfl)
theorem dX5_operand_132 : decode cX5_operand 132 = .ok (.iconst 2, 1) := dk_5 (dk_at dksX5_operand_5 12 rfl rfl)
theorem dX5_operand_133 : decode cX5_operand 133 = .ok (.if_icmp .ge 12, 3) := dk_162 0 12 (dk_at dksX5_operand_5 13 rfl rfl)
theorem dX5_operand_136 : decode cX5_operand 136 = .ok (.aload_n 0, 1) := dk_42 (dk_at dksX5_operand_5 16 rfl rfl)
theorem dX5_operand_137 : decode cX5_operand 137 = .ok (.iload_n 3, 1) := dk_29 (dk_at dksX5_operand_5 17 rfl rfl)
theorem dX5_operand_138 : decode cX5_operand 138 = .ok (.iconst 0, 1) := dk_3 (dk_at dksX5_operand_5 18 rfl rfl)
theorem dX5_operand_139 : decode cX5_operand 139 = .ok (.iconst 0, 1) := dk_3 (dk_at dksX5_operand_5 19 rfl rfl)
theorem dX5_operand_140 : decode cX5_operand 140 = .ok (.invokevirtual 456, 3) := dk_182 1 200 (dk_at dksX5_operand_5 20 rfl rfl)
theorem dX5_operand_143 : decode cX5_operand 143 = .ok (.iconst 1, 1) := dk_4 (dk_at dksX5_operand_5 23 rfl rfl)
theorem dX5_operand_144 : decode cX5_operand 144 = .ok (.ireturn, 1) := dk_172 (dk_at dksX5_operand_6 0 rfl rfl)
theorem dX5_operand_145 : decode cX5_operand 145 = .ok (.iload_n 3, 1) := dk_29 (dk_at dksX5_operand_6 1 rfl rfl)
theorem dX5_operand_146 : decode cX5_operand 146 = .ok (.iconst 5, 1) := dk_8 (dk_at dksX5_operand_6 2 rfl rfl)
theorem dX5_operand_147 : decode cX5_operand 147 = .ok (.if_icmp .ge 35, 3) := dk_162 0 35 (dk_at dksX5_operand_6 3 rfl rfl)
theorem dX5_operand_150 : decode cX5_operand 150 = .ok (.aload_n 0, 1) := dk_42 (dk_at dksX5_operand_6 6 rfl rfl)
theorem dX5_operand_151 : decode cX5_operand 151 = .ok (.iconst 0, 1) := dk_3 (dk_at dksX5_operand_6 7 rfl rfl)
theorem dX5_operand_152 : decode cX5_operand 152 = .ok (.aload_n 0, 1) := dk_42 (dk_at dksX5_operand_6 8 rfl rfl)
theorem dX5_operand_153 : decode cX5_operand 153 = .ok (.getfield 33, 3) := dk_180 0 33 (dk_at dksX5_operand_6 9 rfl rfl)
theorem dX5_operand_156 : decode cX5_operand 156 = .ok (.iconst 0, 1) := dk_3 (dk_at dksX5_operand_6 12 rfl rfl)
theorem dX5_operand_157 : decode cX5_operand 157 = .ok (.iaload, 1) := dk_46 (dk_at dksX5_operand_6 13 rfl rfl)
theorem dX5_operand_158 : decode cX5_operand 158 = .ok (.invokevirtual 226, 3) := dk_182 0 226 (dk_at dksX5_operand_6 14 rfl rfl)
theorem dX5_operand_161 : decode cX5_operand 161 = .ok (.ifCond .ne 5, 3) := dk_154 0 5 (dk_at dksX5_operand_6 17 rfl rfl)
theorem dX5_operand_164 : decode cX5_operand 164 = .ok (.iconst 0, 1) := dk_3 (dk_at dksX5_operand_6 20 rfl rfl)
theorem dX5_operand_165 : decode cX5_operand 165 = .ok (.ireturn, 1) := dk_172 (dk_at dksX5_operand_6 21 rfl rfl)
theorem dX5_operand_166 : decode cX5_operand 166 = .ok (.aload_n 0, 1) := dk_42 (dk_at dksX5_operand_6 22 rfl rfl)
theorem dX5_operand_167 : decode cX5_operand 167 = .ok (.iload_n 3, 1) := dk_29 (dk_at dksX5_operand_6 23 rfl rfl)
theorem dX5_operand_168 : decode cX5_operand 168 = .ok (.iconst 0, 1) := dk_3 (dk_at dksX5_operand_7 0 rfl rfl)
theorem dX5_operand_169 : decode cX5_operand 169 = .ok (.aload_n 0, 1) := dk_42 (dk_at dksX5_operand_7 1 rfl rfl)
theorem dX5_operand_170 : decode cX5_operand 170 = .ok (.getfield 211, 3) := dk_180 0 211 (dk_at dksX5_operand_7 2 rfl rfl)
theorem dX5_operand_173 : decode cX5_operand 173 = .ok (.invokevirtual 456, 3) := dk_182 1 200 (dk_at dksX5_operand_7 5 rfl rfl)
theorem dX5_operand_176 : decode cX5_operand 176 = .ok (.aload_n 0, 1) := dk_42 (dk_at dksX5_operand_7 8 rfl rfl)
theorem dX5_operand_177 : decode cX5_operand 177 = .ok (.invokevirtual 204, 3) := dk_182 0 204 (dk_at dksX5_operand_7 9 rfl rfl)
theorem dX5_operand_180 : decode cX5_operand 180 = .ok (.iconst 1, 1) := dk_4 (dk_at dksX5_operand_7 12 rfl rfl)
theorem dX5_operand_181 : decode cX5_operand 181 = .ok (.ireturn, 1) := dk_172 (dk_at dksX5_operand_7 13 rfl rfl)
theorem dX5_operand_182 : decode cX5_operand 182 = .ok (.aload_n 0, 1) := dk_42 (dk_at dksX5_operand_7 14 rfl rfl)
theorem dX5_operand_183 : decode cX5_operand 183 = .ok (.getfield 175, 3) := dk_180 0 175 (dk_at dksX5_operand_7 15 rfl rfl)
theorem dX5_operand_186 : decode cX5_operand 186 = .ok (.iconst 3, 1) := dk_6 (dk_at dksX5_operand_7 18 rfl rfl)
theorem dX5_operand_187 : decode cX5_operand 187 = .ok (.if_icmp .ne 21, 3) := dk_160 0 21 (dk_at dksX5_operand_7 19 rfl rfl)
theorem dX5_operand_190 : decode cX5_operand 190 = .ok (.aload_n 0, 1) := dk_42 (dk_at dksX5_operand_7 22 rfl rfl)
theorem dX5_operand_191 : decode cX5_operand 191 = .ok (.getfield 185, 3) := dk_180 0 185 (dk_at dksX5_operand_8 0 rfl rfl)
theorem dX5_operand_194 : decode cX5_operand 194 = .ok (.bipush 60, 2) := dk_16 60 (dk_at dksX5_operand_8 3 rfl rfl)
theorem dX5_operand_196 : decode cX5_operand 196 = .ok (.if_icmp .lt 12, 3) := dk_161 0 12 (dk_at dksX5_operand_8 5 rfl rfl)
theorem dX5_operand_199 : decode cX5_operand 199 = .ok (.aload_n 0, 1) := dk_42 (dk_at dksX5_operand_8 8 rfl rfl)
theorem dX5_operand_200 : decode cX5_operand 200 = .ok (.getfield 185, 3) := dk_180 0 185 (dk_at dksX5_operand_8 9 rfl rfl)
theorem dX5_operand_203 : decode cX5_operand 203 = .ok (.bipush 62, 2) := dk_16 62 (dk_at dksX5_operand_8 12 rfl rfl)
theorem dX5_operand_205 : decode cX5_operand 205 = .ok (.if_icmp .le 9, 3) := dk_164 0 9 (dk_at dksX5_operand_8 14 rfl rfl)
theorem dX5_operand_208 : decode cX5_operand 208 = .ok (.aload_n 0, 1) := dk_42 (dk_at dksX5_operand_8 17 rfl rfl)
theorem dX5_operand_209 : decode cX5_operand 209 = .ok (.iconst 1, 1) := dk_4 (dk_at dksX5_operand_8 18 rfl rfl)
theorem dX5_operand_210 : decode cX5_operand 210 = .ok (.invokevirtual 201, 3) := dk_182 0 201 (dk_at dksX5_operand_8 19 rfl rfl)
theorem dX5_operand_213 : decode cX5_operand 213 = .ok (.ireturn, 1) := dk_172 (dk_at dksX5_operand_8 22 rfl rfl)
theorem dX5_operand_214 : decode cX5_operand 214 = .ok (.aload_n 0, 1) := dk_42 (dk_at dksX5_operand_8 23 rfl rfl)
theorem dX5_operand_215 : decode cX5_operand 215 = .ok (.getfield 185, 3) := dk_180 0 185 (dk_at dksX5_operand_9 0 rfl rfl)
theorem dX5_operand_218 : decode cX5_operand 218 = .ok (.istore 4, 2) := dk_54 4 (dk_at dksX5_operand_9 3 rfl rfl)
theorem dX5_operand_220 : decode cX5_operand 220 = .ok (.aload_n 0, 1) := dk_42 (dk_at dksX5_operand_9 5 rfl rfl)
theorem dX5_operand_221 : decode cX5_operand 221 = .ok (.invokevirtual 204, 3) := dk_182 0 204 (dk_at dksX5_operand_9 6 rfl rfl)
theorem dX5_operand_224 : decode cX5_operand 224 = .ok (.aload_n 0, 1) := dk_42 (dk_at dksX5_operand_9 9 rfl rfl)
theorem dX5_operand_225 : decode cX5_operand 225 = .ok (.getfield 175, 3) := dk_180 0 175 (dk_at dksX5_operand_9 10 rfl rfl)
theorem dX5_operand_228 : decode cX5_operand 228 = .ok (.iconst 2, 1) := dk_5 (dk_at dksX5_operand_9 13 rfl rfl)
theorem dX5_operand_229 : decode cX5_operand 229 = .ok (.if_icmp .eq 9, 3) := dk_159 0 9 (dk_at dksX5_operand_9 14 rfl rfl)
theorem dX5_operand_232 : decode cX5_operand 232 = .ok (.aload_n 0, 1) := dk_42 (dk_at dksX5_operand_9 17 rfl rfl)
theorem dX5_operand_233 : decode cX5_operand 233 = .ok (.iconst 1, 1) := dk_4 (dk_at dksX5_operand_9 18 rfl rfl)
theorem dX5_operand_234 : decode cX5_operand 234 = .ok (.invokevirtual 201, 3) := dk_182 0 201 (dk_at dksX5_operand_9 19 rfl rfl)
theorem dX5_operand_237 : decode cX5_operand 237 = .ok (.ireturn, 1) := dk_172 (dk_at dksX5_operand_9 22 rfl rfl)
theorem dX5_operand_238 : decode cX5_operand 238 = .ok (.aload_n 0, 1) := dk_42 (dk_at dksX5_operand_9 23 rfl rfl)
theorem dX5_operand_239 : decode cX5_operand 239 = .ok (.iload_n 3, 1) := dk_29 (dk_at dksX5_operand_10 0 rfl rfl)
theorem dX5_operand_240 : decode cX5_operand 240 = .ok (.iload 4, 2) := dk_21 4 (dk_at dksX5_operand_10 1 rfl rfl)
theorem dX5_operand_242 : decode cX5_operand 242 = .ok (.aload_n 0, 1) := dk_42 (dk_at dksX5_operand_10 3 rfl rfl)
theorem dX5_operand_243 : decode cX5_operand 243 = .ok (.getfield 185, 3) := dk_180 0 185 (dk_at dksX5_operand_10 4 rfl rfl)
theorem dX5_operand_246 : decode cX5_operand 246 = .ok (.invokevirtual 456, 3) := dk_182 1 200 (dk_at dksX5_operand_10 7 rfl rfl)
theorem dX5_operand_249 : decode cX5_operand 249 = .ok (.aload_n 0, 1) := dk_42 (dk_at dksX5_operand_10 10 rfl rfl)
theorem dX5_operand_250 : decode cX5_operand 250 = .ok (.invokevirtual 204, 3) := dk_182 0 204 (dk_at dksX5_operand_10 11 rfl rfl)
theorem dX5_operand_253 : decode cX5_operand 253 = .ok (.iconst 1, 1) := dk_4 (dk_at dksX5_operand_10 14 rfl rfl)
theorem dX5_operand_254 : decode cX5_operand 254 = .ok (.ireturn, 1) := dk_172 (dk_at dksX5_operand_10 15 rfl rfl)
abbrev cX5_leafOf : ByteArray := prog_32_method_108_code
def yX5_leafOf : MethodName := ⟨RX5, "leafOf", "()I"⟩
def dkwX5_leafOf_5 : List UInt8 := [182, 0, 229, 153, 0, 8, 16, 8, 167, 0, 4, 2, 172]
abbrev dktX5_leafOf_5 : List UInt8 := dkwX5_leafOf_5 ++ []
def dkwX5_leafOf_4 : List UInt8 := [16, 6, 167, 0, 34, 42, 20, 0, 158, 182, 0, 229, 153, 0, 8, 16, 7, 167, 0, 19, 42, 20, 0, 160]
abbrev dktX5_leafOf_4 : List UInt8 := dkwX5_leafOf_4 ++ dktX5_leafOf_5
def dkwX5_leafOf_3 : List UInt8 := [42, 20, 0, 154, 182, 0, 229, 153, 0, 7, 8, 167, 0, 49, 42, 20, 0, 156, 182, 0, 229, 153, 0, 8]
abbrev dktX5_leafOf_3 : List UInt8 := dkwX5_leafOf_3 ++ dktX5_leafOf_4
def dkwX5_leafOf_2 : List UInt8 := [182, 0, 229, 153, 0, 7, 6, 167, 0, 77, 42, 20, 0, 152, 182, 0, 229, 153, 0, 7, 7, 167, 0, 63]
abbrev dktX5_leafOf_2 : List UInt8 := dkwX5_leafOf_2 ++ dktX5_leafOf_3
def dkwX5_leafOf_1 : List UInt8 := [4, 167, 0, 105, 42, 20, 0, 148, 182, 0, 229, 153, 0, 7, 5, 167, 0, 91, 42, 20, 0, 150]
abbrev dktX5_leafOf_1 : List UInt8 := dkwX5_leafOf_1 ++ dktX5_leafOf_2
def dkwX5_leafOf_0 : List UInt8 := [42, 20, 0, 144, 182, 0, 229, 153, 0, 7, 3, 167, 0, 119, 42, 20, 0, 146, 182, 0, 229, 153, 0, 7]
abbrev dktX5_leafOf_0 : List UInt8 := dkwX5_leafOf_0 ++ dktX5_leafOf_1
theorem dksX5_leafOf_0 : cX5_leafOf.data.toList.drop 0 = dktX5_leafOf_0 := by decide +kernel
theorem dksX5_leafOf_1 : cX5_leafOf.data.toList.drop 24 = dktX5_leafOf_1 := dk_seg dksX5_leafOf_0 24 rfl rfl
theorem dksX5_leafOf_2 : cX5_leafOf.data.toList.drop 46 = dktX5_leafOf_2 := dk_seg dksX5_leafOf_1 22 rfl rfl
theorem dksX5_leafOf_3 : cX5_leafOf.data.toList.drop 70 = dktX5_leafOf_3 := dk_seg dksX5_leafOf_2 24 rfl rfl
theorem dksX5_leafOf_4 : cX5_leafOf.data.toList.drop 94 = dktX5_leafOf_4 := dk_seg dksX5_leafOf_3 24 rfl rfl
theorem dksX5_leafOf_5 : cX5_leafOf.data.toList.drop 118 = dktX5_leafOf_5 := dk_seg dksX5_leafOf_4 24 rfl rfl
theorem dX5_leafOf_0 : decode cX5_leafOf 0 = .ok (.aload_n 0, 1) := dk_42 (dk_at dksX5_leafOf_0 0 rfl rfl)
theorem dX5_leafOf_1 : decode cX5_leafOf 1 = .ok (.ldc2_w 144, 3) := dk_20 0 144 (dk_at dksX5_leafOf_0 1 rfl rfl)
theorem dX5_leafOf_4 : decode cX5_leafOf 4 = .ok (.invokevirtual 229, 3) := dk_182 0 229 (dk_at dksX5_leafOf_0 4 rfl rfl)
theorem dX5_leafOf_7 : decode cX5_leafOf 7 = .ok (.ifCond .eq 7, 3) := dk_153 0 7 (dk_at dksX5_leafOf_0 7 rfl rfl)
theorem dX5_leafOf_10 : decode cX5_leafOf 10 = .ok (.iconst 0, 1) := dk_3 (dk_at dksX5_leafOf_0 10 rfl rfl)
theorem dX5_leafOf_11 : decode cX5_leafOf 11 = .ok (.goto 119, 3) := dk_167 0 119 (dk_at dksX5_leafOf_0 11 rfl rfl)
theorem dX5_leafOf_14 : decode cX5_leafOf 14 = .ok (.aload_n 0, 1) := dk_42 (dk_at dksX5_leafOf_0 14 rfl rfl)
theorem dX5_leafOf_15 : decode cX5_leafOf 15 = .ok (.ldc2_w 146, 3) := dk_20 0 146 (dk_at dksX5_leafOf_0 15 rfl rfl)
theorem dX5_leafOf_18 : decode cX5_leafOf 18 = .ok (.invokevirtual 229, 3) := dk_182 0 229 (dk_at dksX5_leafOf_0 18 rfl rfl)
theorem dX5_leafOf_21 : decode cX5_leafOf 21 = .ok (.ifCond .eq 7, 3) := dk_153 0 7 (dk_at dksX5_leafOf_0 21 rfl rfl)
theorem dX5_leafOf_24 : decode cX5_leafOf 24 = .ok (.iconst 1, 1) := dk_4 (dk_at dksX5_leafOf_1 0 rfl rfl)
theorem dX5_leafOf_25 : decode cX5_leafOf 25 = .ok (.goto 105, 3) := dk_167 0 105 (dk_at dksX5_leafOf_1 1 rfl rfl)
theorem dX5_leafOf_28 : decode cX5_leafOf 28 = .ok (.aload_n 0, 1) := dk_42 (dk_at dksX5_leafOf_1 4 rfl rfl)
theorem dX5_leafOf_29 : decode cX5_leafOf 29 = .ok (.ldc2_w 148, 3) := dk_20 0 148 (dk_at dksX5_leafOf_1 5 rfl rfl)
theorem dX5_leafOf_32 : decode cX5_leafOf 32 = .ok (.invokevirtual 229, 3) := dk_182 0 229 (dk_at dksX5_leafOf_1 8 rfl rfl)
theorem dX5_leafOf_35 : decode cX5_leafOf 35 = .ok (.ifCond .eq 7, 3) := dk_153 0 7 (dk_at dksX5_leafOf_1 11 rfl rfl)
theorem dX5_leafOf_38 : decode cX5_leafOf 38 = .ok (.iconst 2, 1) := dk_5 (dk_at dksX5_leafOf_1 14 rfl rfl)
theorem dX5_leafOf_39 : decode cX5_leafOf 39 = .ok (.goto 91, 3) := dk_167 0 91 (dk_at dksX5_leafOf_1 15 rfl rfl)
theorem dX5_leafOf_42 : decode cX5_leafOf 42 = .ok (.aload_n 0, 1) := dk_42 (dk_at dksX5_leafOf_1 18 rfl rfl)
theorem dX5_leafOf_43 : decode cX5_leafOf 43 = .ok (.ldc2_w 150, 3) := dk_20 0 150 (dk_at dksX5_leafOf_1 19 rfl rfl)
theorem dX5_leafOf_46 : decode cX5_leafOf 46 = .ok (.invokevirtual 229, 3) := dk_182 0 229 (dk_at dksX5_leafOf_2 0 rfl rfl)
theorem dX5_leafOf_49 : decode cX5_leafOf 49 = .ok (.ifCond .eq 7, 3) := dk_153 0 7 (dk_at dksX5_leafOf_2 3 rfl rfl)
theorem dX5_leafOf_52 : decode cX5_leafOf 52 = .ok (.iconst 3, 1) := dk_6 (dk_at dksX5_leafOf_2 6 rfl rfl)
theorem dX5_leafOf_53 : decode cX5_leafOf 53 = .ok (.goto 77, 3) := dk_167 0 77 (dk_at dksX5_leafOf_2 7 rfl rfl)
theorem dX5_leafOf_56 : decode cX5_leafOf 56 = .ok (.aload_n 0, 1) := dk_42 (dk_at dksX5_leafOf_2 10 rfl rfl)
theorem dX5_leafOf_57 : decode cX5_leafOf 57 = .ok (.ldc2_w 152, 3) := dk_20 0 152 (dk_at dksX5_leafOf_2 11 rfl rfl)
theorem dX5_leafOf_60 : decode cX5_leafOf 60 = .ok (.invokevirtual 229, 3) := dk_182 0 229 (dk_at dksX5_leafOf_2 14 rfl rfl)
theorem dX5_leafOf_63 : decode cX5_leafOf 63 = .ok (.ifCond .eq 7, 3) := dk_153 0 7 (dk_at dksX5_leafOf_2 17 rfl rfl)
theorem dX5_leafOf_66 : decode cX5_leafOf 66 = .ok (.iconst 4, 1) := dk_7 (dk_at dksX5_leafOf_2 20 rfl rfl)
theorem dX5_leafOf_67 : decode cX5_leafOf 67 = .ok (.goto 63, 3) := dk_167 0 63 (dk_at dksX5_leafOf_2 21 rfl rfl)
theorem dX5_leafOf_70 : decode cX5_leafOf 70 = .ok (.aload_n 0, 1) := dk_42 (dk_at dksX5_leafOf_3 0 rfl rfl)
theorem dX5_leafOf_71 : decode cX5_leafOf 71 = .ok (.ldc2_w 154, 3) := dk_20 0 154 (dk_at dksX5_leafOf_3 1 rfl rfl)
theorem dX5_leafOf_74 : decode cX5_leafOf 74 = .ok (.invokevirtual 229, 3) := dk_182 0 229 (dk_at dksX5_leafOf_3 4 rfl rfl)
theorem dX5_leafOf_77 : decode cX5_leafOf 77 = .ok (.ifCond .eq 7, 3) := dk_153 0 7 (dk_at dksX5_leafOf_3 7 rfl rfl)
theorem dX5_leafOf_80 : decode cX5_leafOf 80 = .ok (.iconst 5, 1) := dk_8 (dk_at dksX5_leafOf_3 10 rfl rfl)
theorem dX5_leafOf_81 : decode cX5_leafOf 81 = .ok (.goto 49, 3) := dk_167 0 49 (dk_at dksX5_leafOf_3 11 rfl rfl)
theorem dX5_leafOf_84 : decode cX5_leafOf 84 = .ok (.aload_n 0, 1) := dk_42 (dk_at dksX5_leafOf_3 14 rfl rfl)
theorem dX5_leafOf_85 : decode cX5_leafOf 85 = .ok (.ldc2_w 156, 3) := dk_20 0 156 (dk_at dksX5_leafOf_3 15 rfl rfl)
theorem dX5_leafOf_88 : decode cX5_leafOf 88 = .ok (.invokevirtual 229, 3) := dk_182 0 229 (dk_at dksX5_leafOf_3 18 rfl rfl)
theorem dX5_leafOf_91 : decode cX5_leafOf 91 = .ok (.ifCond .eq 8, 3) := dk_153 0 8 (dk_at dksX5_leafOf_3 21 rfl rfl)
theorem dX5_leafOf_94 : decode cX5_leafOf 94 = .ok (.bipush 6, 2) := dk_16 6 (dk_at dksX5_leafOf_4 0 rfl rfl)
theorem dX5_leafOf_96 : decode cX5_leafOf 96 = .ok (.goto 34, 3) := dk_167 0 34 (dk_at dksX5_leafOf_4 2 rfl rfl)
theorem dX5_leafOf_99 : decode cX5_leafOf 99 = .ok (.aload_n 0, 1) := dk_42 (dk_at dksX5_leafOf_4 5 rfl rfl)
theorem dX5_leafOf_100 : decode cX5_leafOf 100 = .ok (.ldc2_w 158, 3) := dk_20 0 158 (dk_at dksX5_leafOf_4 6 rfl rfl)
theorem dX5_leafOf_103 : decode cX5_leafOf 103 = .ok (.invokevirtual 229, 3) := dk_182 0 229 (dk_at dksX5_leafOf_4 9 rfl rfl)
theorem dX5_leafOf_106 : decode cX5_leafOf 106 = .ok (.ifCond .eq 8, 3) := dk_153 0 8 (dk_at dksX5_leafOf_4 12 rfl rfl)
theorem dX5_leafOf_109 : decode cX5_leafOf 109 = .ok (.bipush 7, 2) := dk_16 7 (dk_at dksX5_leafOf_4 15 rfl rfl)
theorem dX5_leafOf_111 : decode cX5_leafOf 111 = .ok (.goto 19, 3) := dk_167 0 19 (dk_at dksX5_leafOf_4 17 rfl rfl)
theorem dX5_leafOf_114 : decode cX5_leafOf 114 = .ok (.aload_n 0, 1) := dk_42 (dk_at dksX5_leafOf_4 20 rfl rfl)
theorem dX5_leafOf_115 : decode cX5_leafOf 115 = .ok (.ldc2_w 160, 3) := dk_20 0 160 (dk_at dksX5_leafOf_4 21 rfl rfl)
theorem dX5_leafOf_118 : decode cX5_leafOf 118 = .ok (.invokevirtual 229, 3) := dk_182 0 229 (dk_at dksX5_leafOf_5 0 rfl rfl)
theorem dX5_leafOf_121 : decode cX5_leafOf 121 = .ok (.ifCond .eq 8, 3) := dk_153 0 8 (dk_at dksX5_leafOf_5 3 rfl rfl)
theorem dX5_leafOf_124 : decode cX5_leafOf 124 = .ok (.bipush 8, 2) := dk_16 8 (dk_at dksX5_leafOf_5 6 rfl rfl)
theorem dX5_leafOf_126 : decode cX5_leafOf 126 = .ok (.goto 4, 3) := dk_167 0 4 (dk_at dksX5_leafOf_5 8 rfl rfl)
theorem dX5_leafOf_129 : decode cX5_leafOf 129 = .ok (.iconst (-1), 1) := dk_2 (dk_at dksX5_leafOf_5 11 rfl rfl)
theorem dX5_leafOf_130 : decode cX5_leafOf 130 = .ok (.ireturn, 1) := dk_172 (dk_at dksX5_leafOf_5 12 rfl rfl)
abbrev cX5_said : ByteArray := prog_32_method_114_code
def yX5_said : MethodName := ⟨RX5, "said", "(I)I"⟩
def dkwX5_said_3 : List UInt8 := [167, 0, 4, 2, 172]
abbrev dktX5_said_3 : List UInt8 := dkwX5_said_3 ++ []
def dkwX5_said_2 : List UInt8 := [28, 27, 160, 0, 5, 29, 172, 132, 2, 1, 132, 3, 1, 167, 255, 222, 27, 2, 160, 0, 7, 28]
abbrev dktX5_said_2 : List UInt8 := dkwX5_said_2 ++ dktX5_said_3
def dkwX5_said_1 : List UInt8 := [61, 3, 62, 29, 42, 180, 0, 33, 5, 46, 162, 0, 30, 42, 29, 182, 1, 231, 154, 0, 6, 167, 0, 13]
abbrev dktX5_said_1 : List UInt8 := dkwX5_said_1 ++ dktX5_said_2
def dkwX5_said_0 : List UInt8 := [42, 3, 181, 0, 1, 42, 180, 0, 33, 17, 0, 138, 46, 153, 0, 8, 27, 2, 162, 0, 5, 2, 172, 3]
abbrev dktX5_said_0 : List UInt8 := dkwX5_said_0 ++ dktX5_said_1
theorem dksX5_said_0 : cX5_said.data.toList.drop 0 = dktX5_said_0 := by decide +kernel
theorem dksX5_said_1 : cX5_said.data.toList.drop 24 = dktX5_said_1 := dk_seg dksX5_said_0 24 rfl rfl
theorem dksX5_said_2 : cX5_said.data.toList.drop 48 = dktX5_said_2 := dk_seg dksX5_said_1 24 rfl rfl
theorem dksX5_said_3 : cX5_said.data.toList.drop 70 = dktX5_said_3 := dk_seg dksX5_said_2 22 rfl rfl
theorem dX5_said_0 : decode cX5_said 0 = .ok (.aload_n 0, 1) := dk_42 (dk_at dksX5_said_0 0 rfl rfl)
theorem dX5_said_1 : decode cX5_said 1 = .ok (.iconst 0, 1) := dk_3 (dk_at dksX5_said_0 1 rfl rfl)
theorem dX5_said_2 : decode cX5_said 2 = .ok (.putfield 1, 3) := dk_181 0 1 (dk_at dksX5_said_0 2 rfl rfl)
theorem dX5_said_5 : decode cX5_said 5 = .ok (.aload_n 0, 1) := dk_42 (dk_at dksX5_said_0 5 rfl rfl)
theorem dX5_said_6 : decode cX5_said 6 = .ok (.getfield 33, 3) := dk_180 0 33 (dk_at dksX5_said_0 6 rfl rfl)
theorem dX5_said_9 : decode cX5_said 9 = .ok (.sipush 138, 3) := dk_17 0 138 (dk_at dksX5_said_0 9 rfl rfl)
theorem dX5_said_12 : decode cX5_said 12 = .ok (.iaload, 1) := dk_46 (dk_at dksX5_said_0 12 rfl rfl)
theorem dX5_said_13 : decode cX5_said 13 = .ok (.ifCond .eq 8, 3) := dk_153 0 8 (dk_at dksX5_said_0 13 rfl rfl)
theorem dX5_said_16 : decode cX5_said 16 = .ok (.iload_n 1, 1) := dk_27 (dk_at dksX5_said_0 16 rfl rfl)
theorem dX5_said_17 : decode cX5_said 17 = .ok (.iconst (-1), 1) := dk_2 (dk_at dksX5_said_0 17 rfl rfl)
theorem dX5_said_18 : decode cX5_said 18 = .ok (.if_icmp .ge 5, 3) := dk_162 0 5 (dk_at dksX5_said_0 18 rfl rfl)
theorem dX5_said_21 : decode cX5_said 21 = .ok (.iconst (-1), 1) := dk_2 (dk_at dksX5_said_0 21 rfl rfl)
theorem dX5_said_22 : decode cX5_said 22 = .ok (.ireturn, 1) := dk_172 (dk_at dksX5_said_0 22 rfl rfl)
theorem dX5_said_23 : decode cX5_said 23 = .ok (.iconst 0, 1) := dk_3 (dk_at dksX5_said_0 23 rfl rfl)
theorem dX5_said_24 : decode cX5_said 24 = .ok (.istore_n 2, 1) := dk_61 (dk_at dksX5_said_1 0 rfl rfl)
theorem dX5_said_25 : decode cX5_said 25 = .ok (.iconst 0, 1) := dk_3 (dk_at dksX5_said_1 1 rfl rfl)
theorem dX5_said_26 : decode cX5_said 26 = .ok (.istore_n 3, 1) := dk_62 (dk_at dksX5_said_1 2 rfl rfl)
theorem dX5_said_27 : decode cX5_said 27 = .ok (.iload_n 3, 1) := dk_29 (dk_at dksX5_said_1 3 rfl rfl)
theorem dX5_said_28 : decode cX5_said 28 = .ok (.aload_n 0, 1) := dk_42 (dk_at dksX5_said_1 4 rfl rfl)
theorem dX5_said_29 : decode cX5_said 29 = .ok (.getfield 33, 3) := dk_180 0 33 (dk_at dksX5_said_1 5 rfl rfl)
theorem dX5_said_32 : decode cX5_said 32 = .ok (.iconst 2, 1) := dk_5 (dk_at dksX5_said_1 8 rfl rfl)
theorem dX5_said_33 : decode cX5_said 33 = .ok (.iaload, 1) := dk_46 (dk_at dksX5_said_1 9 rfl rfl)
theorem dX5_said_34 : decode cX5_said 34 = .ok (.if_icmp .ge 30, 3) := dk_162 0 30 (dk_at dksX5_said_1 10 rfl rfl)
theorem dX5_said_37 : decode cX5_said 37 = .ok (.aload_n 0, 1) := dk_42 (dk_at dksX5_said_1 13 rfl rfl)
theorem dX5_said_38 : decode cX5_said 38 = .ok (.iload_n 3, 1) := dk_29 (dk_at dksX5_said_1 14 rfl rfl)
theorem dX5_said_39 : decode cX5_said 39 = .ok (.invokevirtual 487, 3) := dk_182 1 231 (dk_at dksX5_said_1 15 rfl rfl)
theorem dX5_said_42 : decode cX5_said 42 = .ok (.ifCond .ne 6, 3) := dk_154 0 6 (dk_at dksX5_said_1 18 rfl rfl)
theorem dX5_said_45 : decode cX5_said 45 = .ok (.goto 13, 3) := dk_167 0 13 (dk_at dksX5_said_1 21 rfl rfl)
theorem dX5_said_48 : decode cX5_said 48 = .ok (.iload_n 2, 1) := dk_28 (dk_at dksX5_said_2 0 rfl rfl)
theorem dX5_said_49 : decode cX5_said 49 = .ok (.iload_n 1, 1) := dk_27 (dk_at dksX5_said_2 1 rfl rfl)
theorem dX5_said_50 : decode cX5_said 50 = .ok (.if_icmp .ne 5, 3) := dk_160 0 5 (dk_at dksX5_said_2 2 rfl rfl)
theorem dX5_said_53 : decode cX5_said 53 = .ok (.iload_n 3, 1) := dk_29 (dk_at dksX5_said_2 5 rfl rfl)
theorem dX5_said_54 : decode cX5_said 54 = .ok (.ireturn, 1) := dk_172 (dk_at dksX5_said_2 6 rfl rfl)
theorem dX5_said_55 : decode cX5_said 55 = .ok (.iinc 2 1, 3) := dk_132 2 1 (dk_at dksX5_said_2 7 rfl rfl)
theorem dX5_said_58 : decode cX5_said 58 = .ok (.iinc 3 1, 3) := dk_132 3 1 (dk_at dksX5_said_2 10 rfl rfl)
theorem dX5_said_61 : decode cX5_said 61 = .ok (.goto (-34), 3) := dk_167 255 222 (dk_at dksX5_said_2 13 rfl rfl)
theorem dX5_said_64 : decode cX5_said 64 = .ok (.iload_n 1, 1) := dk_27 (dk_at dksX5_said_2 16 rfl rfl)
theorem dX5_said_65 : decode cX5_said 65 = .ok (.iconst (-1), 1) := dk_2 (dk_at dksX5_said_2 17 rfl rfl)
theorem dX5_said_66 : decode cX5_said 66 = .ok (.if_icmp .ne 7, 3) := dk_160 0 7 (dk_at dksX5_said_2 18 rfl rfl)
theorem dX5_said_69 : decode cX5_said 69 = .ok (.iload_n 2, 1) := dk_28 (dk_at dksX5_said_2 21 rfl rfl)
theorem dX5_said_70 : decode cX5_said 70 = .ok (.goto 4, 3) := dk_167 0 4 (dk_at dksX5_said_3 0 rfl rfl)
theorem dX5_said_73 : decode cX5_said 73 = .ok (.iconst (-1), 1) := dk_2 (dk_at dksX5_said_3 3 rfl rfl)
theorem dX5_said_74 : decode cX5_said 74 = .ok (.ireturn, 1) := dk_172 (dk_at dksX5_said_3 4 rfl rfl)
abbrev cX5_isSaid : ByteArray := prog_32_method_113_code
def yX5_isSaid : MethodName := ⟨RX5, "isSaid", "(I)Z"⟩
def dkwX5_isSaid_9 : List UInt8 := [167, 255, 51, 42, 180, 0, 101, 3, 51, 172]
abbrev dktX5_isSaid_9 : List UInt8 := dkwX5_isSaid_9 ++ []
def dkwX5_isSaid_8 : List UInt8 := [4, 96, 46, 42, 180, 0, 33, 21, 4, 5, 96, 46, 182, 1, 227, 84, 132, 2, 1, 132, 3, 1]
abbrev dktX5_isSaid_8 : List UInt8 := dkwX5_isSaid_8 ++ dktX5_isSaid_9
def dkwX5_isSaid_7 : List UInt8 := [84, 167, 0, 42, 42, 180, 0, 101, 28, 42, 27, 42, 180, 0, 33, 21, 4, 46, 42, 180, 0, 33, 21, 4]
abbrev dktX5_isSaid_7 : List UInt8 := dkwX5_isSaid_7 ++ dktX5_isSaid_8
def dkwX5_isSaid_6 : List UInt8 := [180, 0, 101, 28, 4, 100, 51, 154, 0, 12, 42, 180, 0, 101, 28, 51, 153, 0, 7, 4, 167, 0, 4, 3]
abbrev dktX5_isSaid_6 : List UInt8 := dkwX5_isSaid_6 ++ dktX5_isSaid_7
def dkwX5_isSaid_5 : List UInt8 := [100, 51, 153, 0, 16, 42, 180, 0, 101, 28, 51, 153, 0, 7, 4, 167, 0, 32, 3, 167, 0, 28, 42]
abbrev dktX5_isSaid_5 : List UInt8 := dkwX5_isSaid_5 ++ dktX5_isSaid_6
def dkwX5_isSaid_4 : List UInt8 := [180, 0, 101, 28, 4, 100, 42, 180, 0, 33, 21, 4, 46, 16, 21, 160, 0, 31, 42, 180, 0, 101, 28, 4]
abbrev dktX5_isSaid_4 : List UInt8 := dkwX5_isSaid_4 ++ dktX5_isSaid_5
def dkwX5_isSaid_3 : List UInt8 := [21, 4, 46, 16, 21, 159, 0, 15, 42, 180, 0, 33, 21, 4, 46, 16, 22, 160, 0, 82, 132, 2, 255, 42]
abbrev dktX5_isSaid_3 : List UInt8 := dkwX5_isSaid_3 ++ dktX5_isSaid_4
def dkwX5_isSaid_2 : List UInt8 := [180, 0, 101, 28, 4, 100, 51, 154, 0, 7, 4, 167, 0, 4, 3, 84, 167, 0, 145, 42, 180, 0, 33]
abbrev dktX5_isSaid_2 : List UInt8 := dkwX5_isSaid_2 ++ dktX5_isSaid_3
def dkwX5_isSaid_1 : List UInt8 := [54, 4, 42, 180, 0, 33, 21, 4, 46, 16, 20, 160, 0, 30, 42, 180, 0, 101, 28, 4, 100, 42]
abbrev dktX5_isSaid_1 : List UInt8 := dkwX5_isSaid_1 ++ dktX5_isSaid_2
def dkwX5_isSaid_0 : List UInt8 := [3, 61, 3, 62, 29, 42, 180, 0, 33, 17, 0, 138, 46, 162, 0, 199, 17, 0, 139, 6, 29, 104, 96]
abbrev dktX5_isSaid_0 : List UInt8 := dkwX5_isSaid_0 ++ dktX5_isSaid_1
theorem dksX5_isSaid_0 : cX5_isSaid.data.toList.drop 0 = dktX5_isSaid_0 := by decide +kernel
theorem dksX5_isSaid_1 : cX5_isSaid.data.toList.drop 23 = dktX5_isSaid_1 := dk_seg dksX5_isSaid_0 23 rfl rfl
theorem dksX5_isSaid_2 : cX5_isSaid.data.toList.drop 45 = dktX5_isSaid_2 := dk_seg dksX5_isSaid_1 22 rfl rfl
theorem dksX5_isSaid_3 : cX5_isSaid.data.toList.drop 68 = dktX5_isSaid_3 := dk_seg dksX5_isSaid_2 23 rfl rfl
theorem dksX5_isSaid_4 : cX5_isSaid.data.toList.drop 92 = dktX5_isSaid_4 := dk_seg dksX5_isSaid_3 24 rfl rfl
theorem dksX5_isSaid_5 : cX5_isSaid.data.toList.drop 116 = dktX5_isSaid_5 := dk_seg dksX5_isSaid_4 24 rfl rfl
theorem dksX5_isSaid_6 : cX5_isSaid.data.toList.drop 139 = dktX5_isSaid_6 := dk_seg dksX5_isSaid_5 23 rfl rfl
theorem dksX5_isSaid_7 : cX5_isSaid.data.toList.drop 163 = dktX5_isSaid_7 := dk_seg dksX5_isSaid_6 24 rfl rfl
theorem dksX5_isSaid_8 : cX5_isSaid.data.toList.drop 187 = dktX5_isSaid_8 := dk_seg dksX5_isSaid_7 24 rfl rfl
theorem dksX5_isSaid_9 : cX5_isSaid.data.toList.drop 209 = dktX5_isSaid_9 := dk_seg dksX5_isSaid_8 22 rfl rfl
theorem dX5_isSaid_0 : decode cX5_isSaid 0 = .ok (.iconst 0, 1) := dk_3 (dk_at dksX5_isSaid_0 0 rfl rfl)
theorem dX5_isSaid_1 : decode cX5_isSaid 1 = .ok (.istore_n 2, 1) := dk_61 (dk_at dksX5_isSaid_0 1 rfl rfl)
theorem dX5_isSaid_2 : decode cX5_isSaid 2 = .ok (.iconst 0, 1) := dk_3 (dk_at dksX5_isSaid_0 2 rfl rfl)
theorem dX5_isSaid_3 : decode cX5_isSaid 3 = .ok (.istore_n 3, 1) := dk_62 (dk_at dksX5_isSaid_0 3 rfl rfl)
theorem dX5_isSaid_4 : decode cX5_isSaid 4 = .ok (.iload_n 3, 1) := dk_29 (dk_at dksX5_isSaid_0 4 rfl rfl)
theorem dX5_isSaid_5 : decode cX5_isSaid 5 = .ok (.aload_n 0, 1) := dk_42 (dk_at dksX5_isSaid_0 5 rfl rfl)
theorem dX5_isSaid_6 : decode cX5_isSaid 6 = .ok (.getfield 33, 3) := dk_180 0 33 (dk_at dksX5_isSaid_0 6 rfl rfl)
theorem dX5_isSaid_9 : decode cX5_isSaid 9 = .ok (.sipush 138, 3) := dk_17 0 138 (dk_at dksX5_isSaid_0 9 rfl rfl)
theorem dX5_isSaid_12 : decode cX5_isSaid 12 = .ok (.iaload, 1) := dk_46 (dk_at dksX5_isSaid_0 12 rfl rfl)
theorem dX5_isSaid_13 : decode cX5_isSaid 13 = .ok (.if_icmp .ge 199, 3) := dk_162 0 199 (dk_at dksX5_isSaid_0 13 rfl rfl)
theorem dX5_isSaid_16 : decode cX5_isSaid 16 = .ok (.sipush 139, 3) := dk_17 0 139 (dk_at dksX5_isSaid_0 16 rfl rfl)
theorem dX5_isSaid_19 : decode cX5_isSaid 19 = .ok (.iconst 3, 1) := dk_6 (dk_at dksX5_isSaid_0 19 rfl rfl)
theorem dX5_isSaid_20 : decode cX5_isSaid 20 = .ok (.iload_n 3, 1) := dk_29 (dk_at dksX5_isSaid_0 20 rfl rfl)
theorem dX5_isSaid_21 : decode cX5_isSaid 21 = .ok (.imul, 1) := dk_104 (dk_at dksX5_isSaid_0 21 rfl rfl)
theorem dX5_isSaid_22 : decode cX5_isSaid 22 = .ok (.iadd, 1) := dk_96 (dk_at dksX5_isSaid_0 22 rfl rfl)
theorem dX5_isSaid_23 : decode cX5_isSaid 23 = .ok (.istore 4, 2) := dk_54 4 (dk_at dksX5_isSaid_1 0 rfl rfl)
theorem dX5_isSaid_25 : decode cX5_isSaid 25 = .ok (.aload_n 0, 1) := dk_42 (dk_at dksX5_isSaid_1 2 rfl rfl)
theorem dX5_isSaid_26 : decode cX5_isSaid 26 = .ok (.getfield 33, 3) := dk_180 0 33 (dk_at dksX5_isSaid_1 3 rfl rfl)
theorem dX5_isSaid_29 : decode cX5_isSaid 29 = .ok (.iload 4, 2) := dk_21 4 (dk_at dksX5_isSaid_1 6 rfl rfl)
theorem dX5_isSaid_31 : decode cX5_isSaid 31 = .ok (.iaload, 1) := dk_46 (dk_at dksX5_isSaid_1 8 rfl rfl)
theorem dX5_isSaid_32 : decode cX5_isSaid 32 = .ok (.bipush 20, 2) := dk_16 20 (dk_at dksX5_isSaid_1 9 rfl rfl)
theorem dX5_isSaid_34 : decode cX5_isSaid 34 = .ok (.if_icmp .ne 30, 3) := dk_160 0 30 (dk_at dksX5_isSaid_1 11 rfl rfl)
theorem dX5_isSaid_37 : decode cX5_isSaid 37 = .ok (.aload_n 0, 1) := dk_42 (dk_at dksX5_isSaid_1 14 rfl rfl)
theorem dX5_isSaid_38 : decode cX5_isSaid 38 = .ok (.getfield 101, 3) := dk_180 0 101 (dk_at dksX5_isSaid_1 15 rfl rfl)
theorem dX5_isSaid_41 : decode cX5_isSaid 41 = .ok (.iload_n 2, 1) := dk_28 (dk_at dksX5_isSaid_1 18 rfl rfl)
theorem dX5_isSaid_42 : decode cX5_isSaid 42 = .ok (.iconst 1, 1) := dk_4 (dk_at dksX5_isSaid_1 19 rfl rfl)
theorem dX5_isSaid_43 : decode cX5_isSaid 43 = .ok (.isub, 1) := dk_100 (dk_at dksX5_isSaid_1 20 rfl rfl)
theorem dX5_isSaid_44 : decode cX5_isSaid 44 = .ok (.aload_n 0, 1) := dk_42 (dk_at dksX5_isSaid_1 21 rfl rfl)
theorem dX5_isSaid_45 : decode cX5_isSaid 45 = .ok (.getfield 101, 3) := dk_180 0 101 (dk_at dksX5_isSaid_2 0 rfl rfl)
theorem dX5_isSaid_48 : decode cX5_isSaid 48 = .ok (.iload_n 2, 1) := dk_28 (dk_at dksX5_isSaid_2 3 rfl rfl)
theorem dX5_isSaid_49 : decode cX5_isSaid 49 = .ok (.iconst 1, 1) := dk_4 (dk_at dksX5_isSaid_2 4 rfl rfl)
theorem dX5_isSaid_50 : decode cX5_isSaid 50 = .ok (.isub, 1) := dk_100 (dk_at dksX5_isSaid_2 5 rfl rfl)
theorem dX5_isSaid_51 : decode cX5_isSaid 51 = .ok (.baload, 1) := dk_51 (dk_at dksX5_isSaid_2 6 rfl rfl)
theorem dX5_isSaid_52 : decode cX5_isSaid 52 = .ok (.ifCond .ne 7, 3) := dk_154 0 7 (dk_at dksX5_isSaid_2 7 rfl rfl)
theorem dX5_isSaid_55 : decode cX5_isSaid 55 = .ok (.iconst 1, 1) := dk_4 (dk_at dksX5_isSaid_2 10 rfl rfl)
theorem dX5_isSaid_56 : decode cX5_isSaid 56 = .ok (.goto 4, 3) := dk_167 0 4 (dk_at dksX5_isSaid_2 11 rfl rfl)
theorem dX5_isSaid_59 : decode cX5_isSaid 59 = .ok (.iconst 0, 1) := dk_3 (dk_at dksX5_isSaid_2 14 rfl rfl)
theorem dX5_isSaid_60 : decode cX5_isSaid 60 = .ok (.bastore, 1) := dk_84 (dk_at dksX5_isSaid_2 15 rfl rfl)
theorem dX5_isSaid_61 : decode cX5_isSaid 61 = .ok (.goto 145, 3) := dk_167 0 145 (dk_at dksX5_isSaid_2 16 rfl rfl)
theorem dX5_isSaid_64 : decode cX5_isSaid 64 = .ok (.aload_n 0, 1) := dk_42 (dk_at dksX5_isSaid_2 19 rfl rfl)
theorem dX5_isSaid_65 : decode cX5_isSaid 65 = .ok (.getfield 33, 3) := dk_180 0 33 (dk_at dksX5_isSaid_2 20 rfl rfl)
theorem dX5_isSaid_68 : decode cX5_isSaid 68 = .ok (.iload 4, 2) := dk_21 4 (dk_at dksX5_isSaid_3 0 rfl rfl)
theorem dX5_isSaid_70 : decode cX5_isSaid 70 = .ok (.iaload, 1) := dk_46 (dk_at dksX5_isSaid_3 2 rfl rfl)
theorem dX5_isSaid_71 : decode cX5_isSaid 71 = .ok (.bipush 21, 2) := dk_16 21 (dk_at dksX5_isSaid_3 3 rfl rfl)
theorem dX5_isSaid_73 : decode cX5_isSaid 73 = .ok (.if_icmp .eq 15, 3) := dk_159 0 15 (dk_at dksX5_isSaid_3 5 rfl rfl)
theorem dX5_isSaid_76 : decode cX5_isSaid 76 = .ok (.aload_n 0, 1) := dk_42 (dk_at dksX5_isSaid_3 8 rfl rfl)
theorem dX5_isSaid_77 : decode cX5_isSaid 77 = .ok (.getfield 33, 3) := dk_180 0 33 (dk_at dksX5_isSaid_3 9 rfl rfl)
theorem dX5_isSaid_80 : decode cX5_isSaid 80 = .ok (.iload 4, 2) := dk_21 4 (dk_at dksX5_isSaid_3 12 rfl rfl)
theorem dX5_isSaid_82 : decode cX5_isSaid 82 = .ok (.iaload, 1) := dk_46 (dk_at dksX5_isSaid_3 14 rfl rfl)
theorem dX5_isSaid_83 : decode cX5_isSaid 83 = .ok (.bipush 22, 2) := dk_16 22 (dk_at dksX5_isSaid_3 15 rfl rfl)
theorem dX5_isSaid_85 : decode cX5_isSaid 85 = .ok (.if_icmp .ne 82, 3) := dk_160 0 82 (dk_at dksX5_isSaid_3 17 rfl rfl)
theorem dX5_isSaid_88 : decode cX5_isSaid 88 = .ok (.iinc 2 (-1), 3) := dk_132 2 255 (dk_at dksX5_isSaid_3 20 rfl rfl)
theorem dX5_isSaid_91 : decode cX5_isSaid 91 = .ok (.aload_n 0, 1) := dk_42 (dk_at dksX5_isSaid_3 23 rfl rfl)
theorem dX5_isSaid_92 : decode cX5_isSaid 92 = .ok (.getfield 101, 3) := dk_180 0 101 (dk_at dksX5_isSaid_4 0 rfl rfl)
theorem dX5_isSaid_95 : decode cX5_isSaid 95 = .ok (.iload_n 2, 1) := dk_28 (dk_at dksX5_isSaid_4 3 rfl rfl)
theorem dX5_isSaid_96 : decode cX5_isSaid 96 = .ok (.iconst 1, 1) := dk_4 (dk_at dksX5_isSaid_4 4 rfl rfl)
theorem dX5_isSaid_97 : decode cX5_isSaid 97 = .ok (.isub, 1) := dk_100 (dk_at dksX5_isSaid_4 5 rfl rfl)
theorem dX5_isSaid_98 : decode cX5_isSaid 98 = .ok (.aload_n 0, 1) := dk_42 (dk_at dksX5_isSaid_4 6 rfl rfl)
theorem dX5_isSaid_99 : decode cX5_isSaid 99 = .ok (.getfield 33, 3) := dk_180 0 33 (dk_at dksX5_isSaid_4 7 rfl rfl)
theorem dX5_isSaid_102 : decode cX5_isSaid 102 = .ok (.iload 4, 2) := dk_21 4 (dk_at dksX5_isSaid_4 10 rfl rfl)
theorem dX5_isSaid_104 : decode cX5_isSaid 104 = .ok (.iaload, 1) := dk_46 (dk_at dksX5_isSaid_4 12 rfl rfl)
theorem dX5_isSaid_105 : decode cX5_isSaid 105 = .ok (.bipush 21, 2) := dk_16 21 (dk_at dksX5_isSaid_4 13 rfl rfl)
theorem dX5_isSaid_107 : decode cX5_isSaid 107 = .ok (.if_icmp .ne 31, 3) := dk_160 0 31 (dk_at dksX5_isSaid_4 15 rfl rfl)
theorem dX5_isSaid_110 : decode cX5_isSaid 110 = .ok (.aload_n 0, 1) := dk_42 (dk_at dksX5_isSaid_4 18 rfl rfl)
theorem dX5_isSaid_111 : decode cX5_isSaid 111 = .ok (.getfield 101, 3) := dk_180 0 101 (dk_at dksX5_isSaid_4 19 rfl rfl)
theorem dX5_isSaid_114 : decode cX5_isSaid 114 = .ok (.iload_n 2, 1) := dk_28 (dk_at dksX5_isSaid_4 22 rfl rfl)
theorem dX5_isSaid_115 : decode cX5_isSaid 115 = .ok (.iconst 1, 1) := dk_4 (dk_at dksX5_isSaid_4 23 rfl rfl)
theorem dX5_isSaid_116 : decode cX5_isSaid 116 = .ok (.isub, 1) := dk_100 (dk_at dksX5_isSaid_5 0 rfl rfl)
theorem dX5_isSaid_117 : decode cX5_isSaid 117 = .ok (.baload, 1) := dk_51 (dk_at dksX5_isSaid_5 1 rfl rfl)
theorem dX5_isSaid_118 : decode cX5_isSaid 118 = .ok (.ifCond .eq 16, 3) := dk_153 0 16 (dk_at dksX5_isSaid_5 2 rfl rfl)
theorem dX5_isSaid_121 : decode cX5_isSaid 121 = .ok (.aload_n 0, 1) := dk_42 (dk_at dksX5_isSaid_5 5 rfl rfl)
theorem dX5_isSaid_122 : decode cX5_isSaid 122 = .ok (.getfield 101, 3) := dk_180 0 101 (dk_at dksX5_isSaid_5 6 rfl rfl)
theorem dX5_isSaid_125 : decode cX5_isSaid 125 = .ok (.iload_n 2, 1) := dk_28 (dk_at dksX5_isSaid_5 9 rfl rfl)
theorem dX5_isSaid_126 : decode cX5_isSaid 126 = .ok (.baload, 1) := dk_51 (dk_at dksX5_isSaid_5 10 rfl rfl)
theorem dX5_isSaid_127 : decode cX5_isSaid 127 = .ok (.ifCond .eq 7, 3) := dk_153 0 7 (dk_at dksX5_isSaid_5 11 rfl rfl)
theorem dX5_isSaid_130 : decode cX5_isSaid 130 = .ok (.iconst 1, 1) := dk_4 (dk_at dksX5_isSaid_5 14 rfl rfl)
theorem dX5_isSaid_131 : decode cX5_isSaid 131 = .ok (.goto 32, 3) := dk_167 0 32 (dk_at dksX5_isSaid_5 15 rfl rfl)
theorem dX5_isSaid_134 : decode cX5_isSaid 134 = .ok (.iconst 0, 1) := dk_3 (dk_at dksX5_isSaid_5 18 rfl rfl)
theorem dX5_isSaid_135 : decode cX5_isSaid 135 = .ok (.goto 28, 3) := dk_167 0 28 (dk_at dksX5_isSaid_5 19 rfl rfl)
theorem dX5_isSaid_138 : decode cX5_isSaid 138 = .ok (.aload_n 0, 1) := dk_42 (dk_at dksX5_isSaid_5 22 rfl rfl)
theorem dX5_isSaid_139 : decode cX5_isSaid 139 = .ok (.getfield 101, 3) := dk_180 0 101 (dk_at dksX5_isSaid_6 0 rfl rfl)
theorem dX5_isSaid_142 : decode cX5_isSaid 142 = .ok (.iload_n 2, 1) := dk_28 (dk_at dksX5_isSaid_6 3 rfl rfl)
theorem dX5_isSaid_143 : decode cX5_isSaid 143 = .ok (.iconst 1, 1) := dk_4 (dk_at dksX5_isSaid_6 4 rfl rfl)
theorem dX5_isSaid_144 : decode cX5_isSaid 144 = .ok (.isub, 1) := dk_100 (dk_at dksX5_isSaid_6 5 rfl rfl)
theorem dX5_isSaid_145 : decode cX5_isSaid 145 = .ok (.baload, 1) := dk_51 (dk_at dksX5_isSaid_6 6 rfl rfl)
theorem dX5_isSaid_146 : decode cX5_isSaid 146 = .ok (.ifCond .ne 12, 3) := dk_154 0 12 (dk_at dksX5_isSaid_6 7 rfl rfl)
theorem dX5_isSaid_149 : decode cX5_isSaid 149 = .ok (.aload_n 0, 1) := dk_42 (dk_at dksX5_isSaid_6 10 rfl rfl)
theorem dX5_isSaid_150 : decode cX5_isSaid 150 = .ok (.getfield 101, 3) := dk_180 0 101 (dk_at dksX5_isSaid_6 11 rfl rfl)
theorem dX5_isSaid_153 : decode cX5_isSaid 153 = .ok (.iload_n 2, 1) := dk_28 (dk_at dksX5_isSaid_6 14 rfl rfl)
theorem dX5_isSaid_154 : decode cX5_isSaid 154 = .ok (.baload, 1) := dk_51 (dk_at dksX5_isSaid_6 15 rfl rfl)
theorem dX5_isSaid_155 : decode cX5_isSaid 155 = .ok (.ifCond .eq 7, 3) := dk_153 0 7 (dk_at dksX5_isSaid_6 16 rfl rfl)
theorem dX5_isSaid_158 : decode cX5_isSaid 158 = .ok (.iconst 1, 1) := dk_4 (dk_at dksX5_isSaid_6 19 rfl rfl)
theorem dX5_isSaid_159 : decode cX5_isSaid 159 = .ok (.goto 4, 3) := dk_167 0 4 (dk_at dksX5_isSaid_6 20 rfl rfl)
theorem dX5_isSaid_162 : decode cX5_isSaid 162 = .ok (.iconst 0, 1) := dk_3 (dk_at dksX5_isSaid_6 23 rfl rfl)
theorem dX5_isSaid_163 : decode cX5_isSaid 163 = .ok (.bastore, 1) := dk_84 (dk_at dksX5_isSaid_7 0 rfl rfl)
theorem dX5_isSaid_164 : decode cX5_isSaid 164 = .ok (.goto 42, 3) := dk_167 0 42 (dk_at dksX5_isSaid_7 1 rfl rfl)
theorem dX5_isSaid_167 : decode cX5_isSaid 167 = .ok (.aload_n 0, 1) := dk_42 (dk_at dksX5_isSaid_7 4 rfl rfl)
theorem dX5_isSaid_168 : decode cX5_isSaid 168 = .ok (.getfield 101, 3) := dk_180 0 101 (dk_at dksX5_isSaid_7 5 rfl rfl)
theorem dX5_isSaid_171 : decode cX5_isSaid 171 = .ok (.iload_n 2, 1) := dk_28 (dk_at dksX5_isSaid_7 8 rfl rfl)
theorem dX5_isSaid_172 : decode cX5_isSaid 172 = .ok (.aload_n 0, 1) := dk_42 (dk_at dksX5_isSaid_7 9 rfl rfl)
theorem dX5_isSaid_173 : decode cX5_isSaid 173 = .ok (.iload_n 1, 1) := dk_27 (dk_at dksX5_isSaid_7 10 rfl rfl)
theorem dX5_isSaid_174 : decode cX5_isSaid 174 = .ok (.aload_n 0, 1) := dk_42 (dk_at dksX5_isSaid_7 11 rfl rfl)
theorem dX5_isSaid_175 : decode cX5_isSaid 175 = .ok (.getfield 33, 3) := dk_180 0 33 (dk_at dksX5_isSaid_7 12 rfl rfl)
theorem dX5_isSaid_178 : decode cX5_isSaid 178 = .ok (.iload 4, 2) := dk_21 4 (dk_at dksX5_isSaid_7 15 rfl rfl)
theorem dX5_isSaid_180 : decode cX5_isSaid 180 = .ok (.iaload, 1) := dk_46 (dk_at dksX5_isSaid_7 17 rfl rfl)
theorem dX5_isSaid_181 : decode cX5_isSaid 181 = .ok (.aload_n 0, 1) := dk_42 (dk_at dksX5_isSaid_7 18 rfl rfl)
theorem dX5_isSaid_182 : decode cX5_isSaid 182 = .ok (.getfield 33, 3) := dk_180 0 33 (dk_at dksX5_isSaid_7 19 rfl rfl)
theorem dX5_isSaid_185 : decode cX5_isSaid 185 = .ok (.iload 4, 2) := dk_21 4 (dk_at dksX5_isSaid_7 22 rfl rfl)
theorem dX5_isSaid_187 : decode cX5_isSaid 187 = .ok (.iconst 1, 1) := dk_4 (dk_at dksX5_isSaid_8 0 rfl rfl)
theorem dX5_isSaid_188 : decode cX5_isSaid 188 = .ok (.iadd, 1) := dk_96 (dk_at dksX5_isSaid_8 1 rfl rfl)
theorem dX5_isSaid_189 : decode cX5_isSaid 189 = .ok (.iaload, 1) := dk_46 (dk_at dksX5_isSaid_8 2 rfl rfl)
theorem dX5_isSaid_190 : decode cX5_isSaid 190 = .ok (.aload_n 0, 1) := dk_42 (dk_at dksX5_isSaid_8 3 rfl rfl)
theorem dX5_isSaid_191 : decode cX5_isSaid 191 = .ok (.getfield 33, 3) := dk_180 0 33 (dk_at dksX5_isSaid_8 4 rfl rfl)
theorem dX5_isSaid_194 : decode cX5_isSaid 194 = .ok (.iload 4, 2) := dk_21 4 (dk_at dksX5_isSaid_8 7 rfl rfl)
theorem dX5_isSaid_196 : decode cX5_isSaid 196 = .ok (.iconst 2, 1) := dk_5 (dk_at dksX5_isSaid_8 9 rfl rfl)
theorem dX5_isSaid_197 : decode cX5_isSaid 197 = .ok (.iadd, 1) := dk_96 (dk_at dksX5_isSaid_8 10 rfl rfl)
theorem dX5_isSaid_198 : decode cX5_isSaid 198 = .ok (.iaload, 1) := dk_46 (dk_at dksX5_isSaid_8 11 rfl rfl)
theorem dX5_isSaid_199 : decode cX5_isSaid 199 = .ok (.invokevirtual 483, 3) := dk_182 1 227 (dk_at dksX5_isSaid_8 12 rfl rfl)
theorem dX5_isSaid_202 : decode cX5_isSaid 202 = .ok (.bastore, 1) := dk_84 (dk_at dksX5_isSaid_8 15 rfl rfl)
theorem dX5_isSaid_203 : decode cX5_isSaid 203 = .ok (.iinc 2 1, 3) := dk_132 2 1 (dk_at dksX5_isSaid_8 16 rfl rfl)
theorem dX5_isSaid_206 : decode cX5_isSaid 206 = .ok (.iinc 3 1, 3) := dk_132 3 1 (dk_at dksX5_isSaid_8 19 rfl rfl)
theorem dX5_isSaid_209 : decode cX5_isSaid 209 = .ok (.goto (-205), 3) := dk_167 255 51 (dk_at dksX5_isSaid_9 0 rfl rfl)
theorem dX5_isSaid_212 : decode cX5_isSaid 212 = .ok (.aload_n 0, 1) := dk_42 (dk_at dksX5_isSaid_9 3 rfl rfl)
theorem dX5_isSaid_213 : decode cX5_isSaid 213 = .ok (.getfield 101, 3) := dk_180 0 101 (dk_at dksX5_isSaid_9 4 rfl rfl)
theorem dX5_isSaid_216 : decode cX5_isSaid 216 = .ok (.iconst 0, 1) := dk_3 (dk_at dksX5_isSaid_9 7 rfl rfl)
theorem dX5_isSaid_217 : decode cX5_isSaid 217 = .ok (.baload, 1) := dk_51 (dk_at dksX5_isSaid_9 8 rfl rfl)
theorem dX5_isSaid_218 : decode cX5_isSaid 218 = .ok (.ireturn, 1) := dk_172 (dk_at dksX5_isSaid_9 9 rfl rfl)
abbrev cX5_isLeaf : ByteArray := prog_32_method_112_code
def yX5_isLeaf : MethodName := ⟨RX5, "isLeaf", "(IIII)Z"⟩
def dkwX5_isLeaf_11 : List UInt8 := [167, 0, 4, 3, 172]
abbrev dktX5_isLeaf_11 : List UInt8 := dkwX5_isLeaf_11 ++ []
def dkwX5_isLeaf_10 : List UInt8 := [21, 5, 21, 4, 160, 0, 7, 4, 167, 0, 19, 3, 167, 0, 15, 21, 5, 21, 4, 164, 0, 7, 4]
abbrev dktX5_isLeaf_10 : List UInt8 := dkwX5_isLeaf_10 ++ dktX5_isLeaf_11
def dkwX5_isLeaf_9 : List UInt8 := [160, 0, 18, 21, 5, 21, 4, 162, 0, 7, 4, 167, 0, 40, 3, 167, 0, 36, 29, 16, 61, 160, 0, 18]
abbrev dktX5_isLeaf_9 : List UInt8 := dkwX5_isLeaf_9 ++ dktX5_isLeaf_10
def dkwX5_isLeaf_8 : List UInt8 := [16, 7, 160, 0, 16, 42, 180, 0, 33, 17, 0, 132, 27, 96, 46, 167, 0, 4, 27, 54, 5, 29, 16, 60]
abbrev dktX5_isLeaf_8 : List UInt8 := dkwX5_isLeaf_8 ++ dktX5_isLeaf_9
def dkwX5_isLeaf_7 : List UInt8 := [46, 167, 0, 41, 28, 16, 6, 160, 0, 15, 42, 180, 0, 33, 16, 120, 27, 96, 46, 167, 0, 23, 28]
abbrev dktX5_isLeaf_7 : List UInt8 := dkwX5_isLeaf_7 ++ dktX5_isLeaf_8
def dkwX5_isLeaf_6 : List UInt8 := [27, 96, 46, 96, 46, 21, 4, 184, 1, 1, 172, 28, 8, 160, 0, 15, 42, 180, 0, 33, 16, 114, 27, 96]
abbrev dktX5_isLeaf_6 : List UInt8 := dkwX5_isLeaf_6 ++ dktX5_isLeaf_7
def dkwX5_isLeaf_5 : List UInt8 := [46, 21, 4, 160, 0, 7, 4, 167, 0, 4, 3, 172, 42, 180, 0, 33, 16, 101, 42, 180, 0, 33, 16, 79]
abbrev dktX5_isLeaf_5 : List UInt8 := dkwX5_isLeaf_5 ++ dktX5_isLeaf_6
def dkwX5_isLeaf_4 : List UInt8 := [16, 108, 27, 96, 46, 21, 4, 160, 0, 7, 4, 167, 0, 4, 3, 172, 42, 180, 0, 33, 16, 79, 27, 96]
abbrev dktX5_isLeaf_4 : List UInt8 := dkwX5_isLeaf_4 ++ dktX5_isLeaf_5
def dkwX5_isLeaf_3 : List UInt8 := [167, 0, 4, 3, 172, 42, 27, 182, 1, 53, 154, 0, 7, 4, 167, 0, 4, 3, 172, 42, 180, 0, 33]
abbrev dktX5_isLeaf_3 : List UInt8 := dkwX5_isLeaf_3 ++ dktX5_isLeaf_4
def dkwX5_isLeaf_2 : List UInt8 := [42, 180, 0, 33, 16, 108, 27, 96, 46, 42, 180, 0, 33, 16, 79, 27, 96, 46, 160, 0, 7, 4]
abbrev dktX5_isLeaf_2 : List UInt8 := dkwX5_isLeaf_2 ++ dktX5_isLeaf_3
def dkwX5_isLeaf_1 : List UInt8 := [170, 0, 0, 0, 0, 0, 139, 0, 0, 0, 0, 0, 0, 0, 4, 0, 0, 0, 35, 0, 0, 0, 62, 0, 0, 0, 76, 0, 0, 0, 96, 0, 0, 0, 116]
abbrev dktX5_isLeaf_1 : List UInt8 := dkwX5_isLeaf_1 ++ dktX5_isLeaf_2
def dkwX5_isLeaf_0 : List UInt8 := [28]
abbrev dktX5_isLeaf_0 : List UInt8 := dkwX5_isLeaf_0 ++ dktX5_isLeaf_1
theorem dksX5_isLeaf_0 : cX5_isLeaf.data.toList.drop 0 = dktX5_isLeaf_0 := by decide +kernel
theorem dksX5_isLeaf_1 : cX5_isLeaf.data.toList.drop 1 = dktX5_isLeaf_1 := dk_seg dksX5_isLeaf_0 1 rfl rfl
theorem dksX5_isLeaf_2 : cX5_isLeaf.data.toList.drop 36 = dktX5_isLeaf_2 := dk_seg dksX5_isLeaf_1 35 rfl rfl
theorem dksX5_isLeaf_3 : cX5_isLeaf.data.toList.drop 58 = dktX5_isLeaf_3 := dk_seg dksX5_isLeaf_2 22 rfl rfl
theorem dksX5_isLeaf_4 : cX5_isLeaf.data.toList.drop 81 = dktX5_isLeaf_4 := dk_seg dksX5_isLeaf_3 23 rfl rfl
theorem dksX5_isLeaf_5 : cX5_isLeaf.data.toList.drop 105 = dktX5_isLeaf_5 := dk_seg dksX5_isLeaf_4 24 rfl rfl
theorem dksX5_isLeaf_6 : cX5_isLeaf.data.toList.drop 129 = dktX5_isLeaf_6 := dk_seg dksX5_isLeaf_5 24 rfl rfl
theorem dksX5_isLeaf_7 : cX5_isLeaf.data.toList.drop 153 = dktX5_isLeaf_7 := dk_seg dksX5_isLeaf_6 24 rfl rfl
theorem dksX5_isLeaf_8 : cX5_isLeaf.data.toList.drop 176 = dktX5_isLeaf_8 := dk_seg dksX5_isLeaf_7 23 rfl rfl
theorem dksX5_isLeaf_9 : cX5_isLeaf.data.toList.drop 200 = dktX5_isLeaf_9 := dk_seg dksX5_isLeaf_8 24 rfl rfl
theorem dksX5_isLeaf_10 : cX5_isLeaf.data.toList.drop 224 = dktX5_isLeaf_10 := dk_seg dksX5_isLeaf_9 24 rfl rfl
theorem dksX5_isLeaf_11 : cX5_isLeaf.data.toList.drop 247 = dktX5_isLeaf_11 := dk_seg dksX5_isLeaf_10 23 rfl rfl
theorem dX5_isLeaf_0 : decode cX5_isLeaf 0 = .ok (.iload_n 2, 1) := dk_28 (dk_at dksX5_isLeaf_0 0 rfl rfl)
theorem dX5_isLeaf_1 : decode cX5_isLeaf 1 = .ok (.tableswitch 139 0 4 #[35, 62, 76, 96, 116], 35) := by decide +kernel
theorem dX5_isLeaf_36 : decode cX5_isLeaf 36 = .ok (.aload_n 0, 1) := dk_42 (dk_at dksX5_isLeaf_2 0 rfl rfl)
theorem dX5_isLeaf_37 : decode cX5_isLeaf 37 = .ok (.getfield 33, 3) := dk_180 0 33 (dk_at dksX5_isLeaf_2 1 rfl rfl)
theorem dX5_isLeaf_40 : decode cX5_isLeaf 40 = .ok (.bipush 108, 2) := dk_16 108 (dk_at dksX5_isLeaf_2 4 rfl rfl)
theorem dX5_isLeaf_42 : decode cX5_isLeaf 42 = .ok (.iload_n 1, 1) := dk_27 (dk_at dksX5_isLeaf_2 6 rfl rfl)
theorem dX5_isLeaf_43 : decode cX5_isLeaf 43 = .ok (.iadd, 1) := dk_96 (dk_at dksX5_isLeaf_2 7 rfl rfl)
theorem dX5_isLeaf_44 : decode cX5_isLeaf 44 = .ok (.iaload, 1) := dk_46 (dk_at dksX5_isLeaf_2 8 rfl rfl)
theorem dX5_isLeaf_45 : decode cX5_isLeaf 45 = .ok (.aload_n 0, 1) := dk_42 (dk_at dksX5_isLeaf_2 9 rfl rfl)
theorem dX5_isLeaf_46 : decode cX5_isLeaf 46 = .ok (.getfield 33, 3) := dk_180 0 33 (dk_at dksX5_isLeaf_2 10 rfl rfl)
theorem dX5_isLeaf_49 : decode cX5_isLeaf 49 = .ok (.bipush 79, 2) := dk_16 79 (dk_at dksX5_isLeaf_2 13 rfl rfl)
theorem dX5_isLeaf_51 : decode cX5_isLeaf 51 = .ok (.iload_n 1, 1) := dk_27 (dk_at dksX5_isLeaf_2 15 rfl rfl)
theorem dX5_isLeaf_52 : decode cX5_isLeaf 52 = .ok (.iadd, 1) := dk_96 (dk_at dksX5_isLeaf_2 16 rfl rfl)
theorem dX5_isLeaf_53 : decode cX5_isLeaf 53 = .ok (.iaload, 1) := dk_46 (dk_at dksX5_isLeaf_2 17 rfl rfl)
theorem dX5_isLeaf_54 : decode cX5_isLeaf 54 = .ok (.if_icmp .ne 7, 3) := dk_160 0 7 (dk_at dksX5_isLeaf_2 18 rfl rfl)
theorem dX5_isLeaf_57 : decode cX5_isLeaf 57 = .ok (.iconst 1, 1) := dk_4 (dk_at dksX5_isLeaf_2 21 rfl rfl)
theorem dX5_isLeaf_58 : decode cX5_isLeaf 58 = .ok (.goto 4, 3) := dk_167 0 4 (dk_at dksX5_isLeaf_3 0 rfl rfl)
theorem dX5_isLeaf_61 : decode cX5_isLeaf 61 = .ok (.iconst 0, 1) := dk_3 (dk_at dksX5_isLeaf_3 3 rfl rfl)
theorem dX5_isLeaf_62 : decode cX5_isLeaf 62 = .ok (.ireturn, 1) := dk_172 (dk_at dksX5_isLeaf_3 4 rfl rfl)
theorem dX5_isLeaf_63 : decode cX5_isLeaf 63 = .ok (.aload_n 0, 1) := dk_42 (dk_at dksX5_isLeaf_3 5 rfl rfl)
theorem dX5_isLeaf_64 : decode cX5_isLeaf 64 = .ok (.iload_n 1, 1) := dk_27 (dk_at dksX5_isLeaf_3 6 rfl rfl)
theorem dX5_isLeaf_65 : decode cX5_isLeaf 65 = .ok (.invokevirtual 309, 3) := dk_182 1 53 (dk_at dksX5_isLeaf_3 7 rfl rfl)
theorem dX5_isLeaf_68 : decode cX5_isLeaf 68 = .ok (.ifCond .ne 7, 3) := dk_154 0 7 (dk_at dksX5_isLeaf_3 10 rfl rfl)
theorem dX5_isLeaf_71 : decode cX5_isLeaf 71 = .ok (.iconst 1, 1) := dk_4 (dk_at dksX5_isLeaf_3 13 rfl rfl)
theorem dX5_isLeaf_72 : decode cX5_isLeaf 72 = .ok (.goto 4, 3) := dk_167 0 4 (dk_at dksX5_isLeaf_3 14 rfl rfl)
theorem dX5_isLeaf_75 : decode cX5_isLeaf 75 = .ok (.iconst 0, 1) := dk_3 (dk_at dksX5_isLeaf_3 17 rfl rfl)
theorem dX5_isLeaf_76 : decode cX5_isLeaf 76 = .ok (.ireturn, 1) := dk_172 (dk_at dksX5_isLeaf_3 18 rfl rfl)
theorem dX5_isLeaf_77 : decode cX5_isLeaf 77 = .ok (.aload_n 0, 1) := dk_42 (dk_at dksX5_isLeaf_3 19 rfl rfl)
theorem dX5_isLeaf_78 : decode cX5_isLeaf 78 = .ok (.getfield 33, 3) := dk_180 0 33 (dk_at dksX5_isLeaf_3 20 rfl rfl)
theorem dX5_isLeaf_81 : decode cX5_isLeaf 81 = .ok (.bipush 108, 2) := dk_16 108 (dk_at dksX5_isLeaf_4 0 rfl rfl)
theorem dX5_isLeaf_83 : decode cX5_isLeaf 83 = .ok (.iload_n 1, 1) := dk_27 (dk_at dksX5_isLeaf_4 2 rfl rfl)
theorem dX5_isLeaf_84 : decode cX5_isLeaf 84 = .ok (.iadd, 1) := dk_96 (dk_at dksX5_isLeaf_4 3 rfl rfl)
theorem dX5_isLeaf_85 : decode cX5_isLeaf 85 = .ok (.iaload, 1) := dk_46 (dk_at dksX5_isLeaf_4 4 rfl rfl)
theorem dX5_isLeaf_86 : decode cX5_isLeaf 86 = .ok (.iload 4, 2) := dk_21 4 (dk_at dksX5_isLeaf_4 5 rfl rfl)
theorem dX5_isLeaf_88 : decode cX5_isLeaf 88 = .ok (.if_icmp .ne 7, 3) := dk_160 0 7 (dk_at dksX5_isLeaf_4 7 rfl rfl)
theorem dX5_isLeaf_91 : decode cX5_isLeaf 91 = .ok (.iconst 1, 1) := dk_4 (dk_at dksX5_isLeaf_4 10 rfl rfl)
theorem dX5_isLeaf_92 : decode cX5_isLeaf 92 = .ok (.goto 4, 3) := dk_167 0 4 (dk_at dksX5_isLeaf_4 11 rfl rfl)
theorem dX5_isLeaf_95 : decode cX5_isLeaf 95 = .ok (.iconst 0, 1) := dk_3 (dk_at dksX5_isLeaf_4 14 rfl rfl)
theorem dX5_isLeaf_96 : decode cX5_isLeaf 96 = .ok (.ireturn, 1) := dk_172 (dk_at dksX5_isLeaf_4 15 rfl rfl)
theorem dX5_isLeaf_97 : decode cX5_isLeaf 97 = .ok (.aload_n 0, 1) := dk_42 (dk_at dksX5_isLeaf_4 16 rfl rfl)
theorem dX5_isLeaf_98 : decode cX5_isLeaf 98 = .ok (.getfield 33, 3) := dk_180 0 33 (dk_at dksX5_isLeaf_4 17 rfl rfl)
theorem dX5_isLeaf_101 : decode cX5_isLeaf 101 = .ok (.bipush 79, 2) := dk_16 79 (dk_at dksX5_isLeaf_4 20 rfl rfl)
theorem dX5_isLeaf_103 : decode cX5_isLeaf 103 = .ok (.iload_n 1, 1) := dk_27 (dk_at dksX5_isLeaf_4 22 rfl rfl)
theorem dX5_isLeaf_104 : decode cX5_isLeaf 104 = .ok (.iadd, 1) := dk_96 (dk_at dksX5_isLeaf_4 23 rfl rfl)
theorem dX5_isLeaf_105 : decode cX5_isLeaf 105 = .ok (.iaload, 1) := dk_46 (dk_at dksX5_isLeaf_5 0 rfl rfl)
theorem dX5_isLeaf_106 : decode cX5_isLeaf 106 = .ok (.iload 4, 2) := dk_21 4 (dk_at dksX5_isLeaf_5 1 rfl rfl)
theorem dX5_isLeaf_108 : decode cX5_isLeaf 108 = .ok (.if_icmp .ne 7, 3) := dk_160 0 7 (dk_at dksX5_isLeaf_5 3 rfl rfl)
theorem dX5_isLeaf_111 : decode cX5_isLeaf 111 = .ok (.iconst 1, 1) := dk_4 (dk_at dksX5_isLeaf_5 6 rfl rfl)
theorem dX5_isLeaf_112 : decode cX5_isLeaf 112 = .ok (.goto 4, 3) := dk_167 0 4 (dk_at dksX5_isLeaf_5 7 rfl rfl)
theorem dX5_isLeaf_115 : decode cX5_isLeaf 115 = .ok (.iconst 0, 1) := dk_3 (dk_at dksX5_isLeaf_5 10 rfl rfl)
theorem dX5_isLeaf_116 : decode cX5_isLeaf 116 = .ok (.ireturn, 1) := dk_172 (dk_at dksX5_isLeaf_5 11 rfl rfl)
theorem dX5_isLeaf_117 : decode cX5_isLeaf 117 = .ok (.aload_n 0, 1) := dk_42 (dk_at dksX5_isLeaf_5 12 rfl rfl)
theorem dX5_isLeaf_118 : decode cX5_isLeaf 118 = .ok (.getfield 33, 3) := dk_180 0 33 (dk_at dksX5_isLeaf_5 13 rfl rfl)
theorem dX5_isLeaf_121 : decode cX5_isLeaf 121 = .ok (.bipush 101, 2) := dk_16 101 (dk_at dksX5_isLeaf_5 16 rfl rfl)
theorem dX5_isLeaf_123 : decode cX5_isLeaf 123 = .ok (.aload_n 0, 1) := dk_42 (dk_at dksX5_isLeaf_5 18 rfl rfl)
theorem dX5_isLeaf_124 : decode cX5_isLeaf 124 = .ok (.getfield 33, 3) := dk_180 0 33 (dk_at dksX5_isLeaf_5 19 rfl rfl)
theorem dX5_isLeaf_127 : decode cX5_isLeaf 127 = .ok (.bipush 79, 2) := dk_16 79 (dk_at dksX5_isLeaf_5 22 rfl rfl)
theorem dX5_isLeaf_129 : decode cX5_isLeaf 129 = .ok (.iload_n 1, 1) := dk_27 (dk_at dksX5_isLeaf_6 0 rfl rfl)
theorem dX5_isLeaf_130 : decode cX5_isLeaf 130 = .ok (.iadd, 1) := dk_96 (dk_at dksX5_isLeaf_6 1 rfl rfl)
theorem dX5_isLeaf_131 : decode cX5_isLeaf 131 = .ok (.iaload, 1) := dk_46 (dk_at dksX5_isLeaf_6 2 rfl rfl)
theorem dX5_isLeaf_132 : decode cX5_isLeaf 132 = .ok (.iadd, 1) := dk_96 (dk_at dksX5_isLeaf_6 3 rfl rfl)
theorem dX5_isLeaf_133 : decode cX5_isLeaf 133 = .ok (.iaload, 1) := dk_46 (dk_at dksX5_isLeaf_6 4 rfl rfl)
theorem dX5_isLeaf_134 : decode cX5_isLeaf 134 = .ok (.iload 4, 2) := dk_21 4 (dk_at dksX5_isLeaf_6 5 rfl rfl)
theorem dX5_isLeaf_136 : decode cX5_isLeaf 136 = .ok (.invokestatic 257, 3) := dk_184 1 1 (dk_at dksX5_isLeaf_6 7 rfl rfl)
theorem dX5_isLeaf_139 : decode cX5_isLeaf 139 = .ok (.ireturn, 1) := dk_172 (dk_at dksX5_isLeaf_6 10 rfl rfl)
theorem dX5_isLeaf_140 : decode cX5_isLeaf 140 = .ok (.iload_n 2, 1) := dk_28 (dk_at dksX5_isLeaf_6 11 rfl rfl)
theorem dX5_isLeaf_141 : decode cX5_isLeaf 141 = .ok (.iconst 5, 1) := dk_8 (dk_at dksX5_isLeaf_6 12 rfl rfl)
theorem dX5_isLeaf_142 : decode cX5_isLeaf 142 = .ok (.if_icmp .ne 15, 3) := dk_160 0 15 (dk_at dksX5_isLeaf_6 13 rfl rfl)
theorem dX5_isLeaf_145 : decode cX5_isLeaf 145 = .ok (.aload_n 0, 1) := dk_42 (dk_at dksX5_isLeaf_6 16 rfl rfl)
theorem dX5_isLeaf_146 : decode cX5_isLeaf 146 = .ok (.getfield 33, 3) := dk_180 0 33 (dk_at dksX5_isLeaf_6 17 rfl rfl)
theorem dX5_isLeaf_149 : decode cX5_isLeaf 149 = .ok (.bipush 114, 2) := dk_16 114 (dk_at dksX5_isLeaf_6 20 rfl rfl)
theorem dX5_isLeaf_151 : decode cX5_isLeaf 151 = .ok (.iload_n 1, 1) := dk_27 (dk_at dksX5_isLeaf_6 22 rfl rfl)
theorem dX5_isLeaf_152 : decode cX5_isLeaf 152 = .ok (.iadd, 1) := dk_96 (dk_at dksX5_isLeaf_6 23 rfl rfl)
theorem dX5_isLeaf_153 : decode cX5_isLeaf 153 = .ok (.iaload, 1) := dk_46 (dk_at dksX5_isLeaf_7 0 rfl rfl)
theorem dX5_isLeaf_154 : decode cX5_isLeaf 154 = .ok (.goto 41, 3) := dk_167 0 41 (dk_at dksX5_isLeaf_7 1 rfl rfl)
theorem dX5_isLeaf_157 : decode cX5_isLeaf 157 = .ok (.iload_n 2, 1) := dk_28 (dk_at dksX5_isLeaf_7 4 rfl rfl)
theorem dX5_isLeaf_158 : decode cX5_isLeaf 158 = .ok (.bipush 6, 2) := dk_16 6 (dk_at dksX5_isLeaf_7 5 rfl rfl)
theorem dX5_isLeaf_160 : decode cX5_isLeaf 160 = .ok (.if_icmp .ne 15, 3) := dk_160 0 15 (dk_at dksX5_isLeaf_7 7 rfl rfl)
theorem dX5_isLeaf_163 : decode cX5_isLeaf 163 = .ok (.aload_n 0, 1) := dk_42 (dk_at dksX5_isLeaf_7 10 rfl rfl)
theorem dX5_isLeaf_164 : decode cX5_isLeaf 164 = .ok (.getfield 33, 3) := dk_180 0 33 (dk_at dksX5_isLeaf_7 11 rfl rfl)
theorem dX5_isLeaf_167 : decode cX5_isLeaf 167 = .ok (.bipush 120, 2) := dk_16 120 (dk_at dksX5_isLeaf_7 14 rfl rfl)
theorem dX5_isLeaf_169 : decode cX5_isLeaf 169 = .ok (.iload_n 1, 1) := dk_27 (dk_at dksX5_isLeaf_7 16 rfl rfl)
theorem dX5_isLeaf_170 : decode cX5_isLeaf 170 = .ok (.iadd, 1) := dk_96 (dk_at dksX5_isLeaf_7 17 rfl rfl)
theorem dX5_isLeaf_171 : decode cX5_isLeaf 171 = .ok (.iaload, 1) := dk_46 (dk_at dksX5_isLeaf_7 18 rfl rfl)
theorem dX5_isLeaf_172 : decode cX5_isLeaf 172 = .ok (.goto 23, 3) := dk_167 0 23 (dk_at dksX5_isLeaf_7 19 rfl rfl)
theorem dX5_isLeaf_175 : decode cX5_isLeaf 175 = .ok (.iload_n 2, 1) := dk_28 (dk_at dksX5_isLeaf_7 22 rfl rfl)
theorem dX5_isLeaf_176 : decode cX5_isLeaf 176 = .ok (.bipush 7, 2) := dk_16 7 (dk_at dksX5_isLeaf_8 0 rfl rfl)
theorem dX5_isLeaf_178 : decode cX5_isLeaf 178 = .ok (.if_icmp .ne 16, 3) := dk_160 0 16 (dk_at dksX5_isLeaf_8 2 rfl rfl)
theorem dX5_isLeaf_181 : decode cX5_isLeaf 181 = .ok (.aload_n 0, 1) := dk_42 (dk_at dksX5_isLeaf_8 5 rfl rfl)
theorem dX5_isLeaf_182 : decode cX5_isLeaf 182 = .ok (.getfield 33, 3) := dk_180 0 33 (dk_at dksX5_isLeaf_8 6 rfl rfl)
theorem dX5_isLeaf_185 : decode cX5_isLeaf 185 = .ok (.sipush 132, 3) := dk_17 0 132 (dk_at dksX5_isLeaf_8 9 rfl rfl)
theorem dX5_isLeaf_188 : decode cX5_isLeaf 188 = .ok (.iload_n 1, 1) := dk_27 (dk_at dksX5_isLeaf_8 12 rfl rfl)
theorem dX5_isLeaf_189 : decode cX5_isLeaf 189 = .ok (.iadd, 1) := dk_96 (dk_at dksX5_isLeaf_8 13 rfl rfl)
theorem dX5_isLeaf_190 : decode cX5_isLeaf 190 = .ok (.iaload, 1) := dk_46 (dk_at dksX5_isLeaf_8 14 rfl rfl)
theorem dX5_isLeaf_191 : decode cX5_isLeaf 191 = .ok (.goto 4, 3) := dk_167 0 4 (dk_at dksX5_isLeaf_8 15 rfl rfl)
theorem dX5_isLeaf_194 : decode cX5_isLeaf 194 = .ok (.iload_n 1, 1) := dk_27 (dk_at dksX5_isLeaf_8 18 rfl rfl)
theorem dX5_isLeaf_195 : decode cX5_isLeaf 195 = .ok (.istore 5, 2) := dk_54 5 (dk_at dksX5_isLeaf_8 19 rfl rfl)
theorem dX5_isLeaf_197 : decode cX5_isLeaf 197 = .ok (.iload_n 3, 1) := dk_29 (dk_at dksX5_isLeaf_8 21 rfl rfl)
theorem dX5_isLeaf_198 : decode cX5_isLeaf 198 = .ok (.bipush 60, 2) := dk_16 60 (dk_at dksX5_isLeaf_8 22 rfl rfl)
theorem dX5_isLeaf_200 : decode cX5_isLeaf 200 = .ok (.if_icmp .ne 18, 3) := dk_160 0 18 (dk_at dksX5_isLeaf_9 0 rfl rfl)
theorem dX5_isLeaf_203 : decode cX5_isLeaf 203 = .ok (.iload 5, 2) := dk_21 5 (dk_at dksX5_isLeaf_9 3 rfl rfl)
theorem dX5_isLeaf_205 : decode cX5_isLeaf 205 = .ok (.iload 4, 2) := dk_21 4 (dk_at dksX5_isLeaf_9 5 rfl rfl)
theorem dX5_isLeaf_207 : decode cX5_isLeaf 207 = .ok (.if_icmp .ge 7, 3) := dk_162 0 7 (dk_at dksX5_isLeaf_9 7 rfl rfl)
theorem dX5_isLeaf_210 : decode cX5_isLeaf 210 = .ok (.iconst 1, 1) := dk_4 (dk_at dksX5_isLeaf_9 10 rfl rfl)
theorem dX5_isLeaf_211 : decode cX5_isLeaf 211 = .ok (.goto 40, 3) := dk_167 0 40 (dk_at dksX5_isLeaf_9 11 rfl rfl)
theorem dX5_isLeaf_214 : decode cX5_isLeaf 214 = .ok (.iconst 0, 1) := dk_3 (dk_at dksX5_isLeaf_9 14 rfl rfl)
theorem dX5_isLeaf_215 : decode cX5_isLeaf 215 = .ok (.goto 36, 3) := dk_167 0 36 (dk_at dksX5_isLeaf_9 15 rfl rfl)
theorem dX5_isLeaf_218 : decode cX5_isLeaf 218 = .ok (.iload_n 3, 1) := dk_29 (dk_at dksX5_isLeaf_9 18 rfl rfl)
theorem dX5_isLeaf_219 : decode cX5_isLeaf 219 = .ok (.bipush 61, 2) := dk_16 61 (dk_at dksX5_isLeaf_9 19 rfl rfl)
theorem dX5_isLeaf_221 : decode cX5_isLeaf 221 = .ok (.if_icmp .ne 18, 3) := dk_160 0 18 (dk_at dksX5_isLeaf_9 21 rfl rfl)
theorem dX5_isLeaf_224 : decode cX5_isLeaf 224 = .ok (.iload 5, 2) := dk_21 5 (dk_at dksX5_isLeaf_10 0 rfl rfl)
theorem dX5_isLeaf_226 : decode cX5_isLeaf 226 = .ok (.iload 4, 2) := dk_21 4 (dk_at dksX5_isLeaf_10 2 rfl rfl)
theorem dX5_isLeaf_228 : decode cX5_isLeaf 228 = .ok (.if_icmp .ne 7, 3) := dk_160 0 7 (dk_at dksX5_isLeaf_10 4 rfl rfl)
theorem dX5_isLeaf_231 : decode cX5_isLeaf 231 = .ok (.iconst 1, 1) := dk_4 (dk_at dksX5_isLeaf_10 7 rfl rfl)
theorem dX5_isLeaf_232 : decode cX5_isLeaf 232 = .ok (.goto 19, 3) := dk_167 0 19 (dk_at dksX5_isLeaf_10 8 rfl rfl)
theorem dX5_isLeaf_235 : decode cX5_isLeaf 235 = .ok (.iconst 0, 1) := dk_3 (dk_at dksX5_isLeaf_10 11 rfl rfl)
theorem dX5_isLeaf_236 : decode cX5_isLeaf 236 = .ok (.goto 15, 3) := dk_167 0 15 (dk_at dksX5_isLeaf_10 12 rfl rfl)
theorem dX5_isLeaf_239 : decode cX5_isLeaf 239 = .ok (.iload 5, 2) := dk_21 5 (dk_at dksX5_isLeaf_10 15 rfl rfl)
theorem dX5_isLeaf_241 : decode cX5_isLeaf 241 = .ok (.iload 4, 2) := dk_21 4 (dk_at dksX5_isLeaf_10 17 rfl rfl)
theorem dX5_isLeaf_243 : decode cX5_isLeaf 243 = .ok (.if_icmp .le 7, 3) := dk_164 0 7 (dk_at dksX5_isLeaf_10 19 rfl rfl)
theorem dX5_isLeaf_246 : decode cX5_isLeaf 246 = .ok (.iconst 1, 1) := dk_4 (dk_at dksX5_isLeaf_10 22 rfl rfl)
theorem dX5_isLeaf_247 : decode cX5_isLeaf 247 = .ok (.goto 4, 3) := dk_167 0 4 (dk_at dksX5_isLeaf_11 0 rfl rfl)
theorem dX5_isLeaf_250 : decode cX5_isLeaf 250 = .ok (.iconst 0, 1) := dk_3 (dk_at dksX5_isLeaf_11 3 rfl rfl)
theorem dX5_isLeaf_251 : decode cX5_isLeaf 251 = .ok (.ireturn, 1) := dk_172 (dk_at dksX5_isLeaf_11 4 rfl rfl)
abbrev cX5_image : ByteArray := prog_32_method_115_code
def yX5_image : MethodName := ⟨RX5, "image", "(I)Z"⟩
def dkwX5_image_3 : List UInt8 := [180, 0, 43, 28, 47, 80, 132, 2, 1, 167, 255, 230, 42, 180, 0, 111, 27, 4, 84, 4, 172]
abbrev dktX5_image_3 : List UInt8 := dkwX5_image_3 ++ []
def dkwX5_image_2 : List UInt8 := [167, 255, 228, 3, 61, 28, 16, 13, 162, 0, 26, 42, 180, 0, 108, 16, 13, 27, 104, 28, 96, 42]
abbrev dktX5_image_2 : List UInt8 := dkwX5_image_2 ++ dktX5_image_3
def dkwX5_image_1 : List UInt8 := [162, 0, 27, 42, 180, 0, 105, 17, 1, 63, 27, 104, 28, 96, 42, 180, 0, 33, 28, 46, 79, 132, 2, 1]
abbrev dktX5_image_1 : List UInt8 := dkwX5_image_1 ++ dktX5_image_2
def dkwX5_image_0 : List UInt8 := [42, 3, 181, 0, 1, 27, 3, 4, 184, 0, 207, 154, 0, 5, 3, 172, 3, 61, 28, 17, 1, 63]
abbrev dktX5_image_0 : List UInt8 := dkwX5_image_0 ++ dktX5_image_1
theorem dksX5_image_0 : cX5_image.data.toList.drop 0 = dktX5_image_0 := by decide +kernel
theorem dksX5_image_1 : cX5_image.data.toList.drop 22 = dktX5_image_1 := dk_seg dksX5_image_0 22 rfl rfl
theorem dksX5_image_2 : cX5_image.data.toList.drop 46 = dktX5_image_2 := dk_seg dksX5_image_1 24 rfl rfl
theorem dksX5_image_3 : cX5_image.data.toList.drop 68 = dktX5_image_3 := dk_seg dksX5_image_2 22 rfl rfl
theorem dX5_image_0 : decode cX5_image 0 = .ok (.aload_n 0, 1) := dk_42 (dk_at dksX5_image_0 0 rfl rfl)
theorem dX5_image_1 : decode cX5_image 1 = .ok (.iconst 0, 1) := dk_3 (dk_at dksX5_image_0 1 rfl rfl)
theorem dX5_image_2 : decode cX5_image 2 = .ok (.putfield 1, 3) := dk_181 0 1 (dk_at dksX5_image_0 2 rfl rfl)
theorem dX5_image_5 : decode cX5_image 5 = .ok (.iload_n 1, 1) := dk_27 (dk_at dksX5_image_0 5 rfl rfl)
theorem dX5_image_6 : decode cX5_image 6 = .ok (.iconst 0, 1) := dk_3 (dk_at dksX5_image_0 6 rfl rfl)
theorem dX5_image_7 : decode cX5_image 7 = .ok (.iconst 1, 1) := dk_4 (dk_at dksX5_image_0 7 rfl rfl)
theorem dX5_image_8 : decode cX5_image 8 = .ok (.invokestatic 207, 3) := dk_184 0 207 (dk_at dksX5_image_0 8 rfl rfl)
theorem dX5_image_11 : decode cX5_image 11 = .ok (.ifCond .ne 5, 3) := dk_154 0 5 (dk_at dksX5_image_0 11 rfl rfl)
theorem dX5_image_14 : decode cX5_image 14 = .ok (.iconst 0, 1) := dk_3 (dk_at dksX5_image_0 14 rfl rfl)
theorem dX5_image_15 : decode cX5_image 15 = .ok (.ireturn, 1) := dk_172 (dk_at dksX5_image_0 15 rfl rfl)
theorem dX5_image_16 : decode cX5_image 16 = .ok (.iconst 0, 1) := dk_3 (dk_at dksX5_image_0 16 rfl rfl)
theorem dX5_image_17 : decode cX5_image 17 = .ok (.istore_n 2, 1) := dk_61 (dk_at dksX5_image_0 17 rfl rfl)
theorem dX5_image_18 : decode cX5_image 18 = .ok (.iload_n 2, 1) := dk_28 (dk_at dksX5_image_0 18 rfl rfl)
theorem dX5_image_19 : decode cX5_image 19 = .ok (.sipush 319, 3) := dk_17 1 63 (dk_at dksX5_image_0 19 rfl rfl)
theorem dX5_image_22 : decode cX5_image 22 = .ok (.if_icmp .ge 27, 3) := dk_162 0 27 (dk_at dksX5_image_1 0 rfl rfl)
theorem dX5_image_25 : decode cX5_image 25 = .ok (.aload_n 0, 1) := dk_42 (dk_at dksX5_image_1 3 rfl rfl)
theorem dX5_image_26 : decode cX5_image 26 = .ok (.getfield 105, 3) := dk_180 0 105 (dk_at dksX5_image_1 4 rfl rfl)
theorem dX5_image_29 : decode cX5_image 29 = .ok (.sipush 319, 3) := dk_17 1 63 (dk_at dksX5_image_1 7 rfl rfl)
theorem dX5_image_32 : decode cX5_image 32 = .ok (.iload_n 1, 1) := dk_27 (dk_at dksX5_image_1 10 rfl rfl)
theorem dX5_image_33 : decode cX5_image 33 = .ok (.imul, 1) := dk_104 (dk_at dksX5_image_1 11 rfl rfl)
theorem dX5_image_34 : decode cX5_image 34 = .ok (.iload_n 2, 1) := dk_28 (dk_at dksX5_image_1 12 rfl rfl)
theorem dX5_image_35 : decode cX5_image 35 = .ok (.iadd, 1) := dk_96 (dk_at dksX5_image_1 13 rfl rfl)
theorem dX5_image_36 : decode cX5_image 36 = .ok (.aload_n 0, 1) := dk_42 (dk_at dksX5_image_1 14 rfl rfl)
theorem dX5_image_37 : decode cX5_image 37 = .ok (.getfield 33, 3) := dk_180 0 33 (dk_at dksX5_image_1 15 rfl rfl)
theorem dX5_image_40 : decode cX5_image 40 = .ok (.iload_n 2, 1) := dk_28 (dk_at dksX5_image_1 18 rfl rfl)
theorem dX5_image_41 : decode cX5_image 41 = .ok (.iaload, 1) := dk_46 (dk_at dksX5_image_1 19 rfl rfl)
theorem dX5_image_42 : decode cX5_image 42 = .ok (.iastore, 1) := dk_79 (dk_at dksX5_image_1 20 rfl rfl)
theorem dX5_image_43 : decode cX5_image 43 = .ok (.iinc 2 1, 3) := dk_132 2 1 (dk_at dksX5_image_1 21 rfl rfl)
theorem dX5_image_46 : decode cX5_image 46 = .ok (.goto (-28), 3) := dk_167 255 228 (dk_at dksX5_image_2 0 rfl rfl)
theorem dX5_image_49 : decode cX5_image 49 = .ok (.iconst 0, 1) := dk_3 (dk_at dksX5_image_2 3 rfl rfl)
theorem dX5_image_50 : decode cX5_image 50 = .ok (.istore_n 2, 1) := dk_61 (dk_at dksX5_image_2 4 rfl rfl)
theorem dX5_image_51 : decode cX5_image 51 = .ok (.iload_n 2, 1) := dk_28 (dk_at dksX5_image_2 5 rfl rfl)
theorem dX5_image_52 : decode cX5_image 52 = .ok (.bipush 13, 2) := dk_16 13 (dk_at dksX5_image_2 6 rfl rfl)
theorem dX5_image_54 : decode cX5_image 54 = .ok (.if_icmp .ge 26, 3) := dk_162 0 26 (dk_at dksX5_image_2 8 rfl rfl)
theorem dX5_image_57 : decode cX5_image 57 = .ok (.aload_n 0, 1) := dk_42 (dk_at dksX5_image_2 11 rfl rfl)
theorem dX5_image_58 : decode cX5_image 58 = .ok (.getfield 108, 3) := dk_180 0 108 (dk_at dksX5_image_2 12 rfl rfl)
theorem dX5_image_61 : decode cX5_image 61 = .ok (.bipush 13, 2) := dk_16 13 (dk_at dksX5_image_2 15 rfl rfl)
theorem dX5_image_63 : decode cX5_image 63 = .ok (.iload_n 1, 1) := dk_27 (dk_at dksX5_image_2 17 rfl rfl)
theorem dX5_image_64 : decode cX5_image 64 = .ok (.imul, 1) := dk_104 (dk_at dksX5_image_2 18 rfl rfl)
theorem dX5_image_65 : decode cX5_image 65 = .ok (.iload_n 2, 1) := dk_28 (dk_at dksX5_image_2 19 rfl rfl)
theorem dX5_image_66 : decode cX5_image 66 = .ok (.iadd, 1) := dk_96 (dk_at dksX5_image_2 20 rfl rfl)
theorem dX5_image_67 : decode cX5_image 67 = .ok (.aload_n 0, 1) := dk_42 (dk_at dksX5_image_2 21 rfl rfl)
theorem dX5_image_68 : decode cX5_image 68 = .ok (.getfield 43, 3) := dk_180 0 43 (dk_at dksX5_image_3 0 rfl rfl)
theorem dX5_image_71 : decode cX5_image 71 = .ok (.iload_n 2, 1) := dk_28 (dk_at dksX5_image_3 3 rfl rfl)
theorem dX5_image_72 : decode cX5_image 72 = .ok (.laload, 1) := dk_47 (dk_at dksX5_image_3 4 rfl rfl)
theorem dX5_image_73 : decode cX5_image 73 = .ok (.lastore, 1) := dk_80 (dk_at dksX5_image_3 5 rfl rfl)
theorem dX5_image_74 : decode cX5_image 74 = .ok (.iinc 2 1, 3) := dk_132 2 1 (dk_at dksX5_image_3 6 rfl rfl)
theorem dX5_image_77 : decode cX5_image 77 = .ok (.goto (-26), 3) := dk_167 255 230 (dk_at dksX5_image_3 9 rfl rfl)
theorem dX5_image_80 : decode cX5_image 80 = .ok (.aload_n 0, 1) := dk_42 (dk_at dksX5_image_3 12 rfl rfl)
theorem dX5_image_81 : decode cX5_image 81 = .ok (.getfield 111, 3) := dk_180 0 111 (dk_at dksX5_image_3 13 rfl rfl)
theorem dX5_image_84 : decode cX5_image 84 = .ok (.iload_n 1, 1) := dk_27 (dk_at dksX5_image_3 16 rfl rfl)
theorem dX5_image_85 : decode cX5_image 85 = .ok (.iconst 1, 1) := dk_4 (dk_at dksX5_image_3 17 rfl rfl)
theorem dX5_image_86 : decode cX5_image 86 = .ok (.bastore, 1) := dk_84 (dk_at dksX5_image_3 18 rfl rfl)
theorem dX5_image_87 : decode cX5_image 87 = .ok (.iconst 1, 1) := dk_4 (dk_at dksX5_image_3 19 rfl rfl)
theorem dX5_image_88 : decode cX5_image 88 = .ok (.ireturn, 1) := dk_172 (dk_at dksX5_image_3 20 rfl rfl)
abbrev cX5_restore : ByteArray := prog_32_method_116_code
def yX5_restore : MethodName := ⟨RX5, "restore", "(I)Z"⟩
def dkwX5_restore_3 : List UInt8 := [180, 0, 108, 16, 13, 27, 104, 28, 96, 47, 80, 132, 2, 1, 167, 255, 230, 42, 3, 181, 1, 19, 4, 172]
abbrev dktX5_restore_3 : List UInt8 := dkwX5_restore_3 ++ []
def dkwX5_restore_2 : List UInt8 := [28, 96, 46, 79, 132, 2, 1, 167, 255, 228, 3, 61, 28, 16, 13, 162, 0, 26, 42, 180, 0, 43, 28, 42]
abbrev dktX5_restore_2 : List UInt8 := dkwX5_restore_2 ++ dktX5_restore_3
def dkwX5_restore_1 : List UInt8 := [172, 3, 61, 28, 17, 1, 63, 162, 0, 27, 42, 180, 0, 33, 28, 42, 180, 0, 105, 17, 1, 63, 27, 104]
abbrev dktX5_restore_1 : List UInt8 := dkwX5_restore_1 ++ dktX5_restore_2
def dkwX5_restore_0 : List UInt8 := [42, 3, 181, 0, 1, 27, 3, 4, 184, 0, 207, 153, 0, 12, 42, 180, 0, 111, 27, 51, 154, 0, 5, 3]
abbrev dktX5_restore_0 : List UInt8 := dkwX5_restore_0 ++ dktX5_restore_1
theorem dksX5_restore_0 : cX5_restore.data.toList.drop 0 = dktX5_restore_0 := by decide +kernel
theorem dksX5_restore_1 : cX5_restore.data.toList.drop 24 = dktX5_restore_1 := dk_seg dksX5_restore_0 24 rfl rfl
theorem dksX5_restore_2 : cX5_restore.data.toList.drop 48 = dktX5_restore_2 := dk_seg dksX5_restore_1 24 rfl rfl
theorem dksX5_restore_3 : cX5_restore.data.toList.drop 72 = dktX5_restore_3 := dk_seg dksX5_restore_2 24 rfl rfl
theorem dX5_restore_0 : decode cX5_restore 0 = .ok (.aload_n 0, 1) := dk_42 (dk_at dksX5_restore_0 0 rfl rfl)
theorem dX5_restore_1 : decode cX5_restore 1 = .ok (.iconst 0, 1) := dk_3 (dk_at dksX5_restore_0 1 rfl rfl)
theorem dX5_restore_2 : decode cX5_restore 2 = .ok (.putfield 1, 3) := dk_181 0 1 (dk_at dksX5_restore_0 2 rfl rfl)
theorem dX5_restore_5 : decode cX5_restore 5 = .ok (.iload_n 1, 1) := dk_27 (dk_at dksX5_restore_0 5 rfl rfl)
theorem dX5_restore_6 : decode cX5_restore 6 = .ok (.iconst 0, 1) := dk_3 (dk_at dksX5_restore_0 6 rfl rfl)
theorem dX5_restore_7 : decode cX5_restore 7 = .ok (.iconst 1, 1) := dk_4 (dk_at dksX5_restore_0 7 rfl rfl)
theorem dX5_restore_8 : decode cX5_restore 8 = .ok (.invokestatic 207, 3) := dk_184 0 207 (dk_at dksX5_restore_0 8 rfl rfl)
theorem dX5_restore_11 : decode cX5_restore 11 = .ok (.ifCond .eq 12, 3) := dk_153 0 12 (dk_at dksX5_restore_0 11 rfl rfl)
theorem dX5_restore_14 : decode cX5_restore 14 = .ok (.aload_n 0, 1) := dk_42 (dk_at dksX5_restore_0 14 rfl rfl)
theorem dX5_restore_15 : decode cX5_restore 15 = .ok (.getfield 111, 3) := dk_180 0 111 (dk_at dksX5_restore_0 15 rfl rfl)
theorem dX5_restore_18 : decode cX5_restore 18 = .ok (.iload_n 1, 1) := dk_27 (dk_at dksX5_restore_0 18 rfl rfl)
theorem dX5_restore_19 : decode cX5_restore 19 = .ok (.baload, 1) := dk_51 (dk_at dksX5_restore_0 19 rfl rfl)
theorem dX5_restore_20 : decode cX5_restore 20 = .ok (.ifCond .ne 5, 3) := dk_154 0 5 (dk_at dksX5_restore_0 20 rfl rfl)
theorem dX5_restore_23 : decode cX5_restore 23 = .ok (.iconst 0, 1) := dk_3 (dk_at dksX5_restore_0 23 rfl rfl)
theorem dX5_restore_24 : decode cX5_restore 24 = .ok (.ireturn, 1) := dk_172 (dk_at dksX5_restore_1 0 rfl rfl)
theorem dX5_restore_25 : decode cX5_restore 25 = .ok (.iconst 0, 1) := dk_3 (dk_at dksX5_restore_1 1 rfl rfl)
theorem dX5_restore_26 : decode cX5_restore 26 = .ok (.istore_n 2, 1) := dk_61 (dk_at dksX5_restore_1 2 rfl rfl)
theorem dX5_restore_27 : decode cX5_restore 27 = .ok (.iload_n 2, 1) := dk_28 (dk_at dksX5_restore_1 3 rfl rfl)
theorem dX5_restore_28 : decode cX5_restore 28 = .ok (.sipush 319, 3) := dk_17 1 63 (dk_at dksX5_restore_1 4 rfl rfl)
theorem dX5_restore_31 : decode cX5_restore 31 = .ok (.if_icmp .ge 27, 3) := dk_162 0 27 (dk_at dksX5_restore_1 7 rfl rfl)
theorem dX5_restore_34 : decode cX5_restore 34 = .ok (.aload_n 0, 1) := dk_42 (dk_at dksX5_restore_1 10 rfl rfl)
theorem dX5_restore_35 : decode cX5_restore 35 = .ok (.getfield 33, 3) := dk_180 0 33 (dk_at dksX5_restore_1 11 rfl rfl)
theorem dX5_restore_38 : decode cX5_restore 38 = .ok (.iload_n 2, 1) := dk_28 (dk_at dksX5_restore_1 14 rfl rfl)
theorem dX5_restore_39 : decode cX5_restore 39 = .ok (.aload_n 0, 1) := dk_42 (dk_at dksX5_restore_1 15 rfl rfl)
theorem dX5_restore_40 : decode cX5_restore 40 = .ok (.getfield 105, 3) := dk_180 0 105 (dk_at dksX5_restore_1 16 rfl rfl)
theorem dX5_restore_43 : decode cX5_restore 43 = .ok (.sipush 319, 3) := dk_17 1 63 (dk_at dksX5_restore_1 19 rfl rfl)
theorem dX5_restore_46 : decode cX5_restore 46 = .ok (.iload_n 1, 1) := dk_27 (dk_at dksX5_restore_1 22 rfl rfl)
theorem dX5_restore_47 : decode cX5_restore 47 = .ok (.imul, 1) := dk_104 (dk_at dksX5_restore_1 23 rfl rfl)
theorem dX5_restore_48 : decode cX5_restore 48 = .ok (.iload_n 2, 1) := dk_28 (dk_at dksX5_restore_2 0 rfl rfl)
theorem dX5_restore_49 : decode cX5_restore 49 = .ok (.iadd, 1) := dk_96 (dk_at dksX5_restore_2 1 rfl rfl)
theorem dX5_restore_50 : decode cX5_restore 50 = .ok (.iaload, 1) := dk_46 (dk_at dksX5_restore_2 2 rfl rfl)
theorem dX5_restore_51 : decode cX5_restore 51 = .ok (.iastore, 1) := dk_79 (dk_at dksX5_restore_2 3 rfl rfl)
theorem dX5_restore_52 : decode cX5_restore 52 = .ok (.iinc 2 1, 3) := dk_132 2 1 (dk_at dksX5_restore_2 4 rfl rfl)
theorem dX5_restore_55 : decode cX5_restore 55 = .ok (.goto (-28), 3) := dk_167 255 228 (dk_at dksX5_restore_2 7 rfl rfl)
theorem dX5_restore_58 : decode cX5_restore 58 = .ok (.iconst 0, 1) := dk_3 (dk_at dksX5_restore_2 10 rfl rfl)
theorem dX5_restore_59 : decode cX5_restore 59 = .ok (.istore_n 2, 1) := dk_61 (dk_at dksX5_restore_2 11 rfl rfl)
theorem dX5_restore_60 : decode cX5_restore 60 = .ok (.iload_n 2, 1) := dk_28 (dk_at dksX5_restore_2 12 rfl rfl)
theorem dX5_restore_61 : decode cX5_restore 61 = .ok (.bipush 13, 2) := dk_16 13 (dk_at dksX5_restore_2 13 rfl rfl)
theorem dX5_restore_63 : decode cX5_restore 63 = .ok (.if_icmp .ge 26, 3) := dk_162 0 26 (dk_at dksX5_restore_2 15 rfl rfl)
theorem dX5_restore_66 : decode cX5_restore 66 = .ok (.aload_n 0, 1) := dk_42 (dk_at dksX5_restore_2 18 rfl rfl)
theorem dX5_restore_67 : decode cX5_restore 67 = .ok (.getfield 43, 3) := dk_180 0 43 (dk_at dksX5_restore_2 19 rfl rfl)
theorem dX5_restore_70 : decode cX5_restore 70 = .ok (.iload_n 2, 1) := dk_28 (dk_at dksX5_restore_2 22 rfl rfl)
theorem dX5_restore_71 : decode cX5_restore 71 = .ok (.aload_n 0, 1) := dk_42 (dk_at dksX5_restore_2 23 rfl rfl)
theorem dX5_restore_72 : decode cX5_restore 72 = .ok (.getfield 108, 3) := dk_180 0 108 (dk_at dksX5_restore_3 0 rfl rfl)
theorem dX5_restore_75 : decode cX5_restore 75 = .ok (.bipush 13, 2) := dk_16 13 (dk_at dksX5_restore_3 3 rfl rfl)
theorem dX5_restore_77 : decode cX5_restore 77 = .ok (.iload_n 1, 1) := dk_27 (dk_at dksX5_restore_3 5 rfl rfl)
theorem dX5_restore_78 : decode cX5_restore 78 = .ok (.imul, 1) := dk_104 (dk_at dksX5_restore_3 6 rfl rfl)
theorem dX5_restore_79 : decode cX5_restore 79 = .ok (.iload_n 2, 1) := dk_28 (dk_at dksX5_restore_3 7 rfl rfl)
theorem dX5_restore_80 : decode cX5_restore 80 = .ok (.iadd, 1) := dk_96 (dk_at dksX5_restore_3 8 rfl rfl)
theorem dX5_restore_81 : decode cX5_restore 81 = .ok (.laload, 1) := dk_47 (dk_at dksX5_restore_3 9 rfl rfl)
theorem dX5_restore_82 : decode cX5_restore 82 = .ok (.lastore, 1) := dk_80 (dk_at dksX5_restore_3 10 rfl rfl)
theorem dX5_restore_83 : decode cX5_restore 83 = .ok (.iinc 2 1, 3) := dk_132 2 1 (dk_at dksX5_restore_3 11 rfl rfl)
theorem dX5_restore_86 : decode cX5_restore 86 = .ok (.goto (-26), 3) := dk_167 255 230 (dk_at dksX5_restore_3 14 rfl rfl)
theorem dX5_restore_89 : decode cX5_restore 89 = .ok (.aload_n 0, 1) := dk_42 (dk_at dksX5_restore_3 17 rfl rfl)
theorem dX5_restore_90 : decode cX5_restore 90 = .ok (.iconst 0, 1) := dk_3 (dk_at dksX5_restore_3 18 rfl rfl)
theorem dX5_restore_91 : decode cX5_restore 91 = .ok (.putfield 275, 3) := dk_181 1 19 (dk_at dksX5_restore_3 19 rfl rfl)
theorem dX5_restore_94 : decode cX5_restore 94 = .ok (.iconst 1, 1) := dk_4 (dk_at dksX5_restore_3 22 rfl rfl)
theorem dX5_restore_95 : decode cX5_restore 95 = .ok (.ireturn, 1) := dk_172 (dk_at dksX5_restore_3 23 rfl rfl)
abbrev cX5_count : ByteArray := prog_32_method_117_code
def yX5_count : MethodName := ⟨RX5, "count", "(I)I"⟩
def dkwX5_count_1 : List UInt8 := [153, 0, 12, 42, 180, 0, 33, 27, 46, 167, 0, 4, 2, 172]
abbrev dktX5_count_1 : List UInt8 := dkwX5_count_1 ++ []
def dkwX5_count_0 : List UInt8 := [42, 3, 181, 0, 1, 27, 6, 160, 0, 10, 42, 180, 0, 7, 167, 0, 22, 27, 3, 5, 184, 0, 207]
abbrev dktX5_count_0 : List UInt8 := dkwX5_count_0 ++ dktX5_count_1
theorem dksX5_count_0 : cX5_count.data.toList.drop 0 = dktX5_count_0 := by decide +kernel
theorem dksX5_count_1 : cX5_count.data.toList.drop 23 = dktX5_count_1 := dk_seg dksX5_count_0 23 rfl rfl
theorem dX5_count_0 : decode cX5_count 0 = .ok (.aload_n 0, 1) := dk_42 (dk_at dksX5_count_0 0 rfl rfl)
theorem dX5_count_1 : decode cX5_count 1 = .ok (.iconst 0, 1) := dk_3 (dk_at dksX5_count_0 1 rfl rfl)
theorem dX5_count_2 : decode cX5_count 2 = .ok (.putfield 1, 3) := dk_181 0 1 (dk_at dksX5_count_0 2 rfl rfl)
theorem dX5_count_5 : decode cX5_count 5 = .ok (.iload_n 1, 1) := dk_27 (dk_at dksX5_count_0 5 rfl rfl)
theorem dX5_count_6 : decode cX5_count 6 = .ok (.iconst 3, 1) := dk_6 (dk_at dksX5_count_0 6 rfl rfl)
theorem dX5_count_7 : decode cX5_count 7 = .ok (.if_icmp .ne 10, 3) := dk_160 0 10 (dk_at dksX5_count_0 7 rfl rfl)
theorem dX5_count_10 : decode cX5_count 10 = .ok (.aload_n 0, 1) := dk_42 (dk_at dksX5_count_0 10 rfl rfl)
theorem dX5_count_11 : decode cX5_count 11 = .ok (.getfield 7, 3) := dk_180 0 7 (dk_at dksX5_count_0 11 rfl rfl)
theorem dX5_count_14 : decode cX5_count 14 = .ok (.goto 22, 3) := dk_167 0 22 (dk_at dksX5_count_0 14 rfl rfl)
theorem dX5_count_17 : decode cX5_count 17 = .ok (.iload_n 1, 1) := dk_27 (dk_at dksX5_count_0 17 rfl rfl)
theorem dX5_count_18 : decode cX5_count 18 = .ok (.iconst 0, 1) := dk_3 (dk_at dksX5_count_0 18 rfl rfl)
theorem dX5_count_19 : decode cX5_count 19 = .ok (.iconst 2, 1) := dk_5 (dk_at dksX5_count_0 19 rfl rfl)
theorem dX5_count_20 : decode cX5_count 20 = .ok (.invokestatic 207, 3) := dk_184 0 207 (dk_at dksX5_count_0 20 rfl rfl)
theorem dX5_count_23 : decode cX5_count 23 = .ok (.ifCond .eq 12, 3) := dk_153 0 12 (dk_at dksX5_count_1 0 rfl rfl)
theorem dX5_count_26 : decode cX5_count 26 = .ok (.aload_n 0, 1) := dk_42 (dk_at dksX5_count_1 3 rfl rfl)
theorem dX5_count_27 : decode cX5_count 27 = .ok (.getfield 33, 3) := dk_180 0 33 (dk_at dksX5_count_1 4 rfl rfl)
theorem dX5_count_30 : decode cX5_count 30 = .ok (.iload_n 1, 1) := dk_27 (dk_at dksX5_count_1 7 rfl rfl)
theorem dX5_count_31 : decode cX5_count 31 = .ok (.iaload, 1) := dk_46 (dk_at dksX5_count_1 8 rfl rfl)
theorem dX5_count_32 : decode cX5_count 32 = .ok (.goto 4, 3) := dk_167 0 4 (dk_at dksX5_count_1 9 rfl rfl)
theorem dX5_count_35 : decode cX5_count 35 = .ok (.iconst (-1), 1) := dk_2 (dk_at dksX5_count_1 12 rfl rfl)
theorem dX5_count_36 : decode cX5_count 36 = .ok (.ireturn, 1) := dk_172 (dk_at dksX5_count_1 13 rfl rfl)
theorem q122 : (Jvm.Cond.initialized "InchBordersModel") ∈ lw_all := lw_g (lw_at lw_m1 11 rfl) rfl
theorem q1012 : (Jvm.Cond.selects "InchBordersModel" ({ cls := "java/lang/Object", name := "getClass", desc := "()Ljava/lang/Class;" } : Jvm.MethodName) ({ cls := "java/lang/Object", name := "getClass", desc := "()Ljava/lang/Class;" } : Jvm.MethodName)) ∈ lw_all := lw_g (lw_at lw_m4 181 rfl) rfl
theorem q2021 : (Jvm.Cond.instanceMethod ({ cls := "InchBordersModel", name := "thrown", desc := "()I" } : Jvm.MethodName)) ∈ lw_all := lw_g (lw_at lw_m8 230 rfl) rfl
theorem q2022 : (Jvm.Cond.selects "InchBordersModel" ({ cls := "InchBordersModel", name := "thrown", desc := "()I" } : Jvm.MethodName) ({ cls := "InchBordersModel", name := "thrown", desc := "()I" } : Jvm.MethodName)) ∈ lw_all := lw_g (lw_at lw_m8 231 rfl) rfl
theorem q2023 : (Jvm.Cond.code ({ cls := "InchBordersModel", name := "thrown", desc := "()I" } : Jvm.MethodName) prog_32_method_1_code (1 : Nat) (Option.some Jvm.ClassFile.FieldType.int)) ∈ lw_all := lw_g (lw_at lw_m8 232 rfl) rfl
theorem q2025 : (Jvm.Cond.instanceMethod ({ cls := "InchBordersModel", name := "feed", desc := "(IIIII)I" } : Jvm.MethodName)) ∈ lw_all := lw_g (lw_at lw_m8 234 rfl) rfl
theorem q2026 : (Jvm.Cond.selects "InchBordersModel" ({ cls := "InchBordersModel", name := "feed", desc := "(IIIII)I" } : Jvm.MethodName) ({ cls := "InchBordersModel", name := "feed", desc := "(IIIII)I" } : Jvm.MethodName)) ∈ lw_all := lw_g (lw_at lw_m8 235 rfl) rfl
theorem q2027 : (Jvm.Cond.code ({ cls := "InchBordersModel", name := "feed", desc := "(IIIII)I" } : Jvm.MethodName) prog_32_method_3_code (6 : Nat) (Option.some Jvm.ClassFile.FieldType.int)) ∈ lw_all := lw_g (lw_at lw_m8 236 rfl) rfl
theorem q2028 : (Jvm.Cond.methodLink "InchBordersModel" (10 : Nat) ({ cls := "InchBordersModel", name := "four", desc := "(I)V" } : Jvm.MethodName)) ∈ lw_all := lw_g (lw_at lw_m8 237 rfl) rfl
theorem q2029 : (Jvm.Cond.privateMethod ({ cls := "InchBordersModel", name := "four", desc := "(I)V" } : Jvm.MethodName)) ∈ lw_tbl := lw_at lw_m8 238 rfl
theorem q2030 : (Jvm.Cond.instanceMethod ({ cls := "InchBordersModel", name := "four", desc := "(I)V" } : Jvm.MethodName)) ∈ lw_all := lw_g (lw_at lw_m8 239 rfl) rfl
theorem q2031 : (Jvm.Cond.instantiable "InchBordersModel" (60 : Nat)) ∈ lw_all := lw_g (lw_at lw_m9 0 rfl) rfl
theorem q2032 : (Jvm.Cond.code ({ cls := "InchBordersModel", name := "four", desc := "(I)V" } : Jvm.MethodName) prog_32_method_4_code (3 : Nat) (Option.none : Option Jvm.ClassFile.FieldType)) ∈ lw_all := lw_g (lw_at lw_m9 1 rfl) rfl
theorem q2034 : (Jvm.Cond.instanceMethod ({ cls := "InchBordersModel", name := "end", desc := "(I)Z" } : Jvm.MethodName)) ∈ lw_all := lw_g (lw_at lw_m9 3 rfl) rfl
theorem q2035 : (Jvm.Cond.selects "InchBordersModel" ({ cls := "InchBordersModel", name := "end", desc := "(I)Z" } : Jvm.MethodName) ({ cls := "InchBordersModel", name := "end", desc := "(I)Z" } : Jvm.MethodName)) ∈ lw_all := lw_g (lw_at lw_m9 4 rfl) rfl
theorem q2036 : (Jvm.Cond.code ({ cls := "InchBordersModel", name := "end", desc := "(I)Z" } : Jvm.MethodName) prog_32_method_5_code (2 : Nat) (Option.some Jvm.ClassFile.FieldType.boolean)) ∈ lw_all := lw_g (lw_at lw_m9 5 rfl) rfl
theorem q2039 : (Jvm.Cond.instanceMethod ({ cls := "InchBordersModel", name := "<init>", desc := "()V" } : Jvm.MethodName)) ∈ lw_all := lw_g (lw_at lw_m9 8 rfl) rfl
theorem q2040 : (Jvm.Cond.code ({ cls := "InchBordersModel", name := "<init>", desc := "()V" } : Jvm.MethodName) prog_32_method_13_code (2 : Nat) (Option.none : Option Jvm.ClassFile.FieldType)) ∈ lw_all := lw_g (lw_at lw_m9 9 rfl) rfl
theorem q2041 : (Jvm.Cond.methodLink "InchBordersModel" (27 : Nat) ({ cls := "java/lang/Object", name := "<init>", desc := "()V" } : Jvm.MethodName)) ∈ lw_all := lw_g (lw_at lw_m9 10 rfl) rfl
theorem q2042 : (Jvm.Cond.constantLong "InchBordersModel" (114 : Nat) (1818324580 : Int64)) ∈ lw_all := lw_g (lw_at lw_m9 11 rfl) rfl
theorem q2043 : (Jvm.Cond.constantLong "InchBordersModel" (116 : Nat) (495874699877 : Int64)) ∈ lw_all := lw_g (lw_at lw_m9 12 rfl) rfl
theorem q2044 : (Jvm.Cond.constantLong "InchBordersModel" (118 : Nat) (1919902052 : Int64)) ∈ lw_all := lw_g (lw_at lw_m9 13 rfl) rfl
theorem q2045 : (Jvm.Cond.constantLong "InchBordersModel" (120 : Nat) (128034675979385 : Int64)) ∈ lw_all := lw_g (lw_at lw_m9 14 rfl) rfl
theorem q2046 : (Jvm.Cond.constantLong "InchBordersModel" (122 : Nat) (123581014175598 : Int64)) ∈ lw_all := lw_g (lw_at lw_m9 15 rfl) rfl
theorem q2047 : (Jvm.Cond.constantLong "InchBordersModel" (124 : Nat) (27991845698233715 : Int64)) ∈ lw_all := lw_g (lw_at lw_m9 16 rfl) rfl
theorem q2048 : (Jvm.Cond.constantLong "InchBordersModel" (126 : Nat) (1885430644 : Int64)) ∈ lw_all := lw_g (lw_at lw_m9 17 rfl) rfl
theorem q2049 : (Jvm.Cond.constantLong "InchBordersModel" (128 : Nat) (422826041707 : Int64)) ∈ lw_all := lw_g (lw_at lw_m9 18 rfl) rfl
theorem q2050 : (Jvm.Cond.constantLong "InchBordersModel" (130 : Nat) (427021005669 : Int64)) ∈ lw_all := lw_g (lw_at lw_m9 19 rfl) rfl
theorem q2051 : (Jvm.Cond.constantLong "InchBordersModel" (132 : Nat) (1869636974 : Int64)) ∈ lw_all := lw_g (lw_at lw_m9 20 rfl) rfl
theorem q2052 : (Jvm.Cond.constantLong "InchBordersModel" (134 : Nat) (1818586724 : Int64)) ∈ lw_all := lw_g (lw_at lw_m9 21 rfl) rfl
theorem q2053 : (Jvm.Cond.constantLong "InchBordersModel" (136 : Nat) (6578553 : Int64)) ∈ lw_all := lw_g (lw_at lw_m9 22 rfl) rfl
theorem q2054 : (Jvm.Cond.constantLong "InchBordersModel" (138 : Nat) (28530 : Int64)) ∈ lw_all := lw_g (lw_at lw_m9 23 rfl) rfl
theorem q2055 : (Jvm.Cond.constantLong "InchBordersModel" (140 : Nat) (6385252 : Int64)) ∈ lw_all := lw_g (lw_at lw_m9 24 rfl) rfl
theorem q2056 : (Jvm.Cond.constantLong "InchBordersModel" (142 : Nat) (7237492 : Int64)) ∈ lw_all := lw_g (lw_at lw_m9 25 rfl) rfl
theorem q2057 : (Jvm.Cond.constantLong "InchBordersModel" (144 : Nat) (1752132965 : Int64)) ∈ lw_all := lw_g (lw_at lw_m9 26 rfl) rfl
theorem q2058 : (Jvm.Cond.constantLong "InchBordersModel" (146 : Nat) (495875089259 : Int64)) ∈ lw_all := lw_g (lw_at lw_m9 27 rfl) rfl
theorem q2059 : (Jvm.Cond.constantLong "InchBordersModel" (148 : Nat) (26990 : Int64)) ∈ lw_all := lw_g (lw_at lw_m9 28 rfl) rfl
theorem q2060 : (Jvm.Cond.constantLong "InchBordersModel" (150 : Nat) (28518 : Int64)) ∈ lw_all := lw_g (lw_at lw_m9 29 rfl) rfl
theorem q2061 : (Jvm.Cond.constantLong "InchBordersModel" (152 : Nat) (1718773093 : Int64)) ∈ lw_all := lw_g (lw_at lw_m9 30 rfl) rfl
theorem q2062 : (Jvm.Cond.constantLong "InchBordersModel" (154 : Nat) (119182899770472 : Int64)) ∈ lw_all := lw_g (lw_at lw_m9 31 rfl) rfl
theorem q2063 : (Jvm.Cond.constantLong "InchBordersModel" (156 : Nat) (499850634606 : Int64)) ∈ lw_all := lw_g (lw_at lw_m9 32 rfl) rfl
theorem q2064 : (Jvm.Cond.constantLong "InchBordersModel" (158 : Nat) (27991845698233700 : Int64)) ∈ lw_all := lw_g (lw_at lw_m9 33 rfl) rfl
theorem q2065 : (Jvm.Cond.constantLong "InchBordersModel" (160 : Nat) (121450625394034 : Int64)) ∈ lw_all := lw_g (lw_at lw_m9 34 rfl) rfl
theorem q2066 : (Jvm.Cond.methodLink "InchBordersModel" (162 : Nat) ({ cls := "InchBordersModel", name := "clears", desc := "()V" } : Jvm.MethodName)) ∈ lw_all := lw_g (lw_at lw_m9 35 rfl) rfl
theorem q2067 : (Jvm.Cond.privateMethod ({ cls := "InchBordersModel", name := "clears", desc := "()V" } : Jvm.MethodName)) ∈ lw_tbl := lw_at lw_m9 36 rfl
theorem q2068 : (Jvm.Cond.instanceMethod ({ cls := "InchBordersModel", name := "clears", desc := "()V" } : Jvm.MethodName)) ∈ lw_all := lw_g (lw_at lw_m9 37 rfl) rfl
theorem q2069 : (Jvm.Cond.code ({ cls := "InchBordersModel", name := "clears", desc := "()V" } : Jvm.MethodName) prog_32_method_14_code (2 : Nat) (Option.none : Option Jvm.ClassFile.FieldType)) ∈ lw_all := lw_g (lw_at lw_m9 38 rfl) rfl
theorem q2070 : (Jvm.Cond.fieldLink "InchBordersModel" (1 : Nat) "InchBordersModel" "thrown" "I") ∈ lw_all := lw_g (lw_at lw_m9 39 rfl) rfl
theorem q2071 : (Jvm.Cond.fieldLink "InchBordersModel" (14 : Nat) "InchBordersModel" "tape" "[B") ∈ lw_all := lw_g (lw_at lw_m9 40 rfl) rfl
theorem q2072 : (Jvm.Cond.fieldLink "InchBordersModel" (7 : Nat) "InchBordersModel" "length" "I") ∈ lw_all := lw_g (lw_at lw_m9 41 rfl) rfl
theorem q2073 : (Jvm.Cond.fieldLink "InchBordersModel" (18 : Nat) "InchBordersModel" "size" "I") ∈ lw_all := lw_g (lw_at lw_m9 42 rfl) rfl
theorem q2074 : (Jvm.Cond.fieldLink "InchBordersModel" (21 : Nat) "InchBordersModel" "p" "I") ∈ lw_all := lw_g (lw_at lw_m9 43 rfl) rfl
theorem q2075 : (Jvm.Cond.fieldLink "InchBordersModel" (24 : Nat) "InchBordersModel" "limit" "I") ∈ lw_all := lw_g (lw_at lw_m9 44 rfl) rfl
theorem q2076 : (Jvm.Cond.fieldLink "InchBordersModel" (33 : Nat) "InchBordersModel" "s" "[I") ∈ lw_all := lw_g (lw_at lw_m9 45 rfl) rfl
theorem q2077 : (Jvm.Cond.fieldLink "InchBordersModel" (37 : Nat) "InchBordersModel" "h" "[I") ∈ lw_all := lw_g (lw_at lw_m9 46 rfl) rfl
theorem q2078 : (Jvm.Cond.fieldLink "InchBordersModel" (40 : Nat) "InchBordersModel" "read" "[I") ∈ lw_all := lw_g (lw_at lw_m9 47 rfl) rfl
theorem q2079 : (Jvm.Cond.fieldLink "InchBordersModel" (43 : Nat) "InchBordersModel" "names" "[J") ∈ lw_all := lw_g (lw_at lw_m9 48 rfl) rfl
theorem q2080 : (Jvm.Cond.fieldLink "InchBordersModel" (47 : Nat) "InchBordersModel" "reserved" "[J") ∈ lw_all := lw_g (lw_at lw_m9 49 rfl) rfl
theorem q2081 : (Jvm.Cond.fieldLink "InchBordersModel" (175 : Nat) "InchBordersModel" "token" "I") ∈ lw_all := lw_g (lw_at lw_m9 50 rfl) rfl
theorem q2082 : (Jvm.Cond.fieldLink "InchBordersModel" (169 : Nat) "InchBordersModel" "at" "I") ∈ lw_all := lw_g (lw_at lw_m9 51 rfl) rfl
theorem q2083 : (Jvm.Cond.fieldLink "InchBordersModel" (172 : Nat) "InchBordersModel" "span" "I") ∈ lw_all := lw_g (lw_at lw_m9 52 rfl) rfl
theorem q2084 : (Jvm.Cond.fieldLink "InchBordersModel" (185 : Nat) "InchBordersModel" "number" "I") ∈ lw_all := lw_g (lw_at lw_m9 53 rfl) rfl
theorem q2085 : (Jvm.Cond.fieldLink "InchBordersModel" (192 : Nat) "InchBordersModel" "fault" "I") ∈ lw_all := lw_g (lw_at lw_m9 54 rfl) rfl
theorem q2086 : (Jvm.Cond.fieldLink "InchBordersModel" (195 : Nat) "InchBordersModel" "faultAt" "I") ∈ lw_all := lw_g (lw_at lw_m9 55 rfl) rfl
theorem q2087 : (Jvm.Cond.fieldLink "InchBordersModel" (188 : Nat) "InchBordersModel" "word" "J") ∈ lw_all := lw_g (lw_at lw_m9 56 rfl) rfl
theorem q2088 : (Jvm.Cond.fieldLink "InchBordersModel" (211 : Nat) "InchBordersModel" "got" "I") ∈ lw_all := lw_g (lw_at lw_m9 57 rfl) rfl
theorem q2089 : (Jvm.Cond.fieldLink "InchBordersModel" (266 : Nat) "InchBordersModel" "lines" "I") ∈ lw_all := lw_g (lw_at lw_m9 58 rfl) rfl
theorem q2090 : (Jvm.Cond.fieldLink "InchBordersModel" (254 : Nat) "InchBordersModel" "stored" "I") ∈ lw_all := lw_g (lw_at lw_m9 59 rfl) rfl
theorem q2091 : (Jvm.Cond.fieldLink "InchBordersModel" (50 : Nat) "InchBordersModel" "undone" "[I") ∈ lw_all := lw_g (lw_at lw_m9 60 rfl) rfl
theorem q2092 : (Jvm.Cond.fieldLink "InchBordersModel" (53 : Nat) "InchBordersModel" "before" "[I") ∈ lw_all := lw_g (lw_at lw_m9 61 rfl) rfl
theorem q2093 : (Jvm.Cond.fieldLink "InchBordersModel" (275 : Nat) "InchBordersModel" "undoMany" "I") ∈ lw_all := lw_g (lw_at lw_m9 62 rfl) rfl
theorem q2094 : (Jvm.Cond.fieldLink "InchBordersModel" (56 : Nat) "InchBordersModel" "where" "[I") ∈ lw_all := lw_g (lw_at lw_m9 63 rfl) rfl
theorem q2095 : (Jvm.Cond.fieldLink "InchBordersModel" (59 : Nat) "InchBordersModel" "much" "[I") ∈ lw_all := lw_g (lw_at lw_m9 64 rfl) rfl
theorem q2096 : (Jvm.Cond.fieldLink "InchBordersModel" (62 : Nat) "InchBordersModel" "store" "[I") ∈ lw_all := lw_g (lw_at lw_m9 65 rfl) rfl
theorem q2097 : (Jvm.Cond.fieldLink "InchBordersModel" (65 : Nat) "InchBordersModel" "step" "[I") ∈ lw_all := lw_g (lw_at lw_m9 66 rfl) rfl
theorem q2098 : (Jvm.Cond.fieldLink "InchBordersModel" (360 : Nat) "InchBordersModel" "depth" "I") ∈ lw_all := lw_g (lw_at lw_m9 67 rfl) rfl
theorem q2099 : (Jvm.Cond.fieldLink "InchBordersModel" (357 : Nat) "InchBordersModel" "sparing" "I") ∈ lw_all := lw_g (lw_at lw_m9 68 rfl) rfl
theorem q2100 : (Jvm.Cond.fieldLink "InchBordersModel" (354 : Nat) "InchBordersModel" "home" "I") ∈ lw_all := lw_g (lw_at lw_m9 69 rfl) rfl
theorem q2101 : (Jvm.Cond.fieldLink "InchBordersModel" (68 : Nat) "InchBordersModel" "wayRow" "[I") ∈ lw_all := lw_g (lw_at lw_m9 70 rfl) rfl
theorem q2102 : (Jvm.Cond.fieldLink "InchBordersModel" (71 : Nat) "InchBordersModel" "madeRow" "[I") ∈ lw_all := lw_g (lw_at lw_m9 71 rfl) rfl
theorem q2103 : (Jvm.Cond.fieldLink "InchBordersModel" (74 : Nat) "InchBordersModel" "ends" "[I") ∈ lw_all := lw_g (lw_at lw_m9 72 rfl) rfl
theorem q2104 : (Jvm.Cond.fieldLink "InchBordersModel" (77 : Nat) "InchBordersModel" "wayMany" "I") ∈ lw_all := lw_g (lw_at lw_m9 73 rfl) rfl
theorem q2105 : (Jvm.Cond.fieldLink "InchBordersModel" (80 : Nat) "InchBordersModel" "madeMany" "I") ∈ lw_all := lw_g (lw_at lw_m9 74 rfl) rfl
theorem q2106 : (Jvm.Cond.fieldLink "InchBordersModel" (389 : Nat) "InchBordersModel" "likelyLand" "I") ∈ lw_all := lw_g (lw_at lw_m9 75 rfl) rfl
theorem q2107 : (Jvm.Cond.fieldLink "InchBordersModel" (383 : Nat) "InchBordersModel" "sparedSet" "I") ∈ lw_all := lw_g (lw_at lw_m9 76 rfl) rfl
theorem q2108 : (Jvm.Cond.fieldLink "InchBordersModel" (379 : Nat) "InchBordersModel" "hasSpared" "Z") ∈ lw_all := lw_g (lw_at lw_m9 77 rfl) rfl
theorem q2109 : (Jvm.Cond.fieldLink "InchBordersModel" (83 : Nat) "InchBordersModel" "order" "[I") ∈ lw_all := lw_g (lw_at lw_m9 78 rfl) rfl
theorem q2110 : (Jvm.Cond.fieldLink "InchBordersModel" (86 : Nat) "InchBordersModel" "caravanRow" "[I") ∈ lw_all := lw_g (lw_at lw_m9 79 rfl) rfl
theorem q2111 : (Jvm.Cond.fieldLink "InchBordersModel" (89 : Nat) "InchBordersModel" "caravanMany" "I") ∈ lw_all := lw_g (lw_at lw_m9 80 rfl) rfl
theorem q2112 : (Jvm.Cond.fieldLink "InchBordersModel" (407 : Nat) "InchBordersModel" "partSet" "I") ∈ lw_all := lw_g (lw_at lw_m9 81 rfl) rfl
theorem q2113 : (Jvm.Cond.fieldLink "InchBordersModel" (404 : Nat) "InchBordersModel" "hasPart" "Z") ∈ lw_all := lw_g (lw_at lw_m9 82 rfl) rfl
theorem q2114 : (Jvm.Cond.fieldLink "InchBordersModel" (92 : Nat) "InchBordersModel" "text" "[B") ∈ lw_all := lw_g (lw_at lw_m9 83 rfl) rfl
theorem q2115 : (Jvm.Cond.fieldLink "InchBordersModel" (413 : Nat) "InchBordersModel" "textMany" "I") ∈ lw_all := lw_g (lw_at lw_m9 84 rfl) rfl
theorem q2116 : (Jvm.Cond.fieldLink "InchBordersModel" (428 : Nat) "InchBordersModel" "seed" "I") ∈ lw_all := lw_g (lw_at lw_m9 85 rfl) rfl
theorem q2117 : (Jvm.Cond.fieldLink "InchBordersModel" (438 : Nat) "InchBordersModel" "toldMany" "I") ∈ lw_all := lw_g (lw_at lw_m9 86 rfl) rfl
theorem q2118 : (Jvm.Cond.fieldLink "InchBordersModel" (95 : Nat) "InchBordersModel" "toldAt" "[I") ∈ lw_all := lw_g (lw_at lw_m9 87 rfl) rfl
theorem q2119 : (Jvm.Cond.fieldLink "InchBordersModel" (447 : Nat) "InchBordersModel" "hasTold" "Z") ∈ lw_all := lw_g (lw_at lw_m9 88 rfl) rfl
theorem q2120 : (Jvm.Cond.fieldLink "InchBordersModel" (98 : Nat) "InchBordersModel" "stack" "[I") ∈ lw_all := lw_g (lw_at lw_m9 89 rfl) rfl
theorem q2121 : (Jvm.Cond.fieldLink "InchBordersModel" (450 : Nat) "InchBordersModel" "codes" "I") ∈ lw_all := lw_g (lw_at lw_m9 90 rfl) rfl
theorem q2122 : (Jvm.Cond.fieldLink "InchBordersModel" (465 : Nat) "InchBordersModel" "ones" "I") ∈ lw_all := lw_g (lw_at lw_m9 91 rfl) rfl
theorem q2123 : (Jvm.Cond.fieldLink "InchBordersModel" (453 : Nat) "InchBordersModel" "top" "I") ∈ lw_all := lw_g (lw_at lw_m9 92 rfl) rfl
theorem q2124 : (Jvm.Cond.fieldLink "InchBordersModel" (459 : Nat) "InchBordersModel" "deep" "I") ∈ lw_all := lw_g (lw_at lw_m9 93 rfl) rfl
theorem q2125 : (Jvm.Cond.fieldLink "InchBordersModel" (468 : Nat) "InchBordersModel" "isWhole" "Z") ∈ lw_all := lw_g (lw_at lw_m9 94 rfl) rfl
theorem q2126 : (Jvm.Cond.fieldLink "InchBordersModel" (101 : Nat) "InchBordersModel" "truths" "[Z") ∈ lw_all := lw_g (lw_at lw_m9 95 rfl) rfl
theorem q2127 : (Jvm.Cond.fieldLink "InchBordersModel" (105 : Nat) "InchBordersModel" "imaged" "[I") ∈ lw_all := lw_g (lw_at lw_m9 96 rfl) rfl
theorem q2128 : (Jvm.Cond.fieldLink "InchBordersModel" (108 : Nat) "InchBordersModel" "namesKept" "[J") ∈ lw_all := lw_g (lw_at lw_m9 97 rfl) rfl
theorem q2129 : (Jvm.Cond.fieldLink "InchBordersModel" (111 : Nat) "InchBordersModel" "areKept" "[Z") ∈ lw_all := lw_g (lw_at lw_m9 98 rfl) rfl
theorem q2130 : (Jvm.Cond.lays "InchBordersModel" "InchBordersModel" "thrown" "I") ∈ lw_all := lw_g (lw_at lw_m9 99 rfl) rfl
theorem q2131 : (Jvm.Cond.soleField "InchBordersModel" "thrown") ∈ lw_all := lw_g (lw_at lw_m9 100 rfl) rfl
theorem q2132 : (Jvm.Cond.laysFinal "InchBordersModel" "InchBordersModel" "tape" "[B") ∈ lw_all := lw_g (lw_at lw_m9 101 rfl) rfl
theorem q2133 : (Jvm.Cond.soleField "InchBordersModel" "tape") ∈ lw_all := lw_g (lw_at lw_m9 102 rfl) rfl
theorem q2134 : (Jvm.Cond.lays "InchBordersModel" "InchBordersModel" "length" "I") ∈ lw_all := lw_g (lw_at lw_m9 103 rfl) rfl
theorem q2135 : (Jvm.Cond.soleField "InchBordersModel" "length") ∈ lw_all := lw_g (lw_at lw_m9 104 rfl) rfl
theorem q2136 : (Jvm.Cond.lays "InchBordersModel" "InchBordersModel" "size" "I") ∈ lw_all := lw_g (lw_at lw_m9 105 rfl) rfl
theorem q2137 : (Jvm.Cond.soleField "InchBordersModel" "size") ∈ lw_all := lw_g (lw_at lw_m9 106 rfl) rfl
theorem q2138 : (Jvm.Cond.lays "InchBordersModel" "InchBordersModel" "p" "I") ∈ lw_all := lw_g (lw_at lw_m9 107 rfl) rfl
theorem q2139 : (Jvm.Cond.soleField "InchBordersModel" "p") ∈ lw_all := lw_g (lw_at lw_m9 108 rfl) rfl
theorem q2140 : (Jvm.Cond.lays "InchBordersModel" "InchBordersModel" "limit" "I") ∈ lw_all := lw_g (lw_at lw_m9 109 rfl) rfl
theorem q2141 : (Jvm.Cond.soleField "InchBordersModel" "limit") ∈ lw_all := lw_g (lw_at lw_m9 110 rfl) rfl
theorem q2142 : (Jvm.Cond.laysFinal "InchBordersModel" "InchBordersModel" "s" "[I") ∈ lw_all := lw_g (lw_at lw_m9 111 rfl) rfl
theorem q2143 : (Jvm.Cond.soleField "InchBordersModel" "s") ∈ lw_all := lw_g (lw_at lw_m9 112 rfl) rfl
theorem q2144 : (Jvm.Cond.laysFinal "InchBordersModel" "InchBordersModel" "h" "[I") ∈ lw_all := lw_g (lw_at lw_m9 113 rfl) rfl
theorem q2145 : (Jvm.Cond.soleField "InchBordersModel" "h") ∈ lw_all := lw_g (lw_at lw_m9 114 rfl) rfl
theorem q2146 : (Jvm.Cond.laysFinal "InchBordersModel" "InchBordersModel" "read" "[I") ∈ lw_all := lw_g (lw_at lw_m9 115 rfl) rfl
theorem q2147 : (Jvm.Cond.soleField "InchBordersModel" "read") ∈ lw_all := lw_g (lw_at lw_m9 116 rfl) rfl
theorem q2148 : (Jvm.Cond.laysFinal "InchBordersModel" "InchBordersModel" "names" "[J") ∈ lw_all := lw_g (lw_at lw_m9 117 rfl) rfl
theorem q2149 : (Jvm.Cond.soleField "InchBordersModel" "names") ∈ lw_all := lw_g (lw_at lw_m9 118 rfl) rfl
theorem q2150 : (Jvm.Cond.laysFinal "InchBordersModel" "InchBordersModel" "reserved" "[J") ∈ lw_all := lw_g (lw_at lw_m9 119 rfl) rfl
theorem q2151 : (Jvm.Cond.soleField "InchBordersModel" "reserved") ∈ lw_all := lw_g (lw_at lw_m9 120 rfl) rfl
theorem q2152 : (Jvm.Cond.lays "InchBordersModel" "InchBordersModel" "token" "I") ∈ lw_all := lw_g (lw_at lw_m9 121 rfl) rfl
theorem q2153 : (Jvm.Cond.soleField "InchBordersModel" "token") ∈ lw_all := lw_g (lw_at lw_m9 122 rfl) rfl
theorem q2154 : (Jvm.Cond.lays "InchBordersModel" "InchBordersModel" "at" "I") ∈ lw_all := lw_g (lw_at lw_m9 123 rfl) rfl
theorem q2155 : (Jvm.Cond.soleField "InchBordersModel" "at") ∈ lw_all := lw_g (lw_at lw_m9 124 rfl) rfl
theorem q2156 : (Jvm.Cond.lays "InchBordersModel" "InchBordersModel" "span" "I") ∈ lw_all := lw_g (lw_at lw_m9 125 rfl) rfl
theorem q2157 : (Jvm.Cond.soleField "InchBordersModel" "span") ∈ lw_all := lw_g (lw_at lw_m9 126 rfl) rfl
theorem q2158 : (Jvm.Cond.lays "InchBordersModel" "InchBordersModel" "number" "I") ∈ lw_all := lw_g (lw_at lw_m9 127 rfl) rfl
theorem q2159 : (Jvm.Cond.soleField "InchBordersModel" "number") ∈ lw_all := lw_g (lw_at lw_m9 128 rfl) rfl
theorem q2160 : (Jvm.Cond.lays "InchBordersModel" "InchBordersModel" "fault" "I") ∈ lw_all := lw_g (lw_at lw_m9 129 rfl) rfl
theorem q2161 : (Jvm.Cond.soleField "InchBordersModel" "fault") ∈ lw_all := lw_g (lw_at lw_m9 130 rfl) rfl
theorem q2162 : (Jvm.Cond.lays "InchBordersModel" "InchBordersModel" "faultAt" "I") ∈ lw_all := lw_g (lw_at lw_m9 131 rfl) rfl
theorem q2163 : (Jvm.Cond.soleField "InchBordersModel" "faultAt") ∈ lw_all := lw_g (lw_at lw_m9 132 rfl) rfl
theorem q2164 : (Jvm.Cond.lays "InchBordersModel" "InchBordersModel" "word" "J") ∈ lw_all := lw_g (lw_at lw_m9 133 rfl) rfl
theorem q2165 : (Jvm.Cond.soleField "InchBordersModel" "word") ∈ lw_all := lw_g (lw_at lw_m9 134 rfl) rfl
theorem q2166 : (Jvm.Cond.lays "InchBordersModel" "InchBordersModel" "got" "I") ∈ lw_all := lw_g (lw_at lw_m9 135 rfl) rfl
theorem q2167 : (Jvm.Cond.soleField "InchBordersModel" "got") ∈ lw_all := lw_g (lw_at lw_m9 136 rfl) rfl
theorem q2168 : (Jvm.Cond.lays "InchBordersModel" "InchBordersModel" "lines" "I") ∈ lw_all := lw_g (lw_at lw_m9 137 rfl) rfl
theorem q2169 : (Jvm.Cond.soleField "InchBordersModel" "lines") ∈ lw_all := lw_g (lw_at lw_m9 138 rfl) rfl
theorem q2170 : (Jvm.Cond.lays "InchBordersModel" "InchBordersModel" "stored" "I") ∈ lw_all := lw_g (lw_at lw_m9 139 rfl) rfl
theorem q2171 : (Jvm.Cond.soleField "InchBordersModel" "stored") ∈ lw_all := lw_g (lw_at lw_m9 140 rfl) rfl
theorem q2172 : (Jvm.Cond.laysFinal "InchBordersModel" "InchBordersModel" "undone" "[I") ∈ lw_all := lw_g (lw_at lw_m9 141 rfl) rfl
theorem q2173 : (Jvm.Cond.soleField "InchBordersModel" "undone") ∈ lw_all := lw_g (lw_at lw_m9 142 rfl) rfl
theorem q2174 : (Jvm.Cond.laysFinal "InchBordersModel" "InchBordersModel" "before" "[I") ∈ lw_all := lw_g (lw_at lw_m9 143 rfl) rfl
theorem q2175 : (Jvm.Cond.soleField "InchBordersModel" "before") ∈ lw_all := lw_g (lw_at lw_m9 144 rfl) rfl
theorem q2176 : (Jvm.Cond.lays "InchBordersModel" "InchBordersModel" "undoMany" "I") ∈ lw_all := lw_g (lw_at lw_m9 145 rfl) rfl
theorem q2177 : (Jvm.Cond.soleField "InchBordersModel" "undoMany") ∈ lw_all := lw_g (lw_at lw_m9 146 rfl) rfl
theorem q2178 : (Jvm.Cond.laysFinal "InchBordersModel" "InchBordersModel" "where" "[I") ∈ lw_all := lw_g (lw_at lw_m9 147 rfl) rfl
theorem q2179 : (Jvm.Cond.soleField "InchBordersModel" "where") ∈ lw_all := lw_g (lw_at lw_m9 148 rfl) rfl
theorem q2180 : (Jvm.Cond.laysFinal "InchBordersModel" "InchBordersModel" "much" "[I") ∈ lw_all := lw_g (lw_at lw_m9 149 rfl) rfl
theorem q2181 : (Jvm.Cond.soleField "InchBordersModel" "much") ∈ lw_all := lw_g (lw_at lw_m9 150 rfl) rfl
theorem q2182 : (Jvm.Cond.laysFinal "InchBordersModel" "InchBordersModel" "store" "[I") ∈ lw_all := lw_g (lw_at lw_m9 151 rfl) rfl
theorem q2183 : (Jvm.Cond.soleField "InchBordersModel" "store") ∈ lw_all := lw_g (lw_at lw_m9 152 rfl) rfl
theorem q2184 : (Jvm.Cond.laysFinal "InchBordersModel" "InchBordersModel" "step" "[I") ∈ lw_all := lw_g (lw_at lw_m9 153 rfl) rfl
theorem q2185 : (Jvm.Cond.soleField "InchBordersModel" "step") ∈ lw_all := lw_g (lw_at lw_m9 154 rfl) rfl
theorem q2186 : (Jvm.Cond.lays "InchBordersModel" "InchBordersModel" "depth" "I") ∈ lw_all := lw_g (lw_at lw_m9 155 rfl) rfl
theorem q2187 : (Jvm.Cond.soleField "InchBordersModel" "depth") ∈ lw_all := lw_g (lw_at lw_m9 156 rfl) rfl
theorem q2188 : (Jvm.Cond.lays "InchBordersModel" "InchBordersModel" "sparing" "I") ∈ lw_all := lw_g (lw_at lw_m9 157 rfl) rfl
theorem q2189 : (Jvm.Cond.soleField "InchBordersModel" "sparing") ∈ lw_all := lw_g (lw_at lw_m9 158 rfl) rfl
theorem q2190 : (Jvm.Cond.lays "InchBordersModel" "InchBordersModel" "home" "I") ∈ lw_all := lw_g (lw_at lw_m9 159 rfl) rfl
theorem q2191 : (Jvm.Cond.soleField "InchBordersModel" "home") ∈ lw_all := lw_g (lw_at lw_m9 160 rfl) rfl
theorem q2192 : (Jvm.Cond.laysFinal "InchBordersModel" "InchBordersModel" "wayRow" "[I") ∈ lw_all := lw_g (lw_at lw_m9 161 rfl) rfl
theorem q2193 : (Jvm.Cond.soleField "InchBordersModel" "wayRow") ∈ lw_all := lw_g (lw_at lw_m9 162 rfl) rfl
theorem q2194 : (Jvm.Cond.laysFinal "InchBordersModel" "InchBordersModel" "madeRow" "[I") ∈ lw_all := lw_g (lw_at lw_m9 163 rfl) rfl
theorem q2195 : (Jvm.Cond.soleField "InchBordersModel" "madeRow") ∈ lw_all := lw_g (lw_at lw_m9 164 rfl) rfl
theorem q2196 : (Jvm.Cond.laysFinal "InchBordersModel" "InchBordersModel" "ends" "[I") ∈ lw_all := lw_g (lw_at lw_m9 165 rfl) rfl
theorem q2197 : (Jvm.Cond.soleField "InchBordersModel" "ends") ∈ lw_all := lw_g (lw_at lw_m9 166 rfl) rfl
theorem q2198 : (Jvm.Cond.lays "InchBordersModel" "InchBordersModel" "wayMany" "I") ∈ lw_all := lw_g (lw_at lw_m9 167 rfl) rfl
theorem q2199 : (Jvm.Cond.soleField "InchBordersModel" "wayMany") ∈ lw_all := lw_g (lw_at lw_m9 168 rfl) rfl
theorem q2200 : (Jvm.Cond.lays "InchBordersModel" "InchBordersModel" "madeMany" "I") ∈ lw_all := lw_g (lw_at lw_m9 169 rfl) rfl
theorem q2201 : (Jvm.Cond.soleField "InchBordersModel" "madeMany") ∈ lw_all := lw_g (lw_at lw_m9 170 rfl) rfl
theorem q2202 : (Jvm.Cond.lays "InchBordersModel" "InchBordersModel" "likelyLand" "I") ∈ lw_all := lw_g (lw_at lw_m9 171 rfl) rfl
theorem q2203 : (Jvm.Cond.soleField "InchBordersModel" "likelyLand") ∈ lw_all := lw_g (lw_at lw_m9 172 rfl) rfl
theorem q2204 : (Jvm.Cond.lays "InchBordersModel" "InchBordersModel" "sparedSet" "I") ∈ lw_all := lw_g (lw_at lw_m9 173 rfl) rfl
theorem q2205 : (Jvm.Cond.soleField "InchBordersModel" "sparedSet") ∈ lw_all := lw_g (lw_at lw_m9 174 rfl) rfl
theorem q2206 : (Jvm.Cond.lays "InchBordersModel" "InchBordersModel" "hasSpared" "Z") ∈ lw_all := lw_g (lw_at lw_m9 175 rfl) rfl
theorem q2207 : (Jvm.Cond.soleField "InchBordersModel" "hasSpared") ∈ lw_all := lw_g (lw_at lw_m9 176 rfl) rfl
theorem q2208 : (Jvm.Cond.laysFinal "InchBordersModel" "InchBordersModel" "order" "[I") ∈ lw_all := lw_g (lw_at lw_m9 177 rfl) rfl
theorem q2209 : (Jvm.Cond.soleField "InchBordersModel" "order") ∈ lw_all := lw_g (lw_at lw_m9 178 rfl) rfl
theorem q2210 : (Jvm.Cond.laysFinal "InchBordersModel" "InchBordersModel" "caravanRow" "[I") ∈ lw_all := lw_g (lw_at lw_m9 179 rfl) rfl
theorem q2211 : (Jvm.Cond.soleField "InchBordersModel" "caravanRow") ∈ lw_all := lw_g (lw_at lw_m9 180 rfl) rfl
theorem q2212 : (Jvm.Cond.lays "InchBordersModel" "InchBordersModel" "caravanMany" "I") ∈ lw_all := lw_g (lw_at lw_m9 181 rfl) rfl
theorem q2213 : (Jvm.Cond.soleField "InchBordersModel" "caravanMany") ∈ lw_all := lw_g (lw_at lw_m9 182 rfl) rfl
theorem q2214 : (Jvm.Cond.lays "InchBordersModel" "InchBordersModel" "partSet" "I") ∈ lw_all := lw_g (lw_at lw_m9 183 rfl) rfl
theorem q2215 : (Jvm.Cond.soleField "InchBordersModel" "partSet") ∈ lw_all := lw_g (lw_at lw_m9 184 rfl) rfl
theorem q2216 : (Jvm.Cond.lays "InchBordersModel" "InchBordersModel" "hasPart" "Z") ∈ lw_all := lw_g (lw_at lw_m9 185 rfl) rfl
theorem q2217 : (Jvm.Cond.soleField "InchBordersModel" "hasPart") ∈ lw_all := lw_g (lw_at lw_m9 186 rfl) rfl
theorem q2218 : (Jvm.Cond.laysFinal "InchBordersModel" "InchBordersModel" "text" "[B") ∈ lw_all := lw_g (lw_at lw_m9 187 rfl) rfl
theorem q2219 : (Jvm.Cond.soleField "InchBordersModel" "text") ∈ lw_all := lw_g (lw_at lw_m9 188 rfl) rfl
theorem q2220 : (Jvm.Cond.lays "InchBordersModel" "InchBordersModel" "textMany" "I") ∈ lw_all := lw_g (lw_at lw_m9 189 rfl) rfl
theorem q2221 : (Jvm.Cond.soleField "InchBordersModel" "textMany") ∈ lw_all := lw_g (lw_at lw_m9 190 rfl) rfl
theorem q2222 : (Jvm.Cond.lays "InchBordersModel" "InchBordersModel" "seed" "I") ∈ lw_all := lw_g (lw_at lw_m9 191 rfl) rfl
theorem q2223 : (Jvm.Cond.soleField "InchBordersModel" "seed") ∈ lw_all := lw_g (lw_at lw_m9 192 rfl) rfl
theorem q2224 : (Jvm.Cond.lays "InchBordersModel" "InchBordersModel" "toldMany" "I") ∈ lw_all := lw_g (lw_at lw_m9 193 rfl) rfl
theorem q2225 : (Jvm.Cond.soleField "InchBordersModel" "toldMany") ∈ lw_all := lw_g (lw_at lw_m9 194 rfl) rfl
theorem q2226 : (Jvm.Cond.laysFinal "InchBordersModel" "InchBordersModel" "toldAt" "[I") ∈ lw_all := lw_g (lw_at lw_m9 195 rfl) rfl
theorem q2227 : (Jvm.Cond.soleField "InchBordersModel" "toldAt") ∈ lw_all := lw_g (lw_at lw_m9 196 rfl) rfl
theorem q2228 : (Jvm.Cond.lays "InchBordersModel" "InchBordersModel" "hasTold" "Z") ∈ lw_all := lw_g (lw_at lw_m9 197 rfl) rfl
theorem q2229 : (Jvm.Cond.soleField "InchBordersModel" "hasTold") ∈ lw_all := lw_g (lw_at lw_m9 198 rfl) rfl
theorem q2230 : (Jvm.Cond.laysFinal "InchBordersModel" "InchBordersModel" "stack" "[I") ∈ lw_all := lw_g (lw_at lw_m9 199 rfl) rfl
theorem q2231 : (Jvm.Cond.soleField "InchBordersModel" "stack") ∈ lw_all := lw_g (lw_at lw_m9 200 rfl) rfl
theorem q2232 : (Jvm.Cond.lays "InchBordersModel" "InchBordersModel" "codes" "I") ∈ lw_all := lw_g (lw_at lw_m9 201 rfl) rfl
theorem q2233 : (Jvm.Cond.soleField "InchBordersModel" "codes") ∈ lw_all := lw_g (lw_at lw_m9 202 rfl) rfl
theorem q2234 : (Jvm.Cond.lays "InchBordersModel" "InchBordersModel" "ones" "I") ∈ lw_all := lw_g (lw_at lw_m9 203 rfl) rfl
theorem q2235 : (Jvm.Cond.soleField "InchBordersModel" "ones") ∈ lw_all := lw_g (lw_at lw_m9 204 rfl) rfl
theorem q2236 : (Jvm.Cond.lays "InchBordersModel" "InchBordersModel" "top" "I") ∈ lw_all := lw_g (lw_at lw_m9 205 rfl) rfl
theorem q2237 : (Jvm.Cond.soleField "InchBordersModel" "top") ∈ lw_all := lw_g (lw_at lw_m9 206 rfl) rfl
theorem q2238 : (Jvm.Cond.lays "InchBordersModel" "InchBordersModel" "deep" "I") ∈ lw_all := lw_g (lw_at lw_m9 207 rfl) rfl
theorem q2239 : (Jvm.Cond.soleField "InchBordersModel" "deep") ∈ lw_all := lw_g (lw_at lw_m9 208 rfl) rfl
theorem q2240 : (Jvm.Cond.lays "InchBordersModel" "InchBordersModel" "isWhole" "Z") ∈ lw_all := lw_g (lw_at lw_m9 209 rfl) rfl
theorem q2241 : (Jvm.Cond.soleField "InchBordersModel" "isWhole") ∈ lw_all := lw_g (lw_at lw_m9 210 rfl) rfl
theorem q2242 : (Jvm.Cond.laysFinal "InchBordersModel" "InchBordersModel" "truths" "[Z") ∈ lw_all := lw_g (lw_at lw_m9 211 rfl) rfl
theorem q2243 : (Jvm.Cond.soleField "InchBordersModel" "truths") ∈ lw_all := lw_g (lw_at lw_m9 212 rfl) rfl
theorem q2244 : (Jvm.Cond.laysFinal "InchBordersModel" "InchBordersModel" "imaged" "[I") ∈ lw_all := lw_g (lw_at lw_m9 213 rfl) rfl
theorem q2245 : (Jvm.Cond.soleField "InchBordersModel" "imaged") ∈ lw_all := lw_g (lw_at lw_m9 214 rfl) rfl
theorem q2246 : (Jvm.Cond.laysFinal "InchBordersModel" "InchBordersModel" "namesKept" "[J") ∈ lw_all := lw_g (lw_at lw_m9 215 rfl) rfl
theorem q2247 : (Jvm.Cond.soleField "InchBordersModel" "namesKept") ∈ lw_all := lw_g (lw_at lw_m9 216 rfl) rfl
theorem q2248 : (Jvm.Cond.laysFinal "InchBordersModel" "InchBordersModel" "areKept" "[Z") ∈ lw_all := lw_g (lw_at lw_m9 217 rfl) rfl
theorem q2249 : (Jvm.Cond.soleField "InchBordersModel" "areKept") ∈ lw_all := lw_g (lw_at lw_m9 218 rfl) rfl
theorem q2250 : (Jvm.Cond.superclass "InchBordersModel" "java/lang/Object") ∈ lw_all := lw_g (lw_at lw_m9 219 rfl) rfl
theorem q2254 : (Jvm.Cond.instanceMethod ({ cls := "InchBordersModel", name := "map", desc := "()I" } : Jvm.MethodName)) ∈ lw_all := lw_g (lw_at lw_m9 223 rfl) rfl
theorem q2255 : (Jvm.Cond.selects "InchBordersModel" ({ cls := "InchBordersModel", name := "map", desc := "()I" } : Jvm.MethodName) ({ cls := "InchBordersModel", name := "map", desc := "()I" } : Jvm.MethodName)) ∈ lw_all := lw_g (lw_at lw_m9 224 rfl) rfl
theorem q2256 : (Jvm.Cond.code ({ cls := "InchBordersModel", name := "map", desc := "()I" } : Jvm.MethodName) prog_32_method_36_code (2 : Nat) (Option.some Jvm.ClassFile.FieldType.int)) ∈ lw_all := lw_g (lw_at lw_m9 225 rfl) rfl
theorem q2257 : (Jvm.Cond.methodLink "InchBordersModel" (263 : Nat) ({ cls := "InchBordersModel", name := "taken", desc := "(I)V" } : Jvm.MethodName)) ∈ lw_all := lw_g (lw_at lw_m9 226 rfl) rfl
theorem q2258 : (Jvm.Cond.privateMethod ({ cls := "InchBordersModel", name := "taken", desc := "(I)V" } : Jvm.MethodName)) ∈ lw_tbl := lw_at lw_m9 227 rfl
theorem q2259 : (Jvm.Cond.instanceMethod ({ cls := "InchBordersModel", name := "taken", desc := "(I)V" } : Jvm.MethodName)) ∈ lw_all := lw_g (lw_at lw_m9 228 rfl) rfl
theorem q2260 : (Jvm.Cond.code ({ cls := "InchBordersModel", name := "taken", desc := "(I)V" } : Jvm.MethodName) prog_32_method_6_code (2 : Nat) (Option.none : Option Jvm.ClassFile.FieldType)) ∈ lw_all := lw_g (lw_at lw_m9 229 rfl) rfl
theorem q2261 : (Jvm.Cond.methodLink "InchBordersModel" (204 : Nat) ({ cls := "InchBordersModel", name := "next", desc := "()V" } : Jvm.MethodName)) ∈ lw_all := lw_g (lw_at lw_m9 230 rfl) rfl
theorem q2262 : (Jvm.Cond.privateMethod ({ cls := "InchBordersModel", name := "next", desc := "()V" } : Jvm.MethodName)) ∈ lw_tbl := lw_at lw_m9 231 rfl
theorem q2263 : (Jvm.Cond.instanceMethod ({ cls := "InchBordersModel", name := "next", desc := "()V" } : Jvm.MethodName)) ∈ lw_all := lw_g (lw_at lw_m9 232 rfl) rfl
theorem q2264 : (Jvm.Cond.code ({ cls := "InchBordersModel", name := "next", desc := "()V" } : Jvm.MethodName) prog_32_method_18_code (4 : Nat) (Option.none : Option Jvm.ClassFile.FieldType)) ∈ lw_all := lw_g (lw_at lw_m9 233 rfl) rfl
theorem q2265 : (Jvm.Cond.methodLink "InchBordersModel" (165 : Nat) ({ cls := "InchBordersModel", name := "peek", desc := "()I" } : Jvm.MethodName)) ∈ lw_all := lw_g (lw_at lw_m9 234 rfl) rfl
theorem q2266 : (Jvm.Cond.privateMethod ({ cls := "InchBordersModel", name := "peek", desc := "()I" } : Jvm.MethodName)) ∈ lw_tbl := lw_at lw_m9 235 rfl
theorem q2267 : (Jvm.Cond.instanceMethod ({ cls := "InchBordersModel", name := "peek", desc := "()I" } : Jvm.MethodName)) ∈ lw_all := lw_g (lw_at lw_m9 236 rfl) rfl
theorem q2268 : (Jvm.Cond.code ({ cls := "InchBordersModel", name := "peek", desc := "()I" } : Jvm.MethodName) prog_32_method_15_code (1 : Nat) (Option.some Jvm.ClassFile.FieldType.int)) ∈ lw_all := lw_g (lw_at lw_m9 237 rfl) rfl
theorem q2269 : (Jvm.Cond.methodLink "InchBordersModel" (178 : Nat) ({ cls := "InchBordersModel", name := "isSmall", desc := "(I)Z" } : Jvm.MethodName)) ∈ lw_all := lw_g (lw_at lw_m9 238 rfl) rfl
theorem q2270 : (Jvm.Cond.static ({ cls := "InchBordersModel", name := "isSmall", desc := "(I)Z" } : Jvm.MethodName)) ∈ lw_all := lw_g (lw_at lw_m9 239 rfl) rfl
theorem q2271 : (Jvm.Cond.code ({ cls := "InchBordersModel", name := "isSmall", desc := "(I)Z" } : Jvm.MethodName) prog_32_method_16_code (1 : Nat) (Option.some Jvm.ClassFile.FieldType.boolean)) ∈ lw_all := lw_g (lw_at lw_m10 0 rfl) rfl
theorem q2272 : (Jvm.Cond.methodLink "InchBordersModel" (182 : Nat) ({ cls := "InchBordersModel", name := "isDigit", desc := "(I)Z" } : Jvm.MethodName)) ∈ lw_all := lw_g (lw_at lw_m10 1 rfl) rfl
theorem q2273 : (Jvm.Cond.static ({ cls := "InchBordersModel", name := "isDigit", desc := "(I)Z" } : Jvm.MethodName)) ∈ lw_all := lw_g (lw_at lw_m10 2 rfl) rfl
theorem q2274 : (Jvm.Cond.code ({ cls := "InchBordersModel", name := "isDigit", desc := "(I)Z" } : Jvm.MethodName) prog_32_method_17_code (1 : Nat) (Option.some Jvm.ClassFile.FieldType.boolean)) ∈ lw_all := lw_g (lw_at lw_m10 3 rfl) rfl
theorem q2275 : (Jvm.Cond.methodLink "InchBordersModel" (269 : Nat) ({ cls := "InchBordersModel", name := "line", desc := "()Z" } : Jvm.MethodName)) ∈ lw_all := lw_g (lw_at lw_m10 4 rfl) rfl
theorem q2276 : (Jvm.Cond.privateMethod ({ cls := "InchBordersModel", name := "line", desc := "()Z" } : Jvm.MethodName)) ∈ lw_tbl := lw_at lw_m10 5 rfl
theorem q2277 : (Jvm.Cond.instanceMethod ({ cls := "InchBordersModel", name := "line", desc := "()Z" } : Jvm.MethodName)) ∈ lw_all := lw_g (lw_at lw_m10 6 rfl) rfl
theorem q2278 : (Jvm.Cond.code ({ cls := "InchBordersModel", name := "line", desc := "()Z" } : Jvm.MethodName) prog_32_method_30_code (1 : Nat) (Option.some Jvm.ClassFile.FieldType.boolean)) ∈ lw_all := lw_g (lw_at lw_m10 7 rfl) rfl
theorem q2279 : (Jvm.Cond.methodLink "InchBordersModel" (229 : Nat) ({ cls := "InchBordersModel", name := "isWord", desc := "(J)Z" } : Jvm.MethodName)) ∈ lw_all := lw_g (lw_at lw_m10 8 rfl) rfl
theorem q2280 : (Jvm.Cond.privateMethod ({ cls := "InchBordersModel", name := "isWord", desc := "(J)Z" } : Jvm.MethodName)) ∈ lw_tbl := lw_at lw_m10 9 rfl
theorem q2281 : (Jvm.Cond.instanceMethod ({ cls := "InchBordersModel", name := "isWord", desc := "(J)Z" } : Jvm.MethodName)) ∈ lw_all := lw_g (lw_at lw_m10 10 rfl) rfl
theorem q2282 : (Jvm.Cond.code ({ cls := "InchBordersModel", name := "isWord", desc := "(J)Z" } : Jvm.MethodName) prog_32_method_20_code (3 : Nat) (Option.some Jvm.ClassFile.FieldType.boolean)) ∈ lw_all := lw_g (lw_at lw_m10 11 rfl) rfl
theorem q2283 : (Jvm.Cond.methodLink "InchBordersModel" (233 : Nat) ({ cls := "InchBordersModel", name := "readLand", desc := "()Z" } : Jvm.MethodName)) ∈ lw_all := lw_g (lw_at lw_m10 12 rfl) rfl
theorem q2284 : (Jvm.Cond.privateMethod ({ cls := "InchBordersModel", name := "readLand", desc := "()Z" } : Jvm.MethodName)) ∈ lw_tbl := lw_at lw_m10 13 rfl
theorem q2285 : (Jvm.Cond.instanceMethod ({ cls := "InchBordersModel", name := "readLand", desc := "()Z" } : Jvm.MethodName)) ∈ lw_all := lw_g (lw_at lw_m10 14 rfl) rfl
theorem q2286 : (Jvm.Cond.code ({ cls := "InchBordersModel", name := "readLand", desc := "()Z" } : Jvm.MethodName) prog_32_method_31_code (2 : Nat) (Option.some Jvm.ClassFile.FieldType.boolean)) ∈ lw_all := lw_g (lw_at lw_m10 15 rfl) rfl
theorem q2287 : (Jvm.Cond.methodLink "InchBordersModel" (201 : Nat) ({ cls := "InchBordersModel", name := "bad", desc := "(I)Z" } : Jvm.MethodName)) ∈ lw_all := lw_g (lw_at lw_m10 16 rfl) rfl
theorem q2288 : (Jvm.Cond.privateMethod ({ cls := "InchBordersModel", name := "bad", desc := "(I)Z" } : Jvm.MethodName)) ∈ lw_tbl := lw_at lw_m10 17 rfl
theorem q2289 : (Jvm.Cond.instanceMethod ({ cls := "InchBordersModel", name := "bad", desc := "(I)Z" } : Jvm.MethodName)) ∈ lw_all := lw_g (lw_at lw_m10 18 rfl) rfl
theorem q2290 : (Jvm.Cond.code ({ cls := "InchBordersModel", name := "bad", desc := "(I)Z" } : Jvm.MethodName) prog_32_method_19_code (2 : Nat) (Option.some Jvm.ClassFile.FieldType.boolean)) ∈ lw_all := lw_g (lw_at lw_m10 19 rfl) rfl
theorem q2291 : (Jvm.Cond.methodLink "InchBordersModel" (248 : Nat) ({ cls := "InchBordersModel", name := "fresh", desc := "(I)Z" } : Jvm.MethodName)) ∈ lw_all := lw_g (lw_at lw_m10 20 rfl) rfl
theorem q2292 : (Jvm.Cond.privateMethod ({ cls := "InchBordersModel", name := "fresh", desc := "(I)Z" } : Jvm.MethodName)) ∈ lw_tbl := lw_at lw_m10 21 rfl
theorem q2293 : (Jvm.Cond.instanceMethod ({ cls := "InchBordersModel", name := "fresh", desc := "(I)Z" } : Jvm.MethodName)) ∈ lw_all := lw_g (lw_at lw_m10 22 rfl) rfl
theorem q2294 : (Jvm.Cond.code ({ cls := "InchBordersModel", name := "fresh", desc := "(I)Z" } : Jvm.MethodName) prog_32_method_27_code (2 : Nat) (Option.some Jvm.ClassFile.FieldType.boolean)) ∈ lw_all := lw_g (lw_at lw_m10 23 rfl) rfl
theorem q2295 : (Jvm.Cond.methodLink "InchBordersModel" (218 : Nat) ({ cls := "InchBordersModel", name := "isName", desc := "()Z" } : Jvm.MethodName)) ∈ lw_all := lw_g (lw_at lw_m10 24 rfl) rfl
theorem q2296 : (Jvm.Cond.privateMethod ({ cls := "InchBordersModel", name := "isName", desc := "()Z" } : Jvm.MethodName)) ∈ lw_tbl := lw_at lw_m10 25 rfl
theorem q2297 : (Jvm.Cond.instanceMethod ({ cls := "InchBordersModel", name := "isName", desc := "()Z" } : Jvm.MethodName)) ∈ lw_all := lw_g (lw_at lw_m10 26 rfl) rfl
theorem q2298 : (Jvm.Cond.code ({ cls := "InchBordersModel", name := "isName", desc := "()Z" } : Jvm.MethodName) prog_32_method_23_code (3 : Nat) (Option.some Jvm.ClassFile.FieldType.boolean)) ∈ lw_all := lw_g (lw_at lw_m10 27 rfl) rfl
theorem q2299 : (Jvm.Cond.methodLink "InchBordersModel" (222 : Nat) ({ cls := "InchBordersModel", name := "find", desc := "(II)I" } : Jvm.MethodName)) ∈ lw_all := lw_g (lw_at lw_m10 28 rfl) rfl
theorem q2300 : (Jvm.Cond.privateMethod ({ cls := "InchBordersModel", name := "find", desc := "(II)I" } : Jvm.MethodName)) ∈ lw_tbl := lw_at lw_m10 29 rfl
theorem q2301 : (Jvm.Cond.instanceMethod ({ cls := "InchBordersModel", name := "find", desc := "(II)I" } : Jvm.MethodName)) ∈ lw_all := lw_g (lw_at lw_m10 30 rfl) rfl
theorem q2302 : (Jvm.Cond.code ({ cls := "InchBordersModel", name := "find", desc := "(II)I" } : Jvm.MethodName) prog_32_method_26_code (4 : Nat) (Option.some Jvm.ClassFile.FieldType.int)) ∈ lw_all := lw_g (lw_at lw_m10 31 rfl) rfl
theorem q2303 : (Jvm.Cond.methodLink "InchBordersModel" (251 : Nat) ({ cls := "InchBordersModel", name := "puts", desc := "(III)Z" } : Jvm.MethodName)) ∈ lw_all := lw_g (lw_at lw_m10 32 rfl) rfl
theorem q2304 : (Jvm.Cond.privateMethod ({ cls := "InchBordersModel", name := "puts", desc := "(III)Z" } : Jvm.MethodName)) ∈ lw_tbl := lw_at lw_m10 33 rfl
theorem q2305 : (Jvm.Cond.instanceMethod ({ cls := "InchBordersModel", name := "puts", desc := "(III)Z" } : Jvm.MethodName)) ∈ lw_all := lw_g (lw_at lw_m10 34 rfl) rfl
theorem q2306 : (Jvm.Cond.code ({ cls := "InchBordersModel", name := "puts", desc := "(III)Z" } : Jvm.MethodName) prog_32_method_25_code (4 : Nat) (Option.some Jvm.ClassFile.FieldType.boolean)) ∈ lw_all := lw_g (lw_at lw_m10 35 rfl) rfl
theorem q2307 : (Jvm.Cond.methodLink "InchBordersModel" (214 : Nat) ({ cls := "InchBordersModel", name := "takes", desc := "(II)Z" } : Jvm.MethodName)) ∈ lw_all := lw_g (lw_at lw_m10 36 rfl) rfl
theorem q2308 : (Jvm.Cond.privateMethod ({ cls := "InchBordersModel", name := "takes", desc := "(II)Z" } : Jvm.MethodName)) ∈ lw_tbl := lw_at lw_m10 37 rfl
theorem q2309 : (Jvm.Cond.instanceMethod ({ cls := "InchBordersModel", name := "takes", desc := "(II)Z" } : Jvm.MethodName)) ∈ lw_all := lw_g (lw_at lw_m10 38 rfl) rfl
theorem q2310 : (Jvm.Cond.code ({ cls := "InchBordersModel", name := "takes", desc := "(II)Z" } : Jvm.MethodName) prog_32_method_24_code (3 : Nat) (Option.some Jvm.ClassFile.FieldType.boolean)) ∈ lw_all := lw_g (lw_at lw_m10 39 rfl) rfl
theorem q2311 : (Jvm.Cond.methodLink "InchBordersModel" (207 : Nat) ({ cls := "InchBordersModel", name := "isIn", desc := "(III)Z" } : Jvm.MethodName)) ∈ lw_all := lw_g (lw_at lw_m10 40 rfl) rfl
theorem q2312 : (Jvm.Cond.static ({ cls := "InchBordersModel", name := "isIn", desc := "(III)Z" } : Jvm.MethodName)) ∈ lw_all := lw_g (lw_at lw_m10 41 rfl) rfl
theorem q2313 : (Jvm.Cond.code ({ cls := "InchBordersModel", name := "isIn", desc := "(III)Z" } : Jvm.MethodName) prog_32_method_7_code (3 : Nat) (Option.some Jvm.ClassFile.FieldType.boolean)) ∈ lw_all := lw_g (lw_at lw_m10 42 rfl) rfl
theorem q2314 : (Jvm.Cond.methodLink "InchBordersModel" (236 : Nat) ({ cls := "InchBordersModel", name := "readStore", desc := "()Z" } : Jvm.MethodName)) ∈ lw_all := lw_g (lw_at lw_m10 43 rfl) rfl
theorem q2315 : (Jvm.Cond.privateMethod ({ cls := "InchBordersModel", name := "readStore", desc := "()Z" } : Jvm.MethodName)) ∈ lw_tbl := lw_at lw_m10 44 rfl
theorem q2316 : (Jvm.Cond.instanceMethod ({ cls := "InchBordersModel", name := "readStore", desc := "()Z" } : Jvm.MethodName)) ∈ lw_all := lw_g (lw_at lw_m10 45 rfl) rfl
theorem q2317 : (Jvm.Cond.code ({ cls := "InchBordersModel", name := "readStore", desc := "()Z" } : Jvm.MethodName) prog_32_method_32_code (2 : Nat) (Option.some Jvm.ClassFile.FieldType.boolean)) ∈ lw_all := lw_g (lw_at lw_m10 46 rfl) rfl
theorem q2318 : (Jvm.Cond.methodLink "InchBordersModel" (226 : Nat) ({ cls := "InchBordersModel", name := "looksAt", desc := "(II)Z" } : Jvm.MethodName)) ∈ lw_all := lw_g (lw_at lw_m10 47 rfl) rfl
theorem q2319 : (Jvm.Cond.privateMethod ({ cls := "InchBordersModel", name := "looksAt", desc := "(II)Z" } : Jvm.MethodName)) ∈ lw_tbl := lw_at lw_m10 48 rfl
theorem q2320 : (Jvm.Cond.instanceMethod ({ cls := "InchBordersModel", name := "looksAt", desc := "(II)Z" } : Jvm.MethodName)) ∈ lw_all := lw_g (lw_at lw_m10 49 rfl) rfl
theorem q2321 : (Jvm.Cond.code ({ cls := "InchBordersModel", name := "looksAt", desc := "(II)Z" } : Jvm.MethodName) prog_32_method_28_code (3 : Nat) (Option.some Jvm.ClassFile.FieldType.boolean)) ∈ lw_all := lw_g (lw_at lw_m10 50 rfl) rfl
theorem q2322 : (Jvm.Cond.methodLink "InchBordersModel" (257 : Nat) ({ cls := "InchBordersModel", name := "bitOf", desc := "(II)Z" } : Jvm.MethodName)) ∈ lw_all := lw_g (lw_at lw_m10 51 rfl) rfl
theorem q2323 : (Jvm.Cond.static ({ cls := "InchBordersModel", name := "bitOf", desc := "(II)Z" } : Jvm.MethodName)) ∈ lw_all := lw_g (lw_at lw_m10 52 rfl) rfl
theorem q2324 : (Jvm.Cond.code ({ cls := "InchBordersModel", name := "bitOf", desc := "(II)Z" } : Jvm.MethodName) prog_32_method_8_code (2 : Nat) (Option.some Jvm.ClassFile.FieldType.boolean)) ∈ lw_all := lw_g (lw_at lw_m10 53 rfl) rfl
theorem q2325 : (Jvm.Cond.methodLink "InchBordersModel" (239 : Nat) ({ cls := "InchBordersModel", name := "readRoad", desc := "()Z" } : Jvm.MethodName)) ∈ lw_all := lw_g (lw_at lw_m10 54 rfl) rfl
theorem q2326 : (Jvm.Cond.privateMethod ({ cls := "InchBordersModel", name := "readRoad", desc := "()Z" } : Jvm.MethodName)) ∈ lw_tbl := lw_at lw_m10 55 rfl
theorem q2327 : (Jvm.Cond.instanceMethod ({ cls := "InchBordersModel", name := "readRoad", desc := "()Z" } : Jvm.MethodName)) ∈ lw_all := lw_g (lw_at lw_m10 56 rfl) rfl
theorem q2328 : (Jvm.Cond.code ({ cls := "InchBordersModel", name := "readRoad", desc := "()Z" } : Jvm.MethodName) prog_32_method_33_code (4 : Nat) (Option.some Jvm.ClassFile.FieldType.boolean)) ∈ lw_all := lw_g (lw_at lw_m10 57 rfl) rfl
theorem q2329 : (Jvm.Cond.methodLink "InchBordersModel" (260 : Nat) ({ cls := "InchBordersModel", name := "takesName", desc := "(II)Z" } : Jvm.MethodName)) ∈ lw_all := lw_g (lw_at lw_m10 58 rfl) rfl
theorem q2330 : (Jvm.Cond.privateMethod ({ cls := "InchBordersModel", name := "takesName", desc := "(II)Z" } : Jvm.MethodName)) ∈ lw_tbl := lw_at lw_m10 59 rfl
theorem q2331 : (Jvm.Cond.instanceMethod ({ cls := "InchBordersModel", name := "takesName", desc := "(II)Z" } : Jvm.MethodName)) ∈ lw_all := lw_g (lw_at lw_m10 60 rfl) rfl
theorem q2332 : (Jvm.Cond.code ({ cls := "InchBordersModel", name := "takesName", desc := "(II)Z" } : Jvm.MethodName) prog_32_method_29_code (3 : Nat) (Option.some Jvm.ClassFile.FieldType.boolean)) ∈ lw_all := lw_g (lw_at lw_m10 61 rfl) rfl
theorem q2333 : (Jvm.Cond.methodLink "InchBordersModel" (242 : Nat) ({ cls := "InchBordersModel", name := "readTreaty", desc := "()Z" } : Jvm.MethodName)) ∈ lw_all := lw_g (lw_at lw_m10 62 rfl) rfl
theorem q2334 : (Jvm.Cond.privateMethod ({ cls := "InchBordersModel", name := "readTreaty", desc := "()Z" } : Jvm.MethodName)) ∈ lw_tbl := lw_at lw_m10 63 rfl
theorem q2335 : (Jvm.Cond.instanceMethod ({ cls := "InchBordersModel", name := "readTreaty", desc := "()Z" } : Jvm.MethodName)) ∈ lw_all := lw_g (lw_at lw_m10 64 rfl) rfl
theorem q2336 : (Jvm.Cond.code ({ cls := "InchBordersModel", name := "readTreaty", desc := "()Z" } : Jvm.MethodName) prog_32_method_34_code (2 : Nat) (Option.some Jvm.ClassFile.FieldType.boolean)) ∈ lw_all := lw_g (lw_at lw_m10 65 rfl) rfl
theorem q2337 : (Jvm.Cond.methodLink "InchBordersModel" (245 : Nat) ({ cls := "InchBordersModel", name := "readPerson", desc := "()Z" } : Jvm.MethodName)) ∈ lw_all := lw_g (lw_at lw_m10 66 rfl) rfl
theorem q2338 : (Jvm.Cond.privateMethod ({ cls := "InchBordersModel", name := "readPerson", desc := "()Z" } : Jvm.MethodName)) ∈ lw_tbl := lw_at lw_m10 67 rfl
theorem q2339 : (Jvm.Cond.instanceMethod ({ cls := "InchBordersModel", name := "readPerson", desc := "()Z" } : Jvm.MethodName)) ∈ lw_all := lw_g (lw_at lw_m10 68 rfl) rfl
theorem q2340 : (Jvm.Cond.code ({ cls := "InchBordersModel", name := "readPerson", desc := "()Z" } : Jvm.MethodName) prog_32_method_35_code (2 : Nat) (Option.some Jvm.ClassFile.FieldType.boolean)) ∈ lw_all := lw_g (lw_at lw_m10 69 rfl) rfl
theorem q2341 : (Jvm.Cond.methodLink "InchBordersModel" (272 : Nat) ({ cls := "InchBordersModel", name := "sign", desc := "(I)Z" } : Jvm.MethodName)) ∈ lw_all := lw_g (lw_at lw_m10 70 rfl) rfl
theorem q2342 : (Jvm.Cond.privateMethod ({ cls := "InchBordersModel", name := "sign", desc := "(I)Z" } : Jvm.MethodName)) ∈ lw_tbl := lw_at lw_m10 71 rfl
theorem q2343 : (Jvm.Cond.instanceMethod ({ cls := "InchBordersModel", name := "sign", desc := "(I)Z" } : Jvm.MethodName)) ∈ lw_all := lw_g (lw_at lw_m10 72 rfl) rfl
theorem q2344 : (Jvm.Cond.code ({ cls := "InchBordersModel", name := "sign", desc := "(I)Z" } : Jvm.MethodName) prog_32_method_22_code (2 : Nat) (Option.some Jvm.ClassFile.FieldType.boolean)) ∈ lw_all := lw_g (lw_at lw_m10 73 rfl) rfl
theorem q2345 : (Jvm.Cond.methodLink "InchBordersModel" (198 : Nat) ({ cls := "InchBordersModel", name := "isSign", desc := "(I)Z" } : Jvm.MethodName)) ∈ lw_all := lw_g (lw_at lw_m10 74 rfl) rfl
theorem q2346 : (Jvm.Cond.privateMethod ({ cls := "InchBordersModel", name := "isSign", desc := "(I)Z" } : Jvm.MethodName)) ∈ lw_tbl := lw_at lw_m10 75 rfl
theorem q2347 : (Jvm.Cond.instanceMethod ({ cls := "InchBordersModel", name := "isSign", desc := "(I)Z" } : Jvm.MethodName)) ∈ lw_all := lw_g (lw_at lw_m10 76 rfl) rfl
theorem q2348 : (Jvm.Cond.code ({ cls := "InchBordersModel", name := "isSign", desc := "(I)Z" } : Jvm.MethodName) prog_32_method_21_code (2 : Nat) (Option.some Jvm.ClassFile.FieldType.boolean)) ∈ lw_all := lw_g (lw_at lw_m10 77 rfl) rfl
theorem q2350 : (Jvm.Cond.instanceMethod ({ cls := "InchBordersModel", name := "fault", desc := "()I" } : Jvm.MethodName)) ∈ lw_all := lw_g (lw_at lw_m10 79 rfl) rfl
theorem q2351 : (Jvm.Cond.selects "InchBordersModel" ({ cls := "InchBordersModel", name := "fault", desc := "()I" } : Jvm.MethodName) ({ cls := "InchBordersModel", name := "fault", desc := "()I" } : Jvm.MethodName)) ∈ lw_all := lw_g (lw_at lw_m10 80 rfl) rfl
theorem q2352 : (Jvm.Cond.code ({ cls := "InchBordersModel", name := "fault", desc := "()I" } : Jvm.MethodName) prog_32_method_37_code (1 : Nat) (Option.some Jvm.ClassFile.FieldType.int)) ∈ lw_all := lw_g (lw_at lw_m10 81 rfl) rfl
theorem q2354 : (Jvm.Cond.instanceMethod ({ cls := "InchBordersModel", name := "person", desc := "(II)I" } : Jvm.MethodName)) ∈ lw_all := lw_g (lw_at lw_m10 83 rfl) rfl
theorem q2355 : (Jvm.Cond.selects "InchBordersModel" ({ cls := "InchBordersModel", name := "person", desc := "(II)I" } : Jvm.MethodName) ({ cls := "InchBordersModel", name := "person", desc := "(II)I" } : Jvm.MethodName)) ∈ lw_all := lw_g (lw_at lw_m10 84 rfl) rfl
theorem q2356 : (Jvm.Cond.code ({ cls := "InchBordersModel", name := "person", desc := "(II)I" } : Jvm.MethodName) prog_32_method_49_code (3 : Nat) (Option.some Jvm.ClassFile.FieldType.int)) ∈ lw_all := lw_g (lw_at lw_m10 85 rfl) rfl
theorem q2357 : (Jvm.Cond.methodLink "InchBordersModel" (302 : Nat) ({ cls := "InchBordersModel", name := "isPerson", desc := "(I)Z" } : Jvm.MethodName)) ∈ lw_all := lw_g (lw_at lw_m10 86 rfl) rfl
theorem q2358 : (Jvm.Cond.privateMethod ({ cls := "InchBordersModel", name := "isPerson", desc := "(I)Z" } : Jvm.MethodName)) ∈ lw_tbl := lw_at lw_m10 87 rfl
theorem q2359 : (Jvm.Cond.instanceMethod ({ cls := "InchBordersModel", name := "isPerson", desc := "(I)Z" } : Jvm.MethodName)) ∈ lw_all := lw_g (lw_at lw_m10 88 rfl) rfl
theorem q2360 : (Jvm.Cond.code ({ cls := "InchBordersModel", name := "isPerson", desc := "(I)Z" } : Jvm.MethodName) prog_32_method_39_code (2 : Nat) (Option.some Jvm.ClassFile.FieldType.boolean)) ∈ lw_all := lw_g (lw_at lw_m10 89 rfl) rfl
theorem q2361 : (Jvm.Cond.methodLink "InchBordersModel" (305 : Nat) ({ cls := "InchBordersModel", name := "throwsIf", desc := "(Z)Z" } : Jvm.MethodName)) ∈ lw_all := lw_g (lw_at lw_m10 90 rfl) rfl
theorem q2362 : (Jvm.Cond.privateMethod ({ cls := "InchBordersModel", name := "throwsIf", desc := "(Z)Z" } : Jvm.MethodName)) ∈ lw_tbl := lw_at lw_m10 91 rfl
theorem q2363 : (Jvm.Cond.instanceMethod ({ cls := "InchBordersModel", name := "throwsIf", desc := "(Z)Z" } : Jvm.MethodName)) ∈ lw_all := lw_g (lw_at lw_m10 92 rfl) rfl
theorem q2364 : (Jvm.Cond.code ({ cls := "InchBordersModel", name := "throwsIf", desc := "(Z)Z" } : Jvm.MethodName) prog_32_method_2_code (2 : Nat) (Option.some Jvm.ClassFile.FieldType.boolean)) ∈ lw_all := lw_g (lw_at lw_m10 93 rfl) rfl
theorem q2365 : (Jvm.Cond.methodLink "InchBordersModel" (309 : Nat) ({ cls := "InchBordersModel", name := "couldOf", desc := "(I)I" } : Jvm.MethodName)) ∈ lw_all := lw_g (lw_at lw_m10 94 rfl) rfl
theorem q2366 : (Jvm.Cond.privateMethod ({ cls := "InchBordersModel", name := "couldOf", desc := "(I)I" } : Jvm.MethodName)) ∈ lw_tbl := lw_at lw_m10 95 rfl
theorem q2367 : (Jvm.Cond.instanceMethod ({ cls := "InchBordersModel", name := "couldOf", desc := "(I)I" } : Jvm.MethodName)) ∈ lw_all := lw_g (lw_at lw_m10 96 rfl) rfl
theorem q2368 : (Jvm.Cond.code ({ cls := "InchBordersModel", name := "couldOf", desc := "(I)I" } : Jvm.MethodName) prog_32_method_45_code (4 : Nat) (Option.some Jvm.ClassFile.FieldType.int)) ∈ lw_all := lw_g (lw_at lw_m10 97 rfl) rfl
theorem q2369 : (Jvm.Cond.methodLink "InchBordersModel" (292 : Nat) ({ cls := "InchBordersModel", name := "whyCross", desc := "(II)I" } : Jvm.MethodName)) ∈ lw_all := lw_g (lw_at lw_m10 98 rfl) rfl
theorem q2370 : (Jvm.Cond.privateMethod ({ cls := "InchBordersModel", name := "whyCross", desc := "(II)I" } : Jvm.MethodName)) ∈ lw_tbl := lw_at lw_m10 99 rfl
theorem q2371 : (Jvm.Cond.instanceMethod ({ cls := "InchBordersModel", name := "whyCross", desc := "(II)I" } : Jvm.MethodName)) ∈ lw_all := lw_g (lw_at lw_m10 100 rfl) rfl
theorem q2372 : (Jvm.Cond.code ({ cls := "InchBordersModel", name := "whyCross", desc := "(II)I" } : Jvm.MethodName) prog_32_method_44_code (3 : Nat) (Option.some Jvm.ClassFile.FieldType.int)) ∈ lw_all := lw_g (lw_at lw_m10 101 rfl) rfl
theorem q2373 : (Jvm.Cond.methodLink "InchBordersModel" (284 : Nat) ({ cls := "InchBordersModel", name := "sparedIn", desc := "(I)I" } : Jvm.MethodName)) ∈ lw_all := lw_g (lw_at lw_m10 102 rfl) rfl
theorem q2374 : (Jvm.Cond.privateMethod ({ cls := "InchBordersModel", name := "sparedIn", desc := "(I)I" } : Jvm.MethodName)) ∈ lw_tbl := lw_at lw_m10 103 rfl
theorem q2375 : (Jvm.Cond.instanceMethod ({ cls := "InchBordersModel", name := "sparedIn", desc := "(I)I" } : Jvm.MethodName)) ∈ lw_all := lw_g (lw_at lw_m10 104 rfl) rfl
theorem q2376 : (Jvm.Cond.code ({ cls := "InchBordersModel", name := "sparedIn", desc := "(I)I" } : Jvm.MethodName) prog_32_method_42_code (2 : Nat) (Option.some Jvm.ClassFile.FieldType.int)) ∈ lw_all := lw_g (lw_at lw_m10 105 rfl) rfl
theorem q2377 : (Jvm.Cond.methodLink "InchBordersModel" (288 : Nat) ({ cls := "InchBordersModel", name := "whyBy", desc := "(IIII)I" } : Jvm.MethodName)) ∈ lw_all := lw_g (lw_at lw_m10 106 rfl) rfl
theorem q2378 : (Jvm.Cond.privateMethod ({ cls := "InchBordersModel", name := "whyBy", desc := "(IIII)I" } : Jvm.MethodName)) ∈ lw_tbl := lw_at lw_m10 107 rfl
theorem q2379 : (Jvm.Cond.instanceMethod ({ cls := "InchBordersModel", name := "whyBy", desc := "(IIII)I" } : Jvm.MethodName)) ∈ lw_all := lw_g (lw_at lw_m10 108 rfl) rfl
theorem q2380 : (Jvm.Cond.code ({ cls := "InchBordersModel", name := "whyBy", desc := "(IIII)I" } : Jvm.MethodName) prog_32_method_43_code (6 : Nat) (Option.some Jvm.ClassFile.FieldType.int)) ∈ lw_all := lw_g (lw_at lw_m10 109 rfl) rfl
theorem q2381 : (Jvm.Cond.methodLink "InchBordersModel" (278 : Nat) ({ cls := "InchBordersModel", name := "roadOf", desc := "(II)I" } : Jvm.MethodName)) ∈ lw_all := lw_g (lw_at lw_m10 110 rfl) rfl
theorem q2382 : (Jvm.Cond.privateMethod ({ cls := "InchBordersModel", name := "roadOf", desc := "(II)I" } : Jvm.MethodName)) ∈ lw_tbl := lw_at lw_m10 111 rfl
theorem q2383 : (Jvm.Cond.instanceMethod ({ cls := "InchBordersModel", name := "roadOf", desc := "(II)I" } : Jvm.MethodName)) ∈ lw_all := lw_g (lw_at lw_m10 112 rfl) rfl
theorem q2384 : (Jvm.Cond.code ({ cls := "InchBordersModel", name := "roadOf", desc := "(II)I" } : Jvm.MethodName) prog_32_method_41_code (4 : Nat) (Option.some Jvm.ClassFile.FieldType.int)) ∈ lw_all := lw_g (lw_at lw_m10 113 rfl) rfl
theorem q2385 : (Jvm.Cond.methodLink "InchBordersModel" (281 : Nat) ({ cls := "InchBordersModel", name := "isOpen", desc := "(I)Z" } : Jvm.MethodName)) ∈ lw_all := lw_g (lw_at lw_m10 114 rfl) rfl
theorem q2386 : (Jvm.Cond.privateMethod ({ cls := "InchBordersModel", name := "isOpen", desc := "(I)Z" } : Jvm.MethodName)) ∈ lw_tbl := lw_at lw_m10 115 rfl
theorem q2387 : (Jvm.Cond.instanceMethod ({ cls := "InchBordersModel", name := "isOpen", desc := "(I)Z" } : Jvm.MethodName)) ∈ lw_all := lw_g (lw_at lw_m10 116 rfl) rfl
theorem q2388 : (Jvm.Cond.code ({ cls := "InchBordersModel", name := "isOpen", desc := "(I)Z" } : Jvm.MethodName) prog_32_method_40_code (2 : Nat) (Option.some Jvm.ClassFile.FieldType.boolean)) ∈ lw_all := lw_g (lw_at lw_m10 117 rfl) rfl
theorem q2390 : (Jvm.Cond.instanceMethod ({ cls := "InchBordersModel", name := "land", desc := "(II)I" } : Jvm.MethodName)) ∈ lw_all := lw_g (lw_at lw_m10 119 rfl) rfl
theorem q2391 : (Jvm.Cond.selects "InchBordersModel" ({ cls := "InchBordersModel", name := "land", desc := "(II)I" } : Jvm.MethodName) ({ cls := "InchBordersModel", name := "land", desc := "(II)I" } : Jvm.MethodName)) ∈ lw_all := lw_g (lw_at lw_m10 120 rfl) rfl
theorem q2392 : (Jvm.Cond.code ({ cls := "InchBordersModel", name := "land", desc := "(II)I" } : Jvm.MethodName) prog_32_method_50_code (5 : Nat) (Option.some Jvm.ClassFile.FieldType.int)) ∈ lw_all := lw_g (lw_at lw_m10 121 rfl) rfl
theorem q2393 : (Jvm.Cond.methodLink "InchBordersModel" (312 : Nat) ({ cls := "InchBordersModel", name := "isLand", desc := "(I)Z" } : Jvm.MethodName)) ∈ lw_all := lw_g (lw_at lw_m10 122 rfl) rfl
theorem q2394 : (Jvm.Cond.privateMethod ({ cls := "InchBordersModel", name := "isLand", desc := "(I)Z" } : Jvm.MethodName)) ∈ lw_tbl := lw_at lw_m10 123 rfl
theorem q2395 : (Jvm.Cond.instanceMethod ({ cls := "InchBordersModel", name := "isLand", desc := "(I)Z" } : Jvm.MethodName)) ∈ lw_all := lw_g (lw_at lw_m10 124 rfl) rfl
theorem q2396 : (Jvm.Cond.code ({ cls := "InchBordersModel", name := "isLand", desc := "(I)Z" } : Jvm.MethodName) prog_32_method_38_code (2 : Nat) (Option.some Jvm.ClassFile.FieldType.boolean)) ∈ lw_all := lw_g (lw_at lw_m10 125 rfl) rfl
theorem q2398 : (Jvm.Cond.instanceMethod ({ cls := "InchBordersModel", name := "road", desc := "(II)I" } : Jvm.MethodName)) ∈ lw_all := lw_g (lw_at lw_m10 127 rfl) rfl
theorem q2399 : (Jvm.Cond.selects "InchBordersModel" ({ cls := "InchBordersModel", name := "road", desc := "(II)I" } : Jvm.MethodName) ({ cls := "InchBordersModel", name := "road", desc := "(II)I" } : Jvm.MethodName)) ∈ lw_all := lw_g (lw_at lw_m10 128 rfl) rfl
theorem q2400 : (Jvm.Cond.code ({ cls := "InchBordersModel", name := "road", desc := "(II)I" } : Jvm.MethodName) prog_32_method_51_code (3 : Nat) (Option.some Jvm.ClassFile.FieldType.int)) ∈ lw_all := lw_g (lw_at lw_m10 129 rfl) rfl
theorem q2402 : (Jvm.Cond.instanceMethod ({ cls := "InchBordersModel", name := "now", desc := "(I)I" } : Jvm.MethodName)) ∈ lw_all := lw_g (lw_at lw_m10 131 rfl) rfl
theorem q2403 : (Jvm.Cond.selects "InchBordersModel" ({ cls := "InchBordersModel", name := "now", desc := "(I)I" } : Jvm.MethodName) ({ cls := "InchBordersModel", name := "now", desc := "(I)I" } : Jvm.MethodName)) ∈ lw_all := lw_g (lw_at lw_m10 132 rfl) rfl
theorem q2404 : (Jvm.Cond.code ({ cls := "InchBordersModel", name := "now", desc := "(I)I" } : Jvm.MethodName) prog_32_method_52_code (7 : Nat) (Option.some Jvm.ClassFile.FieldType.int)) ∈ lw_all := lw_g (lw_at lw_m10 133 rfl) rfl
theorem q2405 : (Jvm.Cond.methodLink "InchBordersModel" (315 : Nat) ({ cls := "InchBordersModel", name := "bits", desc := "(I)I" } : Jvm.MethodName)) ∈ lw_all := lw_g (lw_at lw_m10 134 rfl) rfl
theorem q2406 : (Jvm.Cond.static ({ cls := "InchBordersModel", name := "bits", desc := "(I)I" } : Jvm.MethodName)) ∈ lw_all := lw_g (lw_at lw_m10 135 rfl) rfl
theorem q2407 : (Jvm.Cond.code ({ cls := "InchBordersModel", name := "bits", desc := "(I)I" } : Jvm.MethodName) prog_32_method_11_code (3 : Nat) (Option.some Jvm.ClassFile.FieldType.int)) ∈ lw_all := lw_g (lw_at lw_m10 136 rfl) rfl
theorem q2408 : (Jvm.Cond.methodLink "InchBordersModel" (318 : Nat) ({ cls := "InchBordersModel", name := "allLong", desc := "()I" } : Jvm.MethodName)) ∈ lw_all := lw_g (lw_at lw_m10 137 rfl) rfl
theorem q2409 : (Jvm.Cond.privateMethod ({ cls := "InchBordersModel", name := "allLong", desc := "()I" } : Jvm.MethodName)) ∈ lw_tbl := lw_at lw_m10 138 rfl
theorem q2410 : (Jvm.Cond.instanceMethod ({ cls := "InchBordersModel", name := "allLong", desc := "()I" } : Jvm.MethodName)) ∈ lw_all := lw_g (lw_at lw_m10 139 rfl) rfl
theorem q2411 : (Jvm.Cond.code ({ cls := "InchBordersModel", name := "allLong", desc := "()I" } : Jvm.MethodName) prog_32_method_48_code (3 : Nat) (Option.some Jvm.ClassFile.FieldType.int)) ∈ lw_all := lw_g (lw_at lw_m10 140 rfl) rfl
theorem q2413 : (Jvm.Cond.instanceMethod ({ cls := "InchBordersModel", name := "cross", desc := "(II)I" } : Jvm.MethodName)) ∈ lw_all := lw_g (lw_at lw_m10 142 rfl) rfl
theorem q2414 : (Jvm.Cond.selects "InchBordersModel" ({ cls := "InchBordersModel", name := "cross", desc := "(II)I" } : Jvm.MethodName) ({ cls := "InchBordersModel", name := "cross", desc := "(II)I" } : Jvm.MethodName)) ∈ lw_all := lw_g (lw_at lw_m10 143 rfl) rfl
theorem q2415 : (Jvm.Cond.code ({ cls := "InchBordersModel", name := "cross", desc := "(II)I" } : Jvm.MethodName) prog_32_method_60_code (4 : Nat) (Option.some Jvm.ClassFile.FieldType.int)) ∈ lw_all := lw_g (lw_at lw_m10 144 rfl) rfl
theorem q2416 : (Jvm.Cond.methodLink "InchBordersModel" (327 : Nat) ({ cls := "InchBordersModel", name := "keep", desc := "()V" } : Jvm.MethodName)) ∈ lw_all := lw_g (lw_at lw_m10 145 rfl) rfl
theorem q2417 : (Jvm.Cond.privateMethod ({ cls := "InchBordersModel", name := "keep", desc := "()V" } : Jvm.MethodName)) ∈ lw_tbl := lw_at lw_m10 146 rfl
theorem q2418 : (Jvm.Cond.instanceMethod ({ cls := "InchBordersModel", name := "keep", desc := "()V" } : Jvm.MethodName)) ∈ lw_all := lw_g (lw_at lw_m10 147 rfl) rfl
theorem q2419 : (Jvm.Cond.code ({ cls := "InchBordersModel", name := "keep", desc := "()V" } : Jvm.MethodName) prog_32_method_68_code (2 : Nat) (Option.none : Option Jvm.ClassFile.FieldType)) ∈ lw_all := lw_g (lw_at lw_m10 148 rfl) rfl
theorem q2420 : (Jvm.Cond.methodLink "InchBordersModel" (330 : Nat) ({ cls := "InchBordersModel", name := "crosses", desc := "(II)V" } : Jvm.MethodName)) ∈ lw_all := lw_g (lw_at lw_m10 149 rfl) rfl
theorem q2421 : (Jvm.Cond.privateMethod ({ cls := "InchBordersModel", name := "crosses", desc := "(II)V" } : Jvm.MethodName)) ∈ lw_tbl := lw_at lw_m10 150 rfl
theorem q2422 : (Jvm.Cond.instanceMethod ({ cls := "InchBordersModel", name := "crosses", desc := "(II)V" } : Jvm.MethodName)) ∈ lw_all := lw_g (lw_at lw_m10 151 rfl) rfl
theorem q2423 : (Jvm.Cond.code ({ cls := "InchBordersModel", name := "crosses", desc := "(II)V" } : Jvm.MethodName) prog_32_method_47_code (4 : Nat) (Option.none : Option Jvm.ClassFile.FieldType)) ∈ lw_all := lw_g (lw_at lw_m10 152 rfl) rfl
theorem q2424 : (Jvm.Cond.methodLink "InchBordersModel" (298 : Nat) ({ cls := "InchBordersModel", name := "given", desc := "(III)I" } : Jvm.MethodName)) ∈ lw_all := lw_g (lw_at lw_m10 153 rfl) rfl
theorem q2425 : (Jvm.Cond.privateMethod ({ cls := "InchBordersModel", name := "given", desc := "(III)I" } : Jvm.MethodName)) ∈ lw_tbl := lw_at lw_m10 154 rfl
theorem q2426 : (Jvm.Cond.instanceMethod ({ cls := "InchBordersModel", name := "given", desc := "(III)I" } : Jvm.MethodName)) ∈ lw_all := lw_g (lw_at lw_m10 155 rfl) rfl
theorem q2427 : (Jvm.Cond.code ({ cls := "InchBordersModel", name := "given", desc := "(III)I" } : Jvm.MethodName) prog_32_method_46_code (4 : Nat) (Option.some Jvm.ClassFile.FieldType.int)) ∈ lw_all := lw_g (lw_at lw_m10 156 rfl) rfl
theorem q2428 : (Jvm.Cond.methodLink "InchBordersModel" (295 : Nat) ({ cls := "InchBordersModel", name := "lesser", desc := "(II)I" } : Jvm.MethodName)) ∈ lw_all := lw_g (lw_at lw_m10 157 rfl) rfl
theorem q2429 : (Jvm.Cond.static ({ cls := "InchBordersModel", name := "lesser", desc := "(II)I" } : Jvm.MethodName)) ∈ lw_all := lw_g (lw_at lw_m10 158 rfl) rfl
theorem q2430 : (Jvm.Cond.code ({ cls := "InchBordersModel", name := "lesser", desc := "(II)I" } : Jvm.MethodName) prog_32_method_9_code (2 : Nat) (Option.some Jvm.ClassFile.FieldType.int)) ∈ lw_all := lw_g (lw_at lw_m10 159 rfl) rfl
theorem q2432 : (Jvm.Cond.instanceMethod ({ cls := "InchBordersModel", name := "pact", desc := "(II)I" } : Jvm.MethodName)) ∈ lw_all := lw_g (lw_at lw_m10 161 rfl) rfl
theorem q2433 : (Jvm.Cond.selects "InchBordersModel" ({ cls := "InchBordersModel", name := "pact", desc := "(II)I" } : Jvm.MethodName) ({ cls := "InchBordersModel", name := "pact", desc := "(II)I" } : Jvm.MethodName)) ∈ lw_all := lw_g (lw_at lw_m10 162 rfl) rfl
theorem q2434 : (Jvm.Cond.code ({ cls := "InchBordersModel", name := "pact", desc := "(II)I" } : Jvm.MethodName) prog_32_method_61_code (4 : Nat) (Option.some Jvm.ClassFile.FieldType.int)) ∈ lw_all := lw_g (lw_at lw_m10 163 rfl) rfl
theorem q2435 : (Jvm.Cond.methodLink "InchBordersModel" (334 : Nat) ({ cls := "InchBordersModel", name := "whyPact", desc := "(II)I" } : Jvm.MethodName)) ∈ lw_all := lw_g (lw_at lw_m10 164 rfl) rfl
theorem q2436 : (Jvm.Cond.privateMethod ({ cls := "InchBordersModel", name := "whyPact", desc := "(II)I" } : Jvm.MethodName)) ∈ lw_tbl := lw_at lw_m10 165 rfl
theorem q2437 : (Jvm.Cond.instanceMethod ({ cls := "InchBordersModel", name := "whyPact", desc := "(II)I" } : Jvm.MethodName)) ∈ lw_all := lw_g (lw_at lw_m10 166 rfl) rfl
theorem q2438 : (Jvm.Cond.code ({ cls := "InchBordersModel", name := "whyPact", desc := "(II)I" } : Jvm.MethodName) prog_32_method_53_code (3 : Nat) (Option.some Jvm.ClassFile.FieldType.int)) ∈ lw_all := lw_g (lw_at lw_m10 167 rfl) rfl
theorem q2440 : (Jvm.Cond.instanceMethod ({ cls := "InchBordersModel", name := "breaks", desc := "(II)I" } : Jvm.MethodName)) ∈ lw_all := lw_g (lw_at lw_m10 169 rfl) rfl
theorem q2441 : (Jvm.Cond.selects "InchBordersModel" ({ cls := "InchBordersModel", name := "breaks", desc := "(II)I" } : Jvm.MethodName) ({ cls := "InchBordersModel", name := "breaks", desc := "(II)I" } : Jvm.MethodName)) ∈ lw_all := lw_g (lw_at lw_m10 170 rfl) rfl
theorem q2442 : (Jvm.Cond.code ({ cls := "InchBordersModel", name := "breaks", desc := "(II)I" } : Jvm.MethodName) prog_32_method_62_code (3 : Nat) (Option.some Jvm.ClassFile.FieldType.int)) ∈ lw_all := lw_g (lw_at lw_m10 171 rfl) rfl
theorem q2444 : (Jvm.Cond.instanceMethod ({ cls := "InchBordersModel", name := "close", desc := "(I)I" } : Jvm.MethodName)) ∈ lw_all := lw_g (lw_at lw_m10 173 rfl) rfl
theorem q2445 : (Jvm.Cond.selects "InchBordersModel" ({ cls := "InchBordersModel", name := "close", desc := "(I)I" } : Jvm.MethodName) ({ cls := "InchBordersModel", name := "close", desc := "(I)I" } : Jvm.MethodName)) ∈ lw_all := lw_g (lw_at lw_m10 174 rfl) rfl
theorem q2446 : (Jvm.Cond.code ({ cls := "InchBordersModel", name := "close", desc := "(I)I" } : Jvm.MethodName) prog_32_method_64_code (2 : Nat) (Option.some Jvm.ClassFile.FieldType.int)) ∈ lw_all := lw_g (lw_at lw_m10 175 rfl) rfl
theorem q2447 : (Jvm.Cond.methodLink "InchBordersModel" (341 : Nat) ({ cls := "InchBordersModel", name := "turns", desc := "(IZ)I" } : Jvm.MethodName)) ∈ lw_all := lw_g (lw_at lw_m10 176 rfl) rfl
theorem q2448 : (Jvm.Cond.privateMethod ({ cls := "InchBordersModel", name := "turns", desc := "(IZ)I" } : Jvm.MethodName)) ∈ lw_tbl := lw_at lw_m10 177 rfl
theorem q2449 : (Jvm.Cond.instanceMethod ({ cls := "InchBordersModel", name := "turns", desc := "(IZ)I" } : Jvm.MethodName)) ∈ lw_all := lw_g (lw_at lw_m10 178 rfl) rfl
theorem q2450 : (Jvm.Cond.code ({ cls := "InchBordersModel", name := "turns", desc := "(IZ)I" } : Jvm.MethodName) prog_32_method_63_code (4 : Nat) (Option.some Jvm.ClassFile.FieldType.int)) ∈ lw_all := lw_g (lw_at lw_m10 179 rfl) rfl
theorem q2451 : (Jvm.Cond.methodLink "InchBordersModel" (337 : Nat) ({ cls := "InchBordersModel", name := "whyTurn", desc := "(IZ)I" } : Jvm.MethodName)) ∈ lw_all := lw_g (lw_at lw_m10 180 rfl) rfl
theorem q2452 : (Jvm.Cond.privateMethod ({ cls := "InchBordersModel", name := "whyTurn", desc := "(IZ)I" } : Jvm.MethodName)) ∈ lw_tbl := lw_at lw_m10 181 rfl
theorem q2453 : (Jvm.Cond.instanceMethod ({ cls := "InchBordersModel", name := "whyTurn", desc := "(IZ)I" } : Jvm.MethodName)) ∈ lw_all := lw_g (lw_at lw_m10 182 rfl) rfl
theorem q2454 : (Jvm.Cond.code ({ cls := "InchBordersModel", name := "whyTurn", desc := "(IZ)I" } : Jvm.MethodName) prog_32_method_54_code (3 : Nat) (Option.some Jvm.ClassFile.FieldType.int)) ∈ lw_all := lw_g (lw_at lw_m10 183 rfl) rfl
theorem q2456 : (Jvm.Cond.instanceMethod ({ cls := "InchBordersModel", name := "open", desc := "(I)I" } : Jvm.MethodName)) ∈ lw_all := lw_g (lw_at lw_m10 185 rfl) rfl
theorem q2457 : (Jvm.Cond.selects "InchBordersModel" ({ cls := "InchBordersModel", name := "open", desc := "(I)I" } : Jvm.MethodName) ({ cls := "InchBordersModel", name := "open", desc := "(I)I" } : Jvm.MethodName)) ∈ lw_all := lw_g (lw_at lw_m10 186 rfl) rfl
theorem q2458 : (Jvm.Cond.code ({ cls := "InchBordersModel", name := "open", desc := "(I)I" } : Jvm.MethodName) prog_32_method_65_code (2 : Nat) (Option.some Jvm.ClassFile.FieldType.int)) ∈ lw_all := lw_g (lw_at lw_m10 187 rfl) rfl
theorem q2460 : (Jvm.Cond.instanceMethod ({ cls := "InchBordersModel", name := "lend", desc := "(III)I" } : Jvm.MethodName)) ∈ lw_all := lw_g (lw_at lw_m10 189 rfl) rfl
theorem q2461 : (Jvm.Cond.selects "InchBordersModel" ({ cls := "InchBordersModel", name := "lend", desc := "(III)I" } : Jvm.MethodName) ({ cls := "InchBordersModel", name := "lend", desc := "(III)I" } : Jvm.MethodName)) ∈ lw_all := lw_g (lw_at lw_m10 190 rfl) rfl
theorem q2462 : (Jvm.Cond.code ({ cls := "InchBordersModel", name := "lend", desc := "(III)I" } : Jvm.MethodName) prog_32_method_66_code (5 : Nat) (Option.some Jvm.ClassFile.FieldType.int)) ∈ lw_all := lw_g (lw_at lw_m10 191 rfl) rfl
theorem q2463 : (Jvm.Cond.methodLink "InchBordersModel" (344 : Nat) ({ cls := "InchBordersModel", name := "whyLend", desc := "(III)I" } : Jvm.MethodName)) ∈ lw_all := lw_g (lw_at lw_m10 192 rfl) rfl
theorem q2464 : (Jvm.Cond.privateMethod ({ cls := "InchBordersModel", name := "whyLend", desc := "(III)I" } : Jvm.MethodName)) ∈ lw_tbl := lw_at lw_m10 193 rfl
theorem q2465 : (Jvm.Cond.instanceMethod ({ cls := "InchBordersModel", name := "whyLend", desc := "(III)I" } : Jvm.MethodName)) ∈ lw_all := lw_g (lw_at lw_m10 194 rfl) rfl
theorem q2466 : (Jvm.Cond.code ({ cls := "InchBordersModel", name := "whyLend", desc := "(III)I" } : Jvm.MethodName) prog_32_method_55_code (4 : Nat) (Option.some Jvm.ClassFile.FieldType.int)) ∈ lw_all := lw_g (lw_at lw_m10 195 rfl) rfl
theorem q2467 : (Jvm.Cond.methodLink "InchBordersModel" (347 : Nat) ({ cls := "InchBordersModel", name := "lends", desc := "(III)V" } : Jvm.MethodName)) ∈ lw_all := lw_g (lw_at lw_m10 196 rfl) rfl
theorem q2468 : (Jvm.Cond.privateMethod ({ cls := "InchBordersModel", name := "lends", desc := "(III)V" } : Jvm.MethodName)) ∈ lw_tbl := lw_at lw_m10 197 rfl
theorem q2469 : (Jvm.Cond.instanceMethod ({ cls := "InchBordersModel", name := "lends", desc := "(III)V" } : Jvm.MethodName)) ∈ lw_all := lw_g (lw_at lw_m10 198 rfl) rfl
theorem q2470 : (Jvm.Cond.code ({ cls := "InchBordersModel", name := "lends", desc := "(III)V" } : Jvm.MethodName) prog_32_method_56_code (4 : Nat) (Option.none : Option Jvm.ClassFile.FieldType)) ∈ lw_all := lw_g (lw_at lw_m10 199 rfl) rfl
theorem q2472 : (Jvm.Cond.instanceMethod ({ cls := "InchBordersModel", name := "days", desc := "(I)I" } : Jvm.MethodName)) ∈ lw_all := lw_g (lw_at lw_m10 201 rfl) rfl
theorem q2473 : (Jvm.Cond.selects "InchBordersModel" ({ cls := "InchBordersModel", name := "days", desc := "(I)I" } : Jvm.MethodName) ({ cls := "InchBordersModel", name := "days", desc := "(I)I" } : Jvm.MethodName)) ∈ lw_all := lw_g (lw_at lw_m10 202 rfl) rfl
theorem q2474 : (Jvm.Cond.code ({ cls := "InchBordersModel", name := "days", desc := "(I)I" } : Jvm.MethodName) prog_32_method_67_code (2 : Nat) (Option.some Jvm.ClassFile.FieldType.int)) ∈ lw_all := lw_g (lw_at lw_m10 203 rfl) rfl
theorem q2475 : (Jvm.Cond.methodLink "InchBordersModel" (351 : Nat) ({ cls := "InchBordersModel", name := "goesOn", desc := "(I)I" } : Jvm.MethodName)) ∈ lw_all := lw_g (lw_at lw_m10 204 rfl) rfl
theorem q2476 : (Jvm.Cond.privateMethod ({ cls := "InchBordersModel", name := "goesOn", desc := "(I)I" } : Jvm.MethodName)) ∈ lw_tbl := lw_at lw_m10 205 rfl
theorem q2477 : (Jvm.Cond.instanceMethod ({ cls := "InchBordersModel", name := "goesOn", desc := "(I)I" } : Jvm.MethodName)) ∈ lw_all := lw_g (lw_at lw_m10 206 rfl) rfl
theorem q2478 : (Jvm.Cond.code ({ cls := "InchBordersModel", name := "goesOn", desc := "(I)I" } : Jvm.MethodName) prog_32_method_59_code (3 : Nat) (Option.some Jvm.ClassFile.FieldType.int)) ∈ lw_all := lw_g (lw_at lw_m10 207 rfl) rfl
theorem q2479 : (Jvm.Cond.methodLink "InchBordersModel" (324 : Nat) ({ cls := "InchBordersModel", name := "day", desc := "()V" } : Jvm.MethodName)) ∈ lw_all := lw_g (lw_at lw_m10 208 rfl) rfl
theorem q2480 : (Jvm.Cond.privateMethod ({ cls := "InchBordersModel", name := "day", desc := "()V" } : Jvm.MethodName)) ∈ lw_tbl := lw_at lw_m10 209 rfl
theorem q2481 : (Jvm.Cond.instanceMethod ({ cls := "InchBordersModel", name := "day", desc := "()V" } : Jvm.MethodName)) ∈ lw_all := lw_g (lw_at lw_m10 210 rfl) rfl
theorem q2482 : (Jvm.Cond.code ({ cls := "InchBordersModel", name := "day", desc := "()V" } : Jvm.MethodName) prog_32_method_58_code (2 : Nat) (Option.none : Option Jvm.ClassFile.FieldType)) ∈ lw_all := lw_g (lw_at lw_m10 211 rfl) rfl
theorem q2483 : (Jvm.Cond.methodLink "InchBordersModel" (321 : Nat) ({ cls := "InchBordersModel", name := "grows", desc := "(I)Z" } : Jvm.MethodName)) ∈ lw_all := lw_g (lw_at lw_m10 212 rfl) rfl
theorem q2484 : (Jvm.Cond.privateMethod ({ cls := "InchBordersModel", name := "grows", desc := "(I)Z" } : Jvm.MethodName)) ∈ lw_tbl := lw_at lw_m10 213 rfl
theorem q2485 : (Jvm.Cond.instanceMethod ({ cls := "InchBordersModel", name := "grows", desc := "(I)Z" } : Jvm.MethodName)) ∈ lw_all := lw_g (lw_at lw_m10 214 rfl) rfl
theorem q2486 : (Jvm.Cond.code ({ cls := "InchBordersModel", name := "grows", desc := "(I)Z" } : Jvm.MethodName) prog_32_method_57_code (2 : Nat) (Option.some Jvm.ClassFile.FieldType.boolean)) ∈ lw_all := lw_g (lw_at lw_m10 215 rfl) rfl
theorem q2488 : (Jvm.Cond.instanceMethod ({ cls := "InchBordersModel", name := "undo", desc := "()I" } : Jvm.MethodName)) ∈ lw_all := lw_g (lw_at lw_m10 217 rfl) rfl
theorem q2489 : (Jvm.Cond.selects "InchBordersModel" ({ cls := "InchBordersModel", name := "undo", desc := "()I" } : Jvm.MethodName) ({ cls := "InchBordersModel", name := "undo", desc := "()I" } : Jvm.MethodName)) ∈ lw_all := lw_g (lw_at lw_m10 218 rfl) rfl
theorem q2490 : (Jvm.Cond.code ({ cls := "InchBordersModel", name := "undo", desc := "()I" } : Jvm.MethodName) prog_32_method_69_code (2 : Nat) (Option.some Jvm.ClassFile.FieldType.int)) ∈ lw_all := lw_g (lw_at lw_m10 219 rfl) rfl
theorem q2492 : (Jvm.Cond.instanceMethod ({ cls := "InchBordersModel", name := "way", desc := "(III)I" } : Jvm.MethodName)) ∈ lw_all := lw_g (lw_at lw_m10 221 rfl) rfl
theorem q2493 : (Jvm.Cond.selects "InchBordersModel" ({ cls := "InchBordersModel", name := "way", desc := "(III)I" } : Jvm.MethodName) ({ cls := "InchBordersModel", name := "way", desc := "(III)I" } : Jvm.MethodName)) ∈ lw_all := lw_g (lw_at lw_m10 222 rfl) rfl
theorem q2494 : (Jvm.Cond.code ({ cls := "InchBordersModel", name := "way", desc := "(III)I" } : Jvm.MethodName) prog_32_method_76_code (6 : Nat) (Option.some Jvm.ClassFile.FieldType.int)) ∈ lw_all := lw_g (lw_at lw_m10 223 rfl) rfl
theorem q2495 : (Jvm.Cond.methodLink "InchBordersModel" (373 : Nat) ({ cls := "InchBordersModel", name := "fewest", desc := "(IIII)I" } : Jvm.MethodName)) ∈ lw_all := lw_g (lw_at lw_m10 224 rfl) rfl
theorem q2496 : (Jvm.Cond.privateMethod ({ cls := "InchBordersModel", name := "fewest", desc := "(IIII)I" } : Jvm.MethodName)) ∈ lw_tbl := lw_at lw_m10 225 rfl
theorem q2497 : (Jvm.Cond.instanceMethod ({ cls := "InchBordersModel", name := "fewest", desc := "(IIII)I" } : Jvm.MethodName)) ∈ lw_all := lw_g (lw_at lw_m10 226 rfl) rfl
theorem q2498 : (Jvm.Cond.code ({ cls := "InchBordersModel", name := "fewest", desc := "(IIII)I" } : Jvm.MethodName) prog_32_method_75_code (6 : Nat) (Option.some Jvm.ClassFile.FieldType.int)) ∈ lw_all := lw_g (lw_at lw_m10 227 rfl) rfl
theorem q2499 : (Jvm.Cond.methodLink "InchBordersModel" (366 : Nat) ({ cls := "InchBordersModel", name := "starts", desc := "(I)V" } : Jvm.MethodName)) ∈ lw_all := lw_g (lw_at lw_m10 228 rfl) rfl
theorem q2500 : (Jvm.Cond.privateMethod ({ cls := "InchBordersModel", name := "starts", desc := "(I)V" } : Jvm.MethodName)) ∈ lw_tbl := lw_at lw_m10 229 rfl
theorem q2501 : (Jvm.Cond.instanceMethod ({ cls := "InchBordersModel", name := "starts", desc := "(I)V" } : Jvm.MethodName)) ∈ lw_all := lw_g (lw_at lw_m10 230 rfl) rfl
theorem q2502 : (Jvm.Cond.code ({ cls := "InchBordersModel", name := "starts", desc := "(I)V" } : Jvm.MethodName) prog_32_method_72_code (2 : Nat) (Option.none : Option Jvm.ClassFile.FieldType)) ∈ lw_all := lw_g (lw_at lw_m10 231 rfl) rfl
theorem q2503 : (Jvm.Cond.methodLink "InchBordersModel" (369 : Nat) ({ cls := "InchBordersModel", name := "goesTo", desc := "(I)Z" } : Jvm.MethodName)) ∈ lw_all := lw_g (lw_at lw_m10 232 rfl) rfl
theorem q2504 : (Jvm.Cond.privateMethod ({ cls := "InchBordersModel", name := "goesTo", desc := "(I)Z" } : Jvm.MethodName)) ∈ lw_tbl := lw_at lw_m10 233 rfl
theorem q2505 : (Jvm.Cond.instanceMethod ({ cls := "InchBordersModel", name := "goesTo", desc := "(I)Z" } : Jvm.MethodName)) ∈ lw_all := lw_g (lw_at lw_m10 234 rfl) rfl
theorem q2506 : (Jvm.Cond.code ({ cls := "InchBordersModel", name := "goesTo", desc := "(I)Z" } : Jvm.MethodName) prog_32_method_74_code (2 : Nat) (Option.some Jvm.ClassFile.FieldType.boolean)) ∈ lw_all := lw_g (lw_at lw_m10 235 rfl) rfl
theorem q2507 : (Jvm.Cond.methodLink "InchBordersModel" (363 : Nat) ({ cls := "InchBordersModel", name := "steps", desc := "(I)Z" } : Jvm.MethodName)) ∈ lw_all := lw_g (lw_at lw_m10 236 rfl) rfl
theorem q2508 : (Jvm.Cond.privateMethod ({ cls := "InchBordersModel", name := "steps", desc := "(I)Z" } : Jvm.MethodName)) ∈ lw_tbl := lw_at lw_m10 237 rfl
theorem q2509 : (Jvm.Cond.instanceMethod ({ cls := "InchBordersModel", name := "steps", desc := "(I)Z" } : Jvm.MethodName)) ∈ lw_all := lw_g (lw_at lw_m10 238 rfl) rfl
theorem q2510 : (Jvm.Cond.code ({ cls := "InchBordersModel", name := "steps", desc := "(I)Z" } : Jvm.MethodName) prog_32_method_73_code (4 : Nat) (Option.some Jvm.ClassFile.FieldType.boolean)) ∈ lw_all := lw_g (lw_at lw_m10 239 rfl) rfl
theorem q2511 : (Jvm.Cond.constant "InchBordersModel" (372 : Nat) (1000000 : Int32)) ∈ lw_all := lw_g (lw_at lw_m11 0 rfl) rfl
theorem q2513 : (Jvm.Cond.instanceMethod ({ cls := "InchBordersModel", name := "wayAt", desc := "(I)I" } : Jvm.MethodName)) ∈ lw_all := lw_g (lw_at lw_m11 2 rfl) rfl
theorem q2514 : (Jvm.Cond.selects "InchBordersModel" ({ cls := "InchBordersModel", name := "wayAt", desc := "(I)I" } : Jvm.MethodName) ({ cls := "InchBordersModel", name := "wayAt", desc := "(I)I" } : Jvm.MethodName)) ∈ lw_all := lw_g (lw_at lw_m11 3 rfl) rfl
theorem q2515 : (Jvm.Cond.code ({ cls := "InchBordersModel", name := "wayAt", desc := "(I)I" } : Jvm.MethodName) prog_32_method_77_code (2 : Nat) (Option.some Jvm.ClassFile.FieldType.int)) ∈ lw_all := lw_g (lw_at lw_m11 4 rfl) rfl
theorem q2517 : (Jvm.Cond.instanceMethod ({ cls := "InchBordersModel", name := "round", desc := "(I)I" } : Jvm.MethodName)) ∈ lw_all := lw_g (lw_at lw_m11 6 rfl) rfl
theorem q2518 : (Jvm.Cond.selects "InchBordersModel" ({ cls := "InchBordersModel", name := "round", desc := "(I)I" } : Jvm.MethodName) ({ cls := "InchBordersModel", name := "round", desc := "(I)I" } : Jvm.MethodName)) ∈ lw_all := lw_g (lw_at lw_m11 7 rfl) rfl
theorem q2519 : (Jvm.Cond.code ({ cls := "InchBordersModel", name := "round", desc := "(I)I" } : Jvm.MethodName) prog_32_method_78_code (4 : Nat) (Option.some Jvm.ClassFile.FieldType.int)) ∈ lw_all := lw_g (lw_at lw_m11 8 rfl) rfl
theorem q2520 : (Jvm.Cond.methodLink "InchBordersModel" (376 : Nat) ({ cls := "InchBordersModel", name := "greater", desc := "(II)I" } : Jvm.MethodName)) ∈ lw_all := lw_g (lw_at lw_m11 9 rfl) rfl
theorem q2521 : (Jvm.Cond.static ({ cls := "InchBordersModel", name := "greater", desc := "(II)I" } : Jvm.MethodName)) ∈ lw_all := lw_g (lw_at lw_m11 10 rfl) rfl
theorem q2522 : (Jvm.Cond.code ({ cls := "InchBordersModel", name := "greater", desc := "(II)I" } : Jvm.MethodName) prog_32_method_10_code (2 : Nat) (Option.some Jvm.ClassFile.FieldType.int)) ∈ lw_all := lw_g (lw_at lw_m11 11 rfl) rfl
theorem q2524 : (Jvm.Cond.instanceMethod ({ cls := "InchBordersModel", name := "spare", desc := "(III)I" } : Jvm.MethodName)) ∈ lw_all := lw_g (lw_at lw_m11 13 rfl) rfl
theorem q2525 : (Jvm.Cond.selects "InchBordersModel" ({ cls := "InchBordersModel", name := "spare", desc := "(III)I" } : Jvm.MethodName) ({ cls := "InchBordersModel", name := "spare", desc := "(III)I" } : Jvm.MethodName)) ∈ lw_all := lw_g (lw_at lw_m11 14 rfl) rfl
theorem q2526 : (Jvm.Cond.code ({ cls := "InchBordersModel", name := "spare", desc := "(III)I" } : Jvm.MethodName) prog_32_method_79_code (7 : Nat) (Option.some Jvm.ClassFile.FieldType.int)) ∈ lw_all := lw_g (lw_at lw_m11 15 rfl) rfl
theorem q2528 : (Jvm.Cond.instanceMethod ({ cls := "InchBordersModel", name := "spared", desc := "()I" } : Jvm.MethodName)) ∈ lw_all := lw_g (lw_at lw_m11 17 rfl) rfl
theorem q2529 : (Jvm.Cond.selects "InchBordersModel" ({ cls := "InchBordersModel", name := "spared", desc := "()I" } : Jvm.MethodName) ({ cls := "InchBordersModel", name := "spared", desc := "()I" } : Jvm.MethodName)) ∈ lw_all := lw_g (lw_at lw_m11 18 rfl) rfl
theorem q2530 : (Jvm.Cond.code ({ cls := "InchBordersModel", name := "spared", desc := "()I" } : Jvm.MethodName) prog_32_method_80_code (1 : Nat) (Option.some Jvm.ClassFile.FieldType.int)) ∈ lw_all := lw_g (lw_at lw_m11 19 rfl) rfl
theorem q2532 : (Jvm.Cond.instanceMethod ({ cls := "InchBordersModel", name := "made", desc := "()I" } : Jvm.MethodName)) ∈ lw_all := lw_g (lw_at lw_m11 21 rfl) rfl
theorem q2533 : (Jvm.Cond.selects "InchBordersModel" ({ cls := "InchBordersModel", name := "made", desc := "()I" } : Jvm.MethodName) ({ cls := "InchBordersModel", name := "made", desc := "()I" } : Jvm.MethodName)) ∈ lw_all := lw_g (lw_at lw_m11 22 rfl) rfl
theorem q2534 : (Jvm.Cond.code ({ cls := "InchBordersModel", name := "made", desc := "()I" } : Jvm.MethodName) prog_32_method_81_code (4 : Nat) (Option.some Jvm.ClassFile.FieldType.int)) ∈ lw_all := lw_g (lw_at lw_m11 23 rfl) rfl
theorem q2535 : (Jvm.Cond.methodLink "InchBordersModel" (386 : Nat) ({ cls := "InchBordersModel", name := "octet", desc := "(I)I" } : Jvm.MethodName)) ∈ lw_all := lw_g (lw_at lw_m11 24 rfl) rfl
theorem q2536 : (Jvm.Cond.privateMethod ({ cls := "InchBordersModel", name := "octet", desc := "(I)I" } : Jvm.MethodName)) ∈ lw_tbl := lw_at lw_m11 25 rfl
theorem q2537 : (Jvm.Cond.instanceMethod ({ cls := "InchBordersModel", name := "octet", desc := "(I)I" } : Jvm.MethodName)) ∈ lw_all := lw_g (lw_at lw_m11 26 rfl) rfl
theorem q2538 : (Jvm.Cond.code ({ cls := "InchBordersModel", name := "octet", desc := "(I)I" } : Jvm.MethodName) prog_32_method_12_code (2 : Nat) (Option.some Jvm.ClassFile.FieldType.int)) ∈ lw_all := lw_g (lw_at lw_m11 27 rfl) rfl
theorem q2540 : (Jvm.Cond.instanceMethod ({ cls := "InchBordersModel", name := "madeAt", desc := "(I)I" } : Jvm.MethodName)) ∈ lw_all := lw_g (lw_at lw_m11 29 rfl) rfl
theorem q2541 : (Jvm.Cond.selects "InchBordersModel" ({ cls := "InchBordersModel", name := "madeAt", desc := "(I)I" } : Jvm.MethodName) ({ cls := "InchBordersModel", name := "madeAt", desc := "(I)I" } : Jvm.MethodName)) ∈ lw_all := lw_g (lw_at lw_m11 30 rfl) rfl
theorem q2542 : (Jvm.Cond.code ({ cls := "InchBordersModel", name := "madeAt", desc := "(I)I" } : Jvm.MethodName) prog_32_method_82_code (2 : Nat) (Option.some Jvm.ClassFile.FieldType.int)) ∈ lw_all := lw_g (lw_at lw_m11 31 rfl) rfl
theorem q2544 : (Jvm.Cond.instanceMethod ({ cls := "InchBordersModel", name := "likely", desc := "()I" } : Jvm.MethodName)) ∈ lw_all := lw_g (lw_at lw_m11 33 rfl) rfl
theorem q2545 : (Jvm.Cond.selects "InchBordersModel" ({ cls := "InchBordersModel", name := "likely", desc := "()I" } : Jvm.MethodName) ({ cls := "InchBordersModel", name := "likely", desc := "()I" } : Jvm.MethodName)) ∈ lw_all := lw_g (lw_at lw_m11 34 rfl) rfl
theorem q2546 : (Jvm.Cond.code ({ cls := "InchBordersModel", name := "likely", desc := "()I" } : Jvm.MethodName) prog_32_method_83_code (1 : Nat) (Option.some Jvm.ClassFile.FieldType.int)) ∈ lw_all := lw_g (lw_at lw_m11 35 rfl) rfl
theorem q2548 : (Jvm.Cond.instanceMethod ({ cls := "InchBordersModel", name := "caravan", desc := "(I)I" } : Jvm.MethodName)) ∈ lw_all := lw_g (lw_at lw_m11 37 rfl) rfl
theorem q2549 : (Jvm.Cond.selects "InchBordersModel" ({ cls := "InchBordersModel", name := "caravan", desc := "(I)I" } : Jvm.MethodName) ({ cls := "InchBordersModel", name := "caravan", desc := "(I)I" } : Jvm.MethodName)) ∈ lw_all := lw_g (lw_at lw_m11 38 rfl) rfl
theorem q2550 : (Jvm.Cond.code ({ cls := "InchBordersModel", name := "caravan", desc := "(I)I" } : Jvm.MethodName) prog_32_method_85_code (7 : Nat) (Option.some Jvm.ClassFile.FieldType.int)) ∈ lw_all := lw_g (lw_at lw_m11 39 rfl) rfl
theorem q2551 : (Jvm.Cond.methodLink "InchBordersModel" (392 : Nat) ({ cls := "InchBordersModel", name := "tries", desc := "()V" } : Jvm.MethodName)) ∈ lw_all := lw_g (lw_at lw_m11 40 rfl) rfl
theorem q2552 : (Jvm.Cond.privateMethod ({ cls := "InchBordersModel", name := "tries", desc := "()V" } : Jvm.MethodName)) ∈ lw_tbl := lw_at lw_m11 41 rfl
theorem q2553 : (Jvm.Cond.instanceMethod ({ cls := "InchBordersModel", name := "tries", desc := "()V" } : Jvm.MethodName)) ∈ lw_all := lw_g (lw_at lw_m11 42 rfl) rfl
theorem q2554 : (Jvm.Cond.code ({ cls := "InchBordersModel", name := "tries", desc := "()V" } : Jvm.MethodName) prog_32_method_70_code (2 : Nat) (Option.none : Option Jvm.ClassFile.FieldType)) ∈ lw_all := lw_g (lw_at lw_m11 43 rfl) rfl
theorem q2555 : (Jvm.Cond.methodLink "InchBordersModel" (395 : Nat) ({ cls := "InchBordersModel", name := "back", desc := "()V" } : Jvm.MethodName)) ∈ lw_all := lw_g (lw_at lw_m11 44 rfl) rfl
theorem q2556 : (Jvm.Cond.privateMethod ({ cls := "InchBordersModel", name := "back", desc := "()V" } : Jvm.MethodName)) ∈ lw_tbl := lw_at lw_m11 45 rfl
theorem q2557 : (Jvm.Cond.instanceMethod ({ cls := "InchBordersModel", name := "back", desc := "()V" } : Jvm.MethodName)) ∈ lw_all := lw_g (lw_at lw_m11 46 rfl) rfl
theorem q2558 : (Jvm.Cond.code ({ cls := "InchBordersModel", name := "back", desc := "()V" } : Jvm.MethodName) prog_32_method_71_code (2 : Nat) (Option.none : Option Jvm.ClassFile.FieldType)) ∈ lw_all := lw_g (lw_at lw_m11 47 rfl) rfl
theorem q2559 : (Jvm.Cond.methodLink "InchBordersModel" (398 : Nat) ({ cls := "InchBordersModel", name := "reorders", desc := "(I)Z" } : Jvm.MethodName)) ∈ lw_all := lw_g (lw_at lw_m11 48 rfl) rfl
theorem q2560 : (Jvm.Cond.privateMethod ({ cls := "InchBordersModel", name := "reorders", desc := "(I)Z" } : Jvm.MethodName)) ∈ lw_tbl := lw_at lw_m11 49 rfl
theorem q2561 : (Jvm.Cond.instanceMethod ({ cls := "InchBordersModel", name := "reorders", desc := "(I)Z" } : Jvm.MethodName)) ∈ lw_all := lw_g (lw_at lw_m11 50 rfl) rfl
theorem q2562 : (Jvm.Cond.code ({ cls := "InchBordersModel", name := "reorders", desc := "(I)Z" } : Jvm.MethodName) prog_32_method_84_code (7 : Nat) (Option.some Jvm.ClassFile.FieldType.boolean)) ∈ lw_all := lw_g (lw_at lw_m11 51 rfl) rfl
theorem q2564 : (Jvm.Cond.instanceMethod ({ cls := "InchBordersModel", name := "caravanAt", desc := "(I)I" } : Jvm.MethodName)) ∈ lw_all := lw_g (lw_at lw_m11 53 rfl) rfl
theorem q2565 : (Jvm.Cond.selects "InchBordersModel" ({ cls := "InchBordersModel", name := "caravanAt", desc := "(I)I" } : Jvm.MethodName) ({ cls := "InchBordersModel", name := "caravanAt", desc := "(I)I" } : Jvm.MethodName)) ∈ lw_all := lw_g (lw_at lw_m11 54 rfl) rfl
theorem q2566 : (Jvm.Cond.code ({ cls := "InchBordersModel", name := "caravanAt", desc := "(I)I" } : Jvm.MethodName) prog_32_method_86_code (2 : Nat) (Option.some Jvm.ClassFile.FieldType.int)) ∈ lw_all := lw_g (lw_at lw_m11 55 rfl) rfl
theorem q2568 : (Jvm.Cond.instanceMethod ({ cls := "InchBordersModel", name := "part", desc := "(II)I" } : Jvm.MethodName)) ∈ lw_all := lw_g (lw_at lw_m11 57 rfl) rfl
theorem q2569 : (Jvm.Cond.selects "InchBordersModel" ({ cls := "InchBordersModel", name := "part", desc := "(II)I" } : Jvm.MethodName) ({ cls := "InchBordersModel", name := "part", desc := "(II)I" } : Jvm.MethodName)) ∈ lw_all := lw_g (lw_at lw_m11 58 rfl) rfl
theorem q2570 : (Jvm.Cond.code ({ cls := "InchBordersModel", name := "part", desc := "(II)I" } : Jvm.MethodName) prog_32_method_88_code (5 : Nat) (Option.some Jvm.ClassFile.FieldType.int)) ∈ lw_all := lw_g (lw_at lw_m11 59 rfl) rfl
theorem q2571 : (Jvm.Cond.methodLink "InchBordersModel" (401 : Nat) ({ cls := "InchBordersModel", name := "areParted", desc := "(III)Z" } : Jvm.MethodName)) ∈ lw_all := lw_g (lw_at lw_m11 60 rfl) rfl
theorem q2572 : (Jvm.Cond.privateMethod ({ cls := "InchBordersModel", name := "areParted", desc := "(III)Z" } : Jvm.MethodName)) ∈ lw_tbl := lw_at lw_m11 61 rfl
theorem q2573 : (Jvm.Cond.instanceMethod ({ cls := "InchBordersModel", name := "areParted", desc := "(III)Z" } : Jvm.MethodName)) ∈ lw_all := lw_g (lw_at lw_m11 62 rfl) rfl
theorem q2574 : (Jvm.Cond.code ({ cls := "InchBordersModel", name := "areParted", desc := "(III)Z" } : Jvm.MethodName) prog_32_method_87_code (7 : Nat) (Option.some Jvm.ClassFile.FieldType.boolean)) ∈ lw_all := lw_g (lw_at lw_m11 63 rfl) rfl
theorem q2576 : (Jvm.Cond.instanceMethod ({ cls := "InchBordersModel", name := "parting", desc := "()I" } : Jvm.MethodName)) ∈ lw_all := lw_g (lw_at lw_m11 65 rfl) rfl
theorem q2577 : (Jvm.Cond.selects "InchBordersModel" ({ cls := "InchBordersModel", name := "parting", desc := "()I" } : Jvm.MethodName) ({ cls := "InchBordersModel", name := "parting", desc := "()I" } : Jvm.MethodName)) ∈ lw_all := lw_g (lw_at lw_m11 66 rfl) rfl
theorem q2578 : (Jvm.Cond.code ({ cls := "InchBordersModel", name := "parting", desc := "()I" } : Jvm.MethodName) prog_32_method_89_code (1 : Nat) (Option.some Jvm.ClassFile.FieldType.int)) ∈ lw_all := lw_g (lw_at lw_m11 67 rfl) rfl
theorem q2580 : (Jvm.Cond.instanceMethod ({ cls := "InchBordersModel", name := "rests", desc := "()I" } : Jvm.MethodName)) ∈ lw_all := lw_g (lw_at lw_m11 69 rfl) rfl
theorem q2581 : (Jvm.Cond.selects "InchBordersModel" ({ cls := "InchBordersModel", name := "rests", desc := "()I" } : Jvm.MethodName) ({ cls := "InchBordersModel", name := "rests", desc := "()I" } : Jvm.MethodName)) ∈ lw_all := lw_g (lw_at lw_m11 70 rfl) rfl
theorem q2582 : (Jvm.Cond.code ({ cls := "InchBordersModel", name := "rests", desc := "()I" } : Jvm.MethodName) prog_32_method_91_code (3 : Nat) (Option.some Jvm.ClassFile.FieldType.int)) ∈ lw_all := lw_g (lw_at lw_m11 71 rfl) rfl
theorem q2583 : (Jvm.Cond.methodLink "InchBordersModel" (410 : Nat) ({ cls := "InchBordersModel", name := "isRest", desc := "()Z" } : Jvm.MethodName)) ∈ lw_all := lw_g (lw_at lw_m11 72 rfl) rfl
theorem q2584 : (Jvm.Cond.privateMethod ({ cls := "InchBordersModel", name := "isRest", desc := "()Z" } : Jvm.MethodName)) ∈ lw_tbl := lw_at lw_m11 73 rfl
theorem q2585 : (Jvm.Cond.instanceMethod ({ cls := "InchBordersModel", name := "isRest", desc := "()Z" } : Jvm.MethodName)) ∈ lw_all := lw_g (lw_at lw_m11 74 rfl) rfl
theorem q2586 : (Jvm.Cond.code ({ cls := "InchBordersModel", name := "isRest", desc := "()Z" } : Jvm.MethodName) prog_32_method_90_code (3 : Nat) (Option.some Jvm.ClassFile.FieldType.boolean)) ∈ lw_all := lw_g (lw_at lw_m11 75 rfl) rfl
theorem q2588 : (Jvm.Cond.instanceMethod ({ cls := "InchBordersModel", name := "pass", desc := "(I)I" } : Jvm.MethodName)) ∈ lw_all := lw_g (lw_at lw_m11 77 rfl) rfl
theorem q2589 : (Jvm.Cond.selects "InchBordersModel" ({ cls := "InchBordersModel", name := "pass", desc := "(I)I" } : Jvm.MethodName) ({ cls := "InchBordersModel", name := "pass", desc := "(I)I" } : Jvm.MethodName)) ∈ lw_all := lw_g (lw_at lw_m11 78 rfl) rfl
theorem q2590 : (Jvm.Cond.code ({ cls := "InchBordersModel", name := "pass", desc := "(I)I" } : Jvm.MethodName) prog_32_method_95_code (3 : Nat) (Option.some Jvm.ClassFile.FieldType.int)) ∈ lw_all := lw_g (lw_at lw_m11 79 rfl) rfl
theorem q2591 : (Jvm.Cond.methodLink "InchBordersModel" (421 : Nat) ({ cls := "InchBordersModel", name := "spells", desc := "(J)V" } : Jvm.MethodName)) ∈ lw_all := lw_g (lw_at lw_m11 80 rfl) rfl
theorem q2592 : (Jvm.Cond.privateMethod ({ cls := "InchBordersModel", name := "spells", desc := "(J)V" } : Jvm.MethodName)) ∈ lw_tbl := lw_at lw_m11 81 rfl
theorem q2593 : (Jvm.Cond.instanceMethod ({ cls := "InchBordersModel", name := "spells", desc := "(J)V" } : Jvm.MethodName)) ∈ lw_all := lw_g (lw_at lw_m11 82 rfl) rfl
theorem q2594 : (Jvm.Cond.code ({ cls := "InchBordersModel", name := "spells", desc := "(J)V" } : Jvm.MethodName) prog_32_method_93_code (4 : Nat) (Option.none : Option Jvm.ClassFile.FieldType)) ∈ lw_all := lw_g (lw_at lw_m11 83 rfl) rfl
theorem q2595 : (Jvm.Cond.constantLong "InchBordersModel" (416 : Nat) (255 : Int64)) ∈ lw_all := lw_g (lw_at lw_m11 84 rfl) rfl
theorem q2596 : (Jvm.Cond.methodLink "InchBordersModel" (418 : Nat) ({ cls := "InchBordersModel", name := "lays", desc := "(I)V" } : Jvm.MethodName)) ∈ lw_all := lw_g (lw_at lw_m11 85 rfl) rfl
theorem q2597 : (Jvm.Cond.privateMethod ({ cls := "InchBordersModel", name := "lays", desc := "(I)V" } : Jvm.MethodName)) ∈ lw_tbl := lw_at lw_m11 86 rfl
theorem q2598 : (Jvm.Cond.instanceMethod ({ cls := "InchBordersModel", name := "lays", desc := "(I)V" } : Jvm.MethodName)) ∈ lw_all := lw_g (lw_at lw_m11 87 rfl) rfl
theorem q2599 : (Jvm.Cond.code ({ cls := "InchBordersModel", name := "lays", desc := "(I)V" } : Jvm.MethodName) prog_32_method_92_code (2 : Nat) (Option.none : Option Jvm.ClassFile.FieldType)) ∈ lw_all := lw_g (lw_at lw_m11 88 rfl) rfl
theorem q2600 : (Jvm.Cond.methodLink "InchBordersModel" (425 : Nat) ({ cls := "InchBordersModel", name := "says", desc := "(J)V" } : Jvm.MethodName)) ∈ lw_all := lw_g (lw_at lw_m11 89 rfl) rfl
theorem q2601 : (Jvm.Cond.privateMethod ({ cls := "InchBordersModel", name := "says", desc := "(J)V" } : Jvm.MethodName)) ∈ lw_tbl := lw_at lw_m11 90 rfl
theorem q2602 : (Jvm.Cond.instanceMethod ({ cls := "InchBordersModel", name := "says", desc := "(J)V" } : Jvm.MethodName)) ∈ lw_all := lw_g (lw_at lw_m11 91 rfl) rfl
theorem q2603 : (Jvm.Cond.code ({ cls := "InchBordersModel", name := "says", desc := "(J)V" } : Jvm.MethodName) prog_32_method_94_code (3 : Nat) (Option.none : Option Jvm.ClassFile.FieldType)) ∈ lw_all := lw_g (lw_at lw_m11 92 rfl) rfl
theorem q2605 : (Jvm.Cond.instanceMethod ({ cls := "InchBordersModel", name := "byteAt", desc := "(I)I" } : Jvm.MethodName)) ∈ lw_all := lw_g (lw_at lw_m11 94 rfl) rfl
theorem q2606 : (Jvm.Cond.selects "InchBordersModel" ({ cls := "InchBordersModel", name := "byteAt", desc := "(I)I" } : Jvm.MethodName) ({ cls := "InchBordersModel", name := "byteAt", desc := "(I)I" } : Jvm.MethodName)) ∈ lw_all := lw_g (lw_at lw_m11 95 rfl) rfl
theorem q2607 : (Jvm.Cond.code ({ cls := "InchBordersModel", name := "byteAt", desc := "(I)I" } : Jvm.MethodName) prog_32_method_96_code (2 : Nat) (Option.some Jvm.ClassFile.FieldType.int)) ∈ lw_all := lw_g (lw_at lw_m11 96 rfl) rfl
theorem q2609 : (Jvm.Cond.instanceMethod ({ cls := "InchBordersModel", name := "drawn", desc := "(II)I" } : Jvm.MethodName)) ∈ lw_all := lw_g (lw_at lw_m11 98 rfl) rfl
theorem q2610 : (Jvm.Cond.selects "InchBordersModel" ({ cls := "InchBordersModel", name := "drawn", desc := "(II)I" } : Jvm.MethodName) ({ cls := "InchBordersModel", name := "drawn", desc := "(II)I" } : Jvm.MethodName)) ∈ lw_all := lw_g (lw_at lw_m11 99 rfl) rfl
theorem q2611 : (Jvm.Cond.code ({ cls := "InchBordersModel", name := "drawn", desc := "(II)I" } : Jvm.MethodName) prog_32_method_99_code (3 : Nat) (Option.some Jvm.ClassFile.FieldType.int)) ∈ lw_all := lw_g (lw_at lw_m11 100 rfl) rfl
theorem q2612 : (Jvm.Cond.methodLink "InchBordersModel" (435 : Nat) ({ cls := "InchBordersModel", name := "draws", desc := "(II)I" } : Jvm.MethodName)) ∈ lw_all := lw_g (lw_at lw_m11 101 rfl) rfl
theorem q2613 : (Jvm.Cond.privateMethod ({ cls := "InchBordersModel", name := "draws", desc := "(II)I" } : Jvm.MethodName)) ∈ lw_tbl := lw_at lw_m11 102 rfl
theorem q2614 : (Jvm.Cond.instanceMethod ({ cls := "InchBordersModel", name := "draws", desc := "(II)I" } : Jvm.MethodName)) ∈ lw_all := lw_g (lw_at lw_m11 103 rfl) rfl
theorem q2615 : (Jvm.Cond.code ({ cls := "InchBordersModel", name := "draws", desc := "(II)I" } : Jvm.MethodName) prog_32_method_98_code (6 : Nat) (Option.some Jvm.ClassFile.FieldType.int)) ∈ lw_all := lw_g (lw_at lw_m11 104 rfl) rfl
theorem q2616 : (Jvm.Cond.methodLink "InchBordersModel" (432 : Nat) ({ cls := "InchBordersModel", name := "draw", desc := "(I)I" } : Jvm.MethodName)) ∈ lw_all := lw_g (lw_at lw_m11 105 rfl) rfl
theorem q2617 : (Jvm.Cond.privateMethod ({ cls := "InchBordersModel", name := "draw", desc := "(I)I" } : Jvm.MethodName)) ∈ lw_tbl := lw_at lw_m11 106 rfl
theorem q2618 : (Jvm.Cond.instanceMethod ({ cls := "InchBordersModel", name := "draw", desc := "(I)I" } : Jvm.MethodName)) ∈ lw_all := lw_g (lw_at lw_m11 107 rfl) rfl
theorem q2619 : (Jvm.Cond.code ({ cls := "InchBordersModel", name := "draw", desc := "(I)I" } : Jvm.MethodName) prog_32_method_97_code (2 : Nat) (Option.some Jvm.ClassFile.FieldType.int)) ∈ lw_all := lw_g (lw_at lw_m11 108 rfl) rfl
theorem q2620 : (Jvm.Cond.constant "InchBordersModel" (431 : Nat) (1103515245 : Int32)) ∈ lw_all := lw_g (lw_at lw_m11 109 rfl) rfl
theorem q2622 : (Jvm.Cond.instanceMethod ({ cls := "InchBordersModel", name := "odds", desc := "(III)I" } : Jvm.MethodName)) ∈ lw_all := lw_g (lw_at lw_m11 111 rfl) rfl
theorem q2623 : (Jvm.Cond.selects "InchBordersModel" ({ cls := "InchBordersModel", name := "odds", desc := "(III)I" } : Jvm.MethodName) ({ cls := "InchBordersModel", name := "odds", desc := "(III)I" } : Jvm.MethodName)) ∈ lw_all := lw_g (lw_at lw_m11 112 rfl) rfl
theorem q2624 : (Jvm.Cond.code ({ cls := "InchBordersModel", name := "odds", desc := "(III)I" } : Jvm.MethodName) prog_32_method_100_code (7 : Nat) (Option.some Jvm.ClassFile.FieldType.int)) ∈ lw_all := lw_g (lw_at lw_m11 113 rfl) rfl
theorem q2626 : (Jvm.Cond.instanceMethod ({ cls := "InchBordersModel", name := "book", desc := "(I)I" } : Jvm.MethodName)) ∈ lw_all := lw_g (lw_at lw_m11 115 rfl) rfl
theorem q2627 : (Jvm.Cond.selects "InchBordersModel" ({ cls := "InchBordersModel", name := "book", desc := "(I)I" } : Jvm.MethodName) ({ cls := "InchBordersModel", name := "book", desc := "(I)I" } : Jvm.MethodName)) ∈ lw_all := lw_g (lw_at lw_m11 116 rfl) rfl
theorem q2628 : (Jvm.Cond.code ({ cls := "InchBordersModel", name := "book", desc := "(I)I" } : Jvm.MethodName) prog_32_method_103_code (4 : Nat) (Option.some Jvm.ClassFile.FieldType.int)) ∈ lw_all := lw_g (lw_at lw_m11 117 rfl) rfl
theorem q2629 : (Jvm.Cond.methodLink "InchBordersModel" (441 : Nat) ({ cls := "InchBordersModel", name := "bookLine", desc := "()Z" } : Jvm.MethodName)) ∈ lw_all := lw_g (lw_at lw_m11 118 rfl) rfl
theorem q2630 : (Jvm.Cond.privateMethod ({ cls := "InchBordersModel", name := "bookLine", desc := "()Z" } : Jvm.MethodName)) ∈ lw_tbl := lw_at lw_m11 119 rfl
theorem q2631 : (Jvm.Cond.instanceMethod ({ cls := "InchBordersModel", name := "bookLine", desc := "()Z" } : Jvm.MethodName)) ∈ lw_all := lw_g (lw_at lw_m11 120 rfl) rfl
theorem q2632 : (Jvm.Cond.code ({ cls := "InchBordersModel", name := "bookLine", desc := "()Z" } : Jvm.MethodName) prog_32_method_101_code (5 : Nat) (Option.some Jvm.ClassFile.FieldType.boolean)) ∈ lw_all := lw_g (lw_at lw_m11 121 rfl) rfl
theorem q2633 : (Jvm.Cond.methodLink "InchBordersModel" (444 : Nat) ({ cls := "InchBordersModel", name := "does", desc := "(IIII)I" } : Jvm.MethodName)) ∈ lw_all := lw_g (lw_at lw_m11 122 rfl) rfl
theorem q2634 : (Jvm.Cond.privateMethod ({ cls := "InchBordersModel", name := "does", desc := "(IIII)I" } : Jvm.MethodName)) ∈ lw_tbl := lw_at lw_m11 123 rfl
theorem q2635 : (Jvm.Cond.instanceMethod ({ cls := "InchBordersModel", name := "does", desc := "(IIII)I" } : Jvm.MethodName)) ∈ lw_all := lw_g (lw_at lw_m11 124 rfl) rfl
theorem q2636 : (Jvm.Cond.code ({ cls := "InchBordersModel", name := "does", desc := "(IIII)I" } : Jvm.MethodName) prog_32_method_102_code (6 : Nat) (Option.some Jvm.ClassFile.FieldType.int)) ∈ lw_all := lw_g (lw_at lw_m11 125 rfl) rfl
theorem q2638 : (Jvm.Cond.instanceMethod ({ cls := "InchBordersModel", name := "told", desc := "(I)I" } : Jvm.MethodName)) ∈ lw_all := lw_g (lw_at lw_m11 127 rfl) rfl
theorem q2639 : (Jvm.Cond.selects "InchBordersModel" ({ cls := "InchBordersModel", name := "told", desc := "(I)I" } : Jvm.MethodName) ({ cls := "InchBordersModel", name := "told", desc := "(I)I" } : Jvm.MethodName)) ∈ lw_all := lw_g (lw_at lw_m11 128 rfl) rfl
theorem q2640 : (Jvm.Cond.code ({ cls := "InchBordersModel", name := "told", desc := "(I)I" } : Jvm.MethodName) prog_32_method_104_code (2 : Nat) (Option.some Jvm.ClassFile.FieldType.int)) ∈ lw_all := lw_g (lw_at lw_m11 129 rfl) rfl
theorem q2642 : (Jvm.Cond.instanceMethod ({ cls := "InchBordersModel", name := "sentence", desc := "()I" } : Jvm.MethodName)) ∈ lw_all := lw_g (lw_at lw_m11 131 rfl) rfl
theorem q2643 : (Jvm.Cond.selects "InchBordersModel" ({ cls := "InchBordersModel", name := "sentence", desc := "()I" } : Jvm.MethodName) ({ cls := "InchBordersModel", name := "sentence", desc := "()I" } : Jvm.MethodName)) ∈ lw_all := lw_g (lw_at lw_m11 132 rfl) rfl
theorem q2644 : (Jvm.Cond.code ({ cls := "InchBordersModel", name := "sentence", desc := "()I" } : Jvm.MethodName) prog_32_method_111_code (3 : Nat) (Option.some Jvm.ClassFile.FieldType.int)) ∈ lw_all := lw_g (lw_at lw_m11 133 rfl) rfl
theorem q2645 : (Jvm.Cond.methodLink "InchBordersModel" (471 : Nat) ({ cls := "InchBordersModel", name := "nots", desc := "()V" } : Jvm.MethodName)) ∈ lw_all := lw_g (lw_at lw_m11 134 rfl) rfl
theorem q2646 : (Jvm.Cond.privateMethod ({ cls := "InchBordersModel", name := "nots", desc := "()V" } : Jvm.MethodName)) ∈ lw_tbl := lw_at lw_m11 135 rfl
theorem q2647 : (Jvm.Cond.instanceMethod ({ cls := "InchBordersModel", name := "nots", desc := "()V" } : Jvm.MethodName)) ∈ lw_all := lw_g (lw_at lw_m11 136 rfl) rfl
theorem q2648 : (Jvm.Cond.code ({ cls := "InchBordersModel", name := "nots", desc := "()V" } : Jvm.MethodName) prog_32_method_107_code (1 : Nat) (Option.none : Option Jvm.ClassFile.FieldType)) ∈ lw_all := lw_g (lw_at lw_m11 137 rfl) rfl
theorem q2649 : (Jvm.Cond.methodLink "InchBordersModel" (456 : Nat) ({ cls := "InchBordersModel", name := "code", desc := "(III)V" } : Jvm.MethodName)) ∈ lw_all := lw_g (lw_at lw_m11 138 rfl) rfl
theorem q2650 : (Jvm.Cond.privateMethod ({ cls := "InchBordersModel", name := "code", desc := "(III)V" } : Jvm.MethodName)) ∈ lw_tbl := lw_at lw_m11 139 rfl
theorem q2651 : (Jvm.Cond.instanceMethod ({ cls := "InchBordersModel", name := "code", desc := "(III)V" } : Jvm.MethodName)) ∈ lw_all := lw_g (lw_at lw_m11 140 rfl) rfl
theorem q2652 : (Jvm.Cond.code ({ cls := "InchBordersModel", name := "code", desc := "(III)V" } : Jvm.MethodName) prog_32_method_105_code (4 : Nat) (Option.none : Option Jvm.ClassFile.FieldType)) ∈ lw_all := lw_g (lw_at lw_m11 141 rfl) rfl
theorem q2653 : (Jvm.Cond.methodLink "InchBordersModel" (474 : Nat) ({ cls := "InchBordersModel", name := "joins", desc := "(I)V" } : Jvm.MethodName)) ∈ lw_all := lw_g (lw_at lw_m11 142 rfl) rfl
theorem q2654 : (Jvm.Cond.privateMethod ({ cls := "InchBordersModel", name := "joins", desc := "(I)V" } : Jvm.MethodName)) ∈ lw_tbl := lw_at lw_m11 143 rfl
theorem q2655 : (Jvm.Cond.instanceMethod ({ cls := "InchBordersModel", name := "joins", desc := "(I)V" } : Jvm.MethodName)) ∈ lw_all := lw_g (lw_at lw_m11 144 rfl) rfl
theorem q2656 : (Jvm.Cond.code ({ cls := "InchBordersModel", name := "joins", desc := "(I)V" } : Jvm.MethodName) prog_32_method_106_code (2 : Nat) (Option.none : Option Jvm.ClassFile.FieldType)) ∈ lw_all := lw_g (lw_at lw_m11 145 rfl) rfl
theorem q2657 : (Jvm.Cond.methodLink "InchBordersModel" (477 : Nat) ({ cls := "InchBordersModel", name := "behind", desc := "()Z" } : Jvm.MethodName)) ∈ lw_all := lw_g (lw_at lw_m11 146 rfl) rfl
theorem q2658 : (Jvm.Cond.privateMethod ({ cls := "InchBordersModel", name := "behind", desc := "()Z" } : Jvm.MethodName)) ∈ lw_tbl := lw_at lw_m11 147 rfl
theorem q2659 : (Jvm.Cond.instanceMethod ({ cls := "InchBordersModel", name := "behind", desc := "()Z" } : Jvm.MethodName)) ∈ lw_all := lw_g (lw_at lw_m11 148 rfl) rfl
theorem q2660 : (Jvm.Cond.code ({ cls := "InchBordersModel", name := "behind", desc := "()Z" } : Jvm.MethodName) prog_32_method_110_code (1 : Nat) (Option.some Jvm.ClassFile.FieldType.boolean)) ∈ lw_all := lw_g (lw_at lw_m11 149 rfl) rfl
theorem q2661 : (Jvm.Cond.methodLink "InchBordersModel" (480 : Nat) ({ cls := "InchBordersModel", name := "operand", desc := "()Z" } : Jvm.MethodName)) ∈ lw_all := lw_g (lw_at lw_m11 150 rfl) rfl
theorem q2662 : (Jvm.Cond.privateMethod ({ cls := "InchBordersModel", name := "operand", desc := "()Z" } : Jvm.MethodName)) ∈ lw_tbl := lw_at lw_m11 151 rfl
theorem q2663 : (Jvm.Cond.instanceMethod ({ cls := "InchBordersModel", name := "operand", desc := "()Z" } : Jvm.MethodName)) ∈ lw_all := lw_g (lw_at lw_m11 152 rfl) rfl
theorem q2664 : (Jvm.Cond.code ({ cls := "InchBordersModel", name := "operand", desc := "()Z" } : Jvm.MethodName) prog_32_method_109_code (5 : Nat) (Option.some Jvm.ClassFile.FieldType.boolean)) ∈ lw_all := lw_g (lw_at lw_m11 153 rfl) rfl
theorem q2665 : (Jvm.Cond.methodLink "InchBordersModel" (462 : Nat) ({ cls := "InchBordersModel", name := "leafOf", desc := "()I" } : Jvm.MethodName)) ∈ lw_all := lw_g (lw_at lw_m11 154 rfl) rfl
theorem q2666 : (Jvm.Cond.privateMethod ({ cls := "InchBordersModel", name := "leafOf", desc := "()I" } : Jvm.MethodName)) ∈ lw_tbl := lw_at lw_m11 155 rfl
theorem q2667 : (Jvm.Cond.instanceMethod ({ cls := "InchBordersModel", name := "leafOf", desc := "()I" } : Jvm.MethodName)) ∈ lw_all := lw_g (lw_at lw_m11 156 rfl) rfl
theorem q2668 : (Jvm.Cond.code ({ cls := "InchBordersModel", name := "leafOf", desc := "()I" } : Jvm.MethodName) prog_32_method_108_code (1 : Nat) (Option.some Jvm.ClassFile.FieldType.int)) ∈ lw_all := lw_g (lw_at lw_m11 157 rfl) rfl
theorem q2670 : (Jvm.Cond.instanceMethod ({ cls := "InchBordersModel", name := "said", desc := "(I)I" } : Jvm.MethodName)) ∈ lw_all := lw_g (lw_at lw_m11 159 rfl) rfl
theorem q2671 : (Jvm.Cond.selects "InchBordersModel" ({ cls := "InchBordersModel", name := "said", desc := "(I)I" } : Jvm.MethodName) ({ cls := "InchBordersModel", name := "said", desc := "(I)I" } : Jvm.MethodName)) ∈ lw_all := lw_g (lw_at lw_m11 160 rfl) rfl
theorem q2672 : (Jvm.Cond.code ({ cls := "InchBordersModel", name := "said", desc := "(I)I" } : Jvm.MethodName) prog_32_method_114_code (4 : Nat) (Option.some Jvm.ClassFile.FieldType.int)) ∈ lw_all := lw_g (lw_at lw_m11 161 rfl) rfl
theorem q2673 : (Jvm.Cond.methodLink "InchBordersModel" (487 : Nat) ({ cls := "InchBordersModel", name := "isSaid", desc := "(I)Z" } : Jvm.MethodName)) ∈ lw_all := lw_g (lw_at lw_m11 162 rfl) rfl
theorem q2674 : (Jvm.Cond.privateMethod ({ cls := "InchBordersModel", name := "isSaid", desc := "(I)Z" } : Jvm.MethodName)) ∈ lw_tbl := lw_at lw_m11 163 rfl
theorem q2675 : (Jvm.Cond.instanceMethod ({ cls := "InchBordersModel", name := "isSaid", desc := "(I)Z" } : Jvm.MethodName)) ∈ lw_all := lw_g (lw_at lw_m11 164 rfl) rfl
theorem q2676 : (Jvm.Cond.code ({ cls := "InchBordersModel", name := "isSaid", desc := "(I)Z" } : Jvm.MethodName) prog_32_method_113_code (5 : Nat) (Option.some Jvm.ClassFile.FieldType.boolean)) ∈ lw_all := lw_g (lw_at lw_m11 165 rfl) rfl
theorem q2677 : (Jvm.Cond.methodLink "InchBordersModel" (483 : Nat) ({ cls := "InchBordersModel", name := "isLeaf", desc := "(IIII)Z" } : Jvm.MethodName)) ∈ lw_all := lw_g (lw_at lw_m11 166 rfl) rfl
theorem q2678 : (Jvm.Cond.privateMethod ({ cls := "InchBordersModel", name := "isLeaf", desc := "(IIII)Z" } : Jvm.MethodName)) ∈ lw_tbl := lw_at lw_m11 167 rfl
theorem q2679 : (Jvm.Cond.instanceMethod ({ cls := "InchBordersModel", name := "isLeaf", desc := "(IIII)Z" } : Jvm.MethodName)) ∈ lw_all := lw_g (lw_at lw_m11 168 rfl) rfl
theorem q2680 : (Jvm.Cond.code ({ cls := "InchBordersModel", name := "isLeaf", desc := "(IIII)Z" } : Jvm.MethodName) prog_32_method_112_code (6 : Nat) (Option.some Jvm.ClassFile.FieldType.boolean)) ∈ lw_all := lw_g (lw_at lw_m11 169 rfl) rfl
theorem q2682 : (Jvm.Cond.instanceMethod ({ cls := "InchBordersModel", name := "image", desc := "(I)Z" } : Jvm.MethodName)) ∈ lw_all := lw_g (lw_at lw_m11 171 rfl) rfl
theorem q2683 : (Jvm.Cond.selects "InchBordersModel" ({ cls := "InchBordersModel", name := "image", desc := "(I)Z" } : Jvm.MethodName) ({ cls := "InchBordersModel", name := "image", desc := "(I)Z" } : Jvm.MethodName)) ∈ lw_all := lw_g (lw_at lw_m11 172 rfl) rfl
theorem q2684 : (Jvm.Cond.code ({ cls := "InchBordersModel", name := "image", desc := "(I)Z" } : Jvm.MethodName) prog_32_method_115_code (3 : Nat) (Option.some Jvm.ClassFile.FieldType.boolean)) ∈ lw_all := lw_g (lw_at lw_m11 173 rfl) rfl
theorem q2686 : (Jvm.Cond.instanceMethod ({ cls := "InchBordersModel", name := "restore", desc := "(I)Z" } : Jvm.MethodName)) ∈ lw_all := lw_g (lw_at lw_m11 175 rfl) rfl
theorem q2687 : (Jvm.Cond.selects "InchBordersModel" ({ cls := "InchBordersModel", name := "restore", desc := "(I)Z" } : Jvm.MethodName) ({ cls := "InchBordersModel", name := "restore", desc := "(I)Z" } : Jvm.MethodName)) ∈ lw_all := lw_g (lw_at lw_m11 176 rfl) rfl
theorem q2688 : (Jvm.Cond.code ({ cls := "InchBordersModel", name := "restore", desc := "(I)Z" } : Jvm.MethodName) prog_32_method_116_code (3 : Nat) (Option.some Jvm.ClassFile.FieldType.boolean)) ∈ lw_all := lw_g (lw_at lw_m11 177 rfl) rfl
theorem q2690 : (Jvm.Cond.instanceMethod ({ cls := "InchBordersModel", name := "count", desc := "(I)I" } : Jvm.MethodName)) ∈ lw_all := lw_g (lw_at lw_m11 179 rfl) rfl
theorem q2691 : (Jvm.Cond.selects "InchBordersModel" ({ cls := "InchBordersModel", name := "count", desc := "(I)I" } : Jvm.MethodName) ({ cls := "InchBordersModel", name := "count", desc := "(I)I" } : Jvm.MethodName)) ∈ lw_all := lw_g (lw_at lw_m11 180 rfl) rfl
theorem q2692 : (Jvm.Cond.code ({ cls := "InchBordersModel", name := "count", desc := "(I)I" } : Jvm.MethodName) prog_32_method_117_code (2 : Nat) (Option.some Jvm.ClassFile.FieldType.int)) ∈ lw_all := lw_g (lw_at lw_m11 181 rfl) rfl
theorem q2736 : (Jvm.Cond.castable "InchBordersModel" "java/lang/Object") ∈ lw_tbl := lw_at lw_m11 225 rfl
theorem in_X5 : ∀ w ∈ wsX50, w ∈ lw_all := lw_in wsX50 [2130, 2132, 2134, 2136, 2138, 2140, 2142, 2144, 2146, 2148, 2150, 2152, 2154, 2156, 2158, 2160, 2162, 2164, 2166, 2168, 2170, 2172, 2174, 2176, 2178, 2180, 2182, 2184, 2186, 2188, 2190, 2192, 2194, 2196, 2198, 2200, 2202, 2204, 2206, 2208, 2210, 2212, 2214, 2216, 2218, 2220, 2222, 2224, 2226, 2228, 2230, 2232, 2234, 2236, 2238, 2240, 2242, 2244, 2246, 2248] (by decide +kernel) (by decide +kernel)
