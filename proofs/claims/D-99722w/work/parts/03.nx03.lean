/-! InchBorders$Made -/
set_option maxRecDepth 100000
def RX22 : String := "InchBorders$Made"
def TX22 : u_T := fun k => match k with
  | 0 => ("InchBorders$Walk", "t", "LInchBorders$Times;", true)
  | 1 => ("InchBorders$Walk", "home", "I", true)
  | 2 => ("InchBorders$Walk", "spared", "I", true)
  | 3 => ("InchBorders$Walk", "path", "[I", true)
  | 4 => ("InchBorders$Made", "tall", "I", true)
  | 5 => ("InchBorders$Made", "first", "[I", true)
  | 6 => ("InchBorders$Made", "ends", "[I", true)
  | 7 => ("InchBorders$Made", "rows", "I", false)
  | _ => ("InchBorders$Made", "firsts", "I", false)
def tyX22 : Nat → FieldType := fun k => match k with
  | 0 => .object "InchBorders$Times"
  | 1 => .int
  | 2 => .int
  | 3 => .array .int
  | 4 => .int
  | 5 => .array .int
  | 6 => .array .int
  | 7 => .int
  | _ => .int
abbrev wsX220 : List Cond := u_ws RX22 TX22 9
theorem nmX22 : ∀ a, a < 9 → ∀ b, b < 9 → a ≠ b → (TX22 a).2.1 ≠ (TX22 b).2.1 := by decide +kernel
theorem tyX22_ok : ∀ k, k < 9 → parseFieldDescriptor (TX22 k).2.2.1 = some (tyX22 k) := by decide +kernel
abbrev cX22_ends : ByteArray := prog_15_method_2_code
def yX22_ends : MethodName := ⟨RX22, "ends", "(III)Z"⟩
def dkwX22_ends_2 : List UInt8 := [180, 0, 15, 28, 92, 46, 4, 96, 79, 3, 172]
abbrev dktX22_ends_2 : List UInt8 := dkwX22_ends_2 ++ []
def dkwX22_ends_1 : List UInt8 := [180, 0, 9, 3, 27, 184, 0, 28, 42, 27, 181, 0, 34, 42, 89, 180, 0, 22, 4, 96, 181, 0, 22, 42]
abbrev dktX22_ends_1 : List UInt8 := dkwX22_ends_1 ++ dktX22_ends_2
def dkwX22_ends_0 : List UInt8 := [29, 42, 180, 0, 18, 159, 0, 5, 3, 172, 42, 180, 0, 22, 154, 0, 22, 42, 180, 0, 25, 3, 42]
abbrev dktX22_ends_0 : List UInt8 := dkwX22_ends_0 ++ dktX22_ends_1
theorem dksX22_ends_0 : cX22_ends.data.toList.drop 0 = dktX22_ends_0 := by decide +kernel
theorem dksX22_ends_1 : cX22_ends.data.toList.drop 23 = dktX22_ends_1 := dk_seg dksX22_ends_0 23 rfl rfl
theorem dksX22_ends_2 : cX22_ends.data.toList.drop 47 = dktX22_ends_2 := dk_seg dksX22_ends_1 24 rfl rfl
theorem dX22_ends_0 : decode cX22_ends 0 = .ok (.iload_n 3, 1) := dk_29 (dk_at dksX22_ends_0 0 rfl rfl)
theorem dX22_ends_1 : decode cX22_ends 1 = .ok (.aload_n 0, 1) := dk_42 (dk_at dksX22_ends_0 1 rfl rfl)
theorem dX22_ends_2 : decode cX22_ends 2 = .ok (.getfield 18, 3) := dk_180 0 18 (dk_at dksX22_ends_0 2 rfl rfl)
theorem dX22_ends_5 : decode cX22_ends 5 = .ok (.if_icmp .eq 5, 3) := dk_159 0 5 (dk_at dksX22_ends_0 5 rfl rfl)
theorem dX22_ends_8 : decode cX22_ends 8 = .ok (.iconst 0, 1) := dk_3 (dk_at dksX22_ends_0 8 rfl rfl)
theorem dX22_ends_9 : decode cX22_ends 9 = .ok (.ireturn, 1) := dk_172 (dk_at dksX22_ends_0 9 rfl rfl)
theorem dX22_ends_10 : decode cX22_ends 10 = .ok (.aload_n 0, 1) := dk_42 (dk_at dksX22_ends_0 10 rfl rfl)
theorem dX22_ends_11 : decode cX22_ends 11 = .ok (.getfield 22, 3) := dk_180 0 22 (dk_at dksX22_ends_0 11 rfl rfl)
theorem dX22_ends_14 : decode cX22_ends 14 = .ok (.ifCond .ne 22, 3) := dk_154 0 22 (dk_at dksX22_ends_0 14 rfl rfl)
theorem dX22_ends_17 : decode cX22_ends 17 = .ok (.aload_n 0, 1) := dk_42 (dk_at dksX22_ends_0 17 rfl rfl)
theorem dX22_ends_18 : decode cX22_ends 18 = .ok (.getfield 25, 3) := dk_180 0 25 (dk_at dksX22_ends_0 18 rfl rfl)
theorem dX22_ends_21 : decode cX22_ends 21 = .ok (.iconst 0, 1) := dk_3 (dk_at dksX22_ends_0 21 rfl rfl)
theorem dX22_ends_22 : decode cX22_ends 22 = .ok (.aload_n 0, 1) := dk_42 (dk_at dksX22_ends_0 22 rfl rfl)
theorem dX22_ends_23 : decode cX22_ends 23 = .ok (.getfield 9, 3) := dk_180 0 9 (dk_at dksX22_ends_1 0 rfl rfl)
theorem dX22_ends_26 : decode cX22_ends 26 = .ok (.iconst 0, 1) := dk_3 (dk_at dksX22_ends_1 3 rfl rfl)
theorem dX22_ends_27 : decode cX22_ends 27 = .ok (.iload_n 1, 1) := dk_27 (dk_at dksX22_ends_1 4 rfl rfl)
theorem dX22_ends_28 : decode cX22_ends 28 = .ok (.invokestatic 28, 3) := dk_184 0 28 (dk_at dksX22_ends_1 5 rfl rfl)
theorem dX22_ends_31 : decode cX22_ends 31 = .ok (.aload_n 0, 1) := dk_42 (dk_at dksX22_ends_1 8 rfl rfl)
theorem dX22_ends_32 : decode cX22_ends 32 = .ok (.iload_n 1, 1) := dk_27 (dk_at dksX22_ends_1 9 rfl rfl)
theorem dX22_ends_33 : decode cX22_ends 33 = .ok (.putfield 34, 3) := dk_181 0 34 (dk_at dksX22_ends_1 10 rfl rfl)
theorem dX22_ends_36 : decode cX22_ends 36 = .ok (.aload_n 0, 1) := dk_42 (dk_at dksX22_ends_1 13 rfl rfl)
theorem dX22_ends_37 : decode cX22_ends 37 = .ok (.dup, 1) := dk_89 (dk_at dksX22_ends_1 14 rfl rfl)
theorem dX22_ends_38 : decode cX22_ends 38 = .ok (.getfield 22, 3) := dk_180 0 22 (dk_at dksX22_ends_1 15 rfl rfl)
theorem dX22_ends_41 : decode cX22_ends 41 = .ok (.iconst 1, 1) := dk_4 (dk_at dksX22_ends_1 18 rfl rfl)
theorem dX22_ends_42 : decode cX22_ends 42 = .ok (.iadd, 1) := dk_96 (dk_at dksX22_ends_1 19 rfl rfl)
theorem dX22_ends_43 : decode cX22_ends 43 = .ok (.putfield 22, 3) := dk_181 0 22 (dk_at dksX22_ends_1 20 rfl rfl)
theorem dX22_ends_46 : decode cX22_ends 46 = .ok (.aload_n 0, 1) := dk_42 (dk_at dksX22_ends_1 23 rfl rfl)
theorem dX22_ends_47 : decode cX22_ends 47 = .ok (.getfield 15, 3) := dk_180 0 15 (dk_at dksX22_ends_2 0 rfl rfl)
theorem dX22_ends_50 : decode cX22_ends 50 = .ok (.iload_n 2, 1) := dk_28 (dk_at dksX22_ends_2 3 rfl rfl)
theorem dX22_ends_51 : decode cX22_ends 51 = .ok (.dup2, 1) := dk_92 (dk_at dksX22_ends_2 4 rfl rfl)
theorem dX22_ends_52 : decode cX22_ends 52 = .ok (.iaload, 1) := dk_46 (dk_at dksX22_ends_2 5 rfl rfl)
theorem dX22_ends_53 : decode cX22_ends 53 = .ok (.iconst 1, 1) := dk_4 (dk_at dksX22_ends_2 6 rfl rfl)
theorem dX22_ends_54 : decode cX22_ends 54 = .ok (.iadd, 1) := dk_96 (dk_at dksX22_ends_2 7 rfl rfl)
theorem dX22_ends_55 : decode cX22_ends 55 = .ok (.iastore, 1) := dk_79 (dk_at dksX22_ends_2 8 rfl rfl)
theorem dX22_ends_56 : decode cX22_ends 56 = .ok (.iconst 0, 1) := dk_3 (dk_at dksX22_ends_2 9 rfl rfl)
theorem dX22_ends_57 : decode cX22_ends 57 = .ok (.ireturn, 1) := dk_172 (dk_at dksX22_ends_2 10 rfl rfl)
abbrev cX22_init : ByteArray := prog_15_method_1_code
def yX22_init : MethodName := ⟨RX22, "<init>", "(LInchBorders$Times;II)V"⟩
def dkwX22_init_1 : List UInt8 := [181, 0, 18, 177]
abbrev dktX22_init_1 : List UInt8 := dkwX22_init_1 ++ []
def dkwX22_init_0 : List UInt8 := [42, 43, 28, 3, 183, 0, 3, 42, 8, 188, 10, 181, 0, 9, 42, 16, 7, 188, 10, 181, 0, 15, 42, 29]
abbrev dktX22_init_0 : List UInt8 := dkwX22_init_0 ++ dktX22_init_1
theorem dksX22_init_0 : cX22_init.data.toList.drop 0 = dktX22_init_0 := by decide +kernel
theorem dksX22_init_1 : cX22_init.data.toList.drop 24 = dktX22_init_1 := dk_seg dksX22_init_0 24 rfl rfl
theorem dX22_init_0 : decode cX22_init 0 = .ok (.aload_n 0, 1) := dk_42 (dk_at dksX22_init_0 0 rfl rfl)
theorem dX22_init_1 : decode cX22_init 1 = .ok (.aload_n 1, 1) := dk_43 (dk_at dksX22_init_0 1 rfl rfl)
theorem dX22_init_2 : decode cX22_init 2 = .ok (.iload_n 2, 1) := dk_28 (dk_at dksX22_init_0 2 rfl rfl)
theorem dX22_init_3 : decode cX22_init 3 = .ok (.iconst 0, 1) := dk_3 (dk_at dksX22_init_0 3 rfl rfl)
theorem dX22_init_4 : decode cX22_init 4 = .ok (.invokespecial 3, 3) := dk_183 0 3 (dk_at dksX22_init_0 4 rfl rfl)
theorem dX22_init_7 : decode cX22_init 7 = .ok (.aload_n 0, 1) := dk_42 (dk_at dksX22_init_0 7 rfl rfl)
theorem dX22_init_8 : decode cX22_init 8 = .ok (.iconst 5, 1) := dk_8 (dk_at dksX22_init_0 8 rfl rfl)
theorem dX22_init_9 : decode cX22_init 9 = .ok (.newarray .int, 2) := dk_188_10 (dk_at dksX22_init_0 9 rfl rfl)
theorem dX22_init_11 : decode cX22_init 11 = .ok (.putfield 9, 3) := dk_181 0 9 (dk_at dksX22_init_0 11 rfl rfl)
theorem dX22_init_14 : decode cX22_init 14 = .ok (.aload_n 0, 1) := dk_42 (dk_at dksX22_init_0 14 rfl rfl)
theorem dX22_init_15 : decode cX22_init 15 = .ok (.bipush 7, 2) := dk_16 7 (dk_at dksX22_init_0 15 rfl rfl)
theorem dX22_init_17 : decode cX22_init 17 = .ok (.newarray .int, 2) := dk_188_10 (dk_at dksX22_init_0 17 rfl rfl)
theorem dX22_init_19 : decode cX22_init 19 = .ok (.putfield 15, 3) := dk_181 0 15 (dk_at dksX22_init_0 19 rfl rfl)
theorem dX22_init_22 : decode cX22_init 22 = .ok (.aload_n 0, 1) := dk_42 (dk_at dksX22_init_0 22 rfl rfl)
theorem dX22_init_23 : decode cX22_init 23 = .ok (.iload_n 3, 1) := dk_29 (dk_at dksX22_init_0 23 rfl rfl)
theorem dX22_init_24 : decode cX22_init 24 = .ok (.putfield 18, 3) := dk_181 0 18 (dk_at dksX22_init_1 0 rfl rfl)
theorem dX22_init_27 : decode cX22_init 27 = .ok (.return_, 1) := dk_177 (dk_at dksX22_init_1 3 rfl rfl)
abbrev cX22_likely : ByteArray := prog_15_method_3_code
def yX22_likely : MethodName := ⟨RX22, "likely", "()I"⟩
def dkwX22_likely_1 : List UInt8 := [164, 0, 5, 28, 60, 132, 2, 1, 167, 255, 230, 27, 172]
abbrev dktX22_likely_1 : List UInt8 := dkwX22_likely_1 ++ []
def dkwX22_likely_0 : List UInt8 := [3, 60, 4, 61, 28, 16, 7, 162, 0, 26, 42, 180, 0, 15, 28, 46, 42, 180, 0, 15, 27, 46]
abbrev dktX22_likely_0 : List UInt8 := dkwX22_likely_0 ++ dktX22_likely_1
theorem dksX22_likely_0 : cX22_likely.data.toList.drop 0 = dktX22_likely_0 := by decide +kernel
theorem dksX22_likely_1 : cX22_likely.data.toList.drop 22 = dktX22_likely_1 := dk_seg dksX22_likely_0 22 rfl rfl
theorem dX22_likely_0 : decode cX22_likely 0 = .ok (.iconst 0, 1) := dk_3 (dk_at dksX22_likely_0 0 rfl rfl)
theorem dX22_likely_1 : decode cX22_likely 1 = .ok (.istore_n 1, 1) := dk_60 (dk_at dksX22_likely_0 1 rfl rfl)
theorem dX22_likely_2 : decode cX22_likely 2 = .ok (.iconst 1, 1) := dk_4 (dk_at dksX22_likely_0 2 rfl rfl)
theorem dX22_likely_3 : decode cX22_likely 3 = .ok (.istore_n 2, 1) := dk_61 (dk_at dksX22_likely_0 3 rfl rfl)
theorem dX22_likely_4 : decode cX22_likely 4 = .ok (.iload_n 2, 1) := dk_28 (dk_at dksX22_likely_0 4 rfl rfl)
theorem dX22_likely_5 : decode cX22_likely 5 = .ok (.bipush 7, 2) := dk_16 7 (dk_at dksX22_likely_0 5 rfl rfl)
theorem dX22_likely_7 : decode cX22_likely 7 = .ok (.if_icmp .ge 26, 3) := dk_162 0 26 (dk_at dksX22_likely_0 7 rfl rfl)
theorem dX22_likely_10 : decode cX22_likely 10 = .ok (.aload_n 0, 1) := dk_42 (dk_at dksX22_likely_0 10 rfl rfl)
theorem dX22_likely_11 : decode cX22_likely 11 = .ok (.getfield 15, 3) := dk_180 0 15 (dk_at dksX22_likely_0 11 rfl rfl)
theorem dX22_likely_14 : decode cX22_likely 14 = .ok (.iload_n 2, 1) := dk_28 (dk_at dksX22_likely_0 14 rfl rfl)
theorem dX22_likely_15 : decode cX22_likely 15 = .ok (.iaload, 1) := dk_46 (dk_at dksX22_likely_0 15 rfl rfl)
theorem dX22_likely_16 : decode cX22_likely 16 = .ok (.aload_n 0, 1) := dk_42 (dk_at dksX22_likely_0 16 rfl rfl)
theorem dX22_likely_17 : decode cX22_likely 17 = .ok (.getfield 15, 3) := dk_180 0 15 (dk_at dksX22_likely_0 17 rfl rfl)
theorem dX22_likely_20 : decode cX22_likely 20 = .ok (.iload_n 1, 1) := dk_27 (dk_at dksX22_likely_0 20 rfl rfl)
theorem dX22_likely_21 : decode cX22_likely 21 = .ok (.iaload, 1) := dk_46 (dk_at dksX22_likely_0 21 rfl rfl)
theorem dX22_likely_22 : decode cX22_likely 22 = .ok (.if_icmp .le 5, 3) := dk_164 0 5 (dk_at dksX22_likely_1 0 rfl rfl)
theorem dX22_likely_25 : decode cX22_likely 25 = .ok (.iload_n 2, 1) := dk_28 (dk_at dksX22_likely_1 3 rfl rfl)
theorem dX22_likely_26 : decode cX22_likely 26 = .ok (.istore_n 1, 1) := dk_60 (dk_at dksX22_likely_1 4 rfl rfl)
theorem dX22_likely_27 : decode cX22_likely 27 = .ok (.iinc 2 1, 3) := dk_132 2 1 (dk_at dksX22_likely_1 5 rfl rfl)
theorem dX22_likely_30 : decode cX22_likely 30 = .ok (.goto (-26), 3) := dk_167 255 230 (dk_at dksX22_likely_1 8 rfl rfl)
theorem dX22_likely_33 : decode cX22_likely 33 = .ok (.iload_n 1, 1) := dk_27 (dk_at dksX22_likely_1 11 rfl rfl)
theorem dX22_likely_34 : decode cX22_likely 34 = .ok (.ireturn, 1) := dk_172 (dk_at dksX22_likely_1 12 rfl rfl)
theorem q153 : (Jvm.Cond.initialized "InchBorders$Made") ∈ lw_all := lw_g (lw_at lw_m1 42 rfl) rfl
theorem q1000 : (Jvm.Cond.selects "InchBorders$Made" ({ cls := "java/lang/Object", name := "getClass", desc := "()Ljava/lang/Class;" } : Jvm.MethodName) ({ cls := "java/lang/Object", name := "getClass", desc := "()Ljava/lang/Class;" } : Jvm.MethodName)) ∈ lw_all := lw_g (lw_at lw_m4 169 rfl) rfl
theorem q1418 : (Jvm.Cond.fieldLink "InchBorders$Made" (25 : Nat) "InchBorders$Made" "path" "[I") ∈ lw_all := lw_g (lw_at lw_m6 107 rfl) rfl
theorem q1419 : (Jvm.Cond.sameField "InchBorders$Made" "InchBorders$Walk" "path" "[I") ∈ lw_all := lw_g (lw_at lw_m6 108 rfl) rfl
theorem q1450 : (Jvm.Cond.selects "InchBorders$Made" ({ cls := "InchBorders$Walk", name := "goes", desc := "(IIIII)Z" } : Jvm.MethodName) ({ cls := "InchBorders$Walk", name := "goes", desc := "(IIIII)Z" } : Jvm.MethodName)) ∈ lw_all := lw_g (lw_at lw_m6 139 rfl) rfl
theorem q1462 : (Jvm.Cond.selects "InchBorders$Made" ({ cls := "InchBorders$Walk", name := "ends", desc := "(III)Z" } : Jvm.MethodName) ({ cls := "InchBorders$Made", name := "ends", desc := "(III)Z" } : Jvm.MethodName)) ∈ lw_all := lw_g (lw_at lw_m6 151 rfl) rfl
theorem q1463 : (Jvm.Cond.instanceMethod ({ cls := "InchBorders$Made", name := "ends", desc := "(III)Z" } : Jvm.MethodName)) ∈ lw_all := lw_g (lw_at lw_m6 152 rfl) rfl
theorem q1464 : (Jvm.Cond.code ({ cls := "InchBorders$Made", name := "ends", desc := "(III)Z" } : Jvm.MethodName) prog_15_method_2_code (4 : Nat) (Option.some Jvm.ClassFile.FieldType.boolean)) ∈ lw_all := lw_g (lw_at lw_m6 153 rfl) rfl
theorem q1465 : (Jvm.Cond.methodLink "InchBorders$Made" (28 : Nat) ({ cls := "java/lang/System", name := "arraycopy", desc := "(Ljava/lang/Object;ILjava/lang/Object;II)V" } : Jvm.MethodName)) ∈ lw_all := lw_g (lw_at lw_m6 154 rfl) rfl
theorem q1526 : (Jvm.Cond.instantiable "InchBorders$Made" (9 : Nat)) ∈ lw_all := lw_g (lw_at lw_m6 215 rfl) rfl
theorem q1528 : (Jvm.Cond.instanceMethod ({ cls := "InchBorders$Made", name := "<init>", desc := "(LInchBorders$Times;II)V" } : Jvm.MethodName)) ∈ lw_all := lw_g (lw_at lw_m6 217 rfl) rfl
theorem q1529 : (Jvm.Cond.code ({ cls := "InchBorders$Made", name := "<init>", desc := "(LInchBorders$Times;II)V" } : Jvm.MethodName) prog_15_method_1_code (4 : Nat) (Option.none : Option Jvm.ClassFile.FieldType)) ∈ lw_all := lw_g (lw_at lw_m6 218 rfl) rfl
theorem q1530 : (Jvm.Cond.methodLink "InchBorders$Made" (3 : Nat) ({ cls := "InchBorders$Walk", name := "<init>", desc := "(LInchBorders$Times;II)V" } : Jvm.MethodName)) ∈ lw_all := lw_g (lw_at lw_m6 219 rfl) rfl
theorem q1531 : (Jvm.Cond.fieldLink "InchBorders$Made" (18 : Nat) "InchBorders$Made" "tall" "I") ∈ lw_all := lw_g (lw_at lw_m6 220 rfl) rfl
theorem q1532 : (Jvm.Cond.fieldLink "InchBorders$Made" (9 : Nat) "InchBorders$Made" "first" "[I") ∈ lw_all := lw_g (lw_at lw_m6 221 rfl) rfl
theorem q1534 : (Jvm.Cond.fieldLink "InchBorders$Made" (15 : Nat) "InchBorders$Made" "ends" "[I") ∈ lw_all := lw_g (lw_at lw_m6 223 rfl) rfl
theorem q1535 : (Jvm.Cond.fieldLink "InchBorders$Made" (22 : Nat) "InchBorders$Made" "rows" "I") ∈ lw_all := lw_g (lw_at lw_m6 224 rfl) rfl
theorem q1537 : (Jvm.Cond.fieldLink "InchBorders$Made" (34 : Nat) "InchBorders$Made" "firsts" "I") ∈ lw_all := lw_g (lw_at lw_m6 226 rfl) rfl
theorem q1539 : (Jvm.Cond.laysFinal "InchBorders$Made" "InchBorders$Made" "tall" "I") ∈ lw_all := lw_g (lw_at lw_m6 228 rfl) rfl
theorem q1540 : (Jvm.Cond.soleField "InchBorders$Made" "tall") ∈ lw_all := lw_g (lw_at lw_m6 229 rfl) rfl
theorem q1541 : (Jvm.Cond.laysFinal "InchBorders$Made" "InchBorders$Made" "first" "[I") ∈ lw_all := lw_g (lw_at lw_m6 230 rfl) rfl
theorem q1542 : (Jvm.Cond.soleField "InchBorders$Made" "first") ∈ lw_all := lw_g (lw_at lw_m6 231 rfl) rfl
theorem q1543 : (Jvm.Cond.laysFinal "InchBorders$Made" "InchBorders$Made" "ends" "[I") ∈ lw_all := lw_g (lw_at lw_m6 232 rfl) rfl
theorem q1544 : (Jvm.Cond.soleField "InchBorders$Made" "ends") ∈ lw_all := lw_g (lw_at lw_m6 233 rfl) rfl
theorem q1545 : (Jvm.Cond.lays "InchBorders$Made" "InchBorders$Made" "rows" "I") ∈ lw_all := lw_g (lw_at lw_m6 234 rfl) rfl
theorem q1546 : (Jvm.Cond.soleField "InchBorders$Made" "rows") ∈ lw_all := lw_g (lw_at lw_m6 235 rfl) rfl
theorem q1547 : (Jvm.Cond.lays "InchBorders$Made" "InchBorders$Made" "firsts" "I") ∈ lw_all := lw_g (lw_at lw_m6 236 rfl) rfl
theorem q1548 : (Jvm.Cond.soleField "InchBorders$Made" "firsts") ∈ lw_all := lw_g (lw_at lw_m6 237 rfl) rfl
theorem q1549 : (Jvm.Cond.laysFinal "InchBorders$Made" "InchBorders$Walk" "t" "LInchBorders$Times;") ∈ lw_all := lw_g (lw_at lw_m6 238 rfl) rfl
theorem q1550 : (Jvm.Cond.laysFinal "InchBorders$Made" "InchBorders$Walk" "home" "I") ∈ lw_all := lw_g (lw_at lw_m6 239 rfl) rfl
theorem q1551 : (Jvm.Cond.laysFinal "InchBorders$Made" "InchBorders$Walk" "spared" "I") ∈ lw_all := lw_g (lw_at lw_m7 0 rfl) rfl
theorem q1552 : (Jvm.Cond.laysFinal "InchBorders$Made" "InchBorders$Walk" "path" "[I") ∈ lw_all := lw_g (lw_at lw_m7 1 rfl) rfl
theorem q1553 : (Jvm.Cond.superclass "InchBorders$Made" "InchBorders$Walk") ∈ lw_all := lw_g (lw_at lw_m7 2 rfl) rfl
theorem q1555 : (Jvm.Cond.sameMethod "InchBorders$Made" "InchBorders$Walk" "starts" "(II)Z") ∈ lw_all := lw_g (lw_at lw_m7 4 rfl) rfl
theorem q1556 : (Jvm.Cond.selects "InchBorders$Made" ({ cls := "InchBorders$Made", name := "starts", desc := "(II)Z" } : Jvm.MethodName) ({ cls := "InchBorders$Walk", name := "starts", desc := "(II)Z" } : Jvm.MethodName)) ∈ lw_all := lw_g (lw_at lw_m7 5 rfl) rfl
theorem q1558 : (Jvm.Cond.instanceMethod ({ cls := "InchBorders$Made", name := "likely", desc := "()I" } : Jvm.MethodName)) ∈ lw_all := lw_g (lw_at lw_m7 7 rfl) rfl
theorem q1559 : (Jvm.Cond.selects "InchBorders$Made" ({ cls := "InchBorders$Made", name := "likely", desc := "()I" } : Jvm.MethodName) ({ cls := "InchBorders$Made", name := "likely", desc := "()I" } : Jvm.MethodName)) ∈ lw_all := lw_g (lw_at lw_m7 8 rfl) rfl
theorem q1560 : (Jvm.Cond.code ({ cls := "InchBorders$Made", name := "likely", desc := "()I" } : Jvm.MethodName) prog_15_method_3_code (3 : Nat) (Option.some Jvm.ClassFile.FieldType.int)) ∈ lw_all := lw_g (lw_at lw_m7 9 rfl) rfl
theorem q2751 : (Jvm.Cond.castable "InchBorders$Made" "java/lang/Object") ∈ lw_tbl := lw_at lw_m12 0 rfl
theorem in_X22 : ∀ w ∈ wsX220, w ∈ lw_all := lw_in wsX220 [1549, 1550, 1551, 1552, 1539, 1541, 1543, 1545, 1547] (by decide +kernel) (by decide +kernel)

/-! InchBorders$BookReader -/
set_option maxRecDepth 100000
def RX23 : String := "InchBorders$BookReader"
def TX23 : u_T := fun k => match k with
  | 0 => ("InchBorders$Reader", "tape", "[B", true)
  | 1 => ("InchBorders$Reader", "size", "I", true)
  | 2 => ("InchBorders$Reader", "limit", "I", true)
  | 3 => ("InchBorders$Reader", "to", "I", false)
  | 4 => ("InchBorders$Reader", "kind", "I", false)
  | 5 => ("InchBorders$Reader", "from", "I", false)
  | 6 => ("InchBorders$Reader", "number", "I", false)
  | 7 => ("InchBorders$Reader", "sign", "I", false)
  | 8 => ("InchBorders$Reader", "word", "Ljava/lang/String;", false)
  | 9 => ("InchBorders$BookReader", "a", "LInchBorders$Atlas;", true)
  | _ => ("InchBorders$BookReader", "acts", "Ljava/util/ArrayList;", true)
def tyX23 : Nat → FieldType := fun k => match k with
  | 0 => .array .byte
  | 1 => .int
  | 2 => .int
  | 3 => .int
  | 4 => .int
  | 5 => .int
  | 6 => .int
  | 7 => .int
  | 8 => .object "java/lang/String"
  | 9 => .object "InchBorders$Atlas"
  | _ => .object "java/util/ArrayList"
abbrev wsX230 : List Cond := u_ws RX23 TX23 11
theorem nmX23 : ∀ a, a < 11 → ∀ b, b < 11 → a ≠ b → (TX23 a).2.1 ≠ (TX23 b).2.1 := by decide +kernel
theorem tyX23_ok : ∀ k, k < 11 → parseFieldDescriptor (TX23 k).2.2.1 = some (tyX23 k) := by decide +kernel
abbrev cX23_init : ByteArray := prog_5_method_1_code
def yX23_init : MethodName := ⟨RX23, "<init>", "([BILInchBorders$Atlas;)V"⟩
def dkwX23_init_1 : List UInt8 := [181, 0, 20, 177]
abbrev dktX23_init_1 : List UInt8 := dkwX23_init_1 ++ []
def dkwX23_init_0 : List UInt8 := [42, 43, 28, 17, 1, 144, 183, 0, 3, 42, 187, 0, 9, 89, 183, 0, 11, 181, 0, 14, 42, 45]
abbrev dktX23_init_0 : List UInt8 := dkwX23_init_0 ++ dktX23_init_1
theorem dksX23_init_0 : cX23_init.data.toList.drop 0 = dktX23_init_0 := by decide +kernel
theorem dksX23_init_1 : cX23_init.data.toList.drop 22 = dktX23_init_1 := dk_seg dksX23_init_0 22 rfl rfl
theorem dX23_init_0 : decode cX23_init 0 = .ok (.aload_n 0, 1) := dk_42 (dk_at dksX23_init_0 0 rfl rfl)
theorem dX23_init_1 : decode cX23_init 1 = .ok (.aload_n 1, 1) := dk_43 (dk_at dksX23_init_0 1 rfl rfl)
theorem dX23_init_2 : decode cX23_init 2 = .ok (.iload_n 2, 1) := dk_28 (dk_at dksX23_init_0 2 rfl rfl)
theorem dX23_init_3 : decode cX23_init 3 = .ok (.sipush 400, 3) := dk_17 1 144 (dk_at dksX23_init_0 3 rfl rfl)
theorem dX23_init_6 : decode cX23_init 6 = .ok (.invokespecial 3, 3) := dk_183 0 3 (dk_at dksX23_init_0 6 rfl rfl)
theorem dX23_init_9 : decode cX23_init 9 = .ok (.aload_n 0, 1) := dk_42 (dk_at dksX23_init_0 9 rfl rfl)
theorem dX23_init_10 : decode cX23_init 10 = .ok (.new 9, 3) := dk_187 0 9 (dk_at dksX23_init_0 10 rfl rfl)
theorem dX23_init_13 : decode cX23_init 13 = .ok (.dup, 1) := dk_89 (dk_at dksX23_init_0 13 rfl rfl)
theorem dX23_init_14 : decode cX23_init 14 = .ok (.invokespecial 11, 3) := dk_183 0 11 (dk_at dksX23_init_0 14 rfl rfl)
theorem dX23_init_17 : decode cX23_init 17 = .ok (.putfield 14, 3) := dk_181 0 14 (dk_at dksX23_init_0 17 rfl rfl)
theorem dX23_init_20 : decode cX23_init 20 = .ok (.aload_n 0, 1) := dk_42 (dk_at dksX23_init_0 20 rfl rfl)
theorem dX23_init_21 : decode cX23_init 21 = .ok (.aload_n 3, 1) := dk_45 (dk_at dksX23_init_0 21 rfl rfl)
theorem dX23_init_22 : decode cX23_init 22 = .ok (.putfield 20, 3) := dk_181 0 20 (dk_at dksX23_init_1 0 rfl rfl)
theorem dX23_init_25 : decode cX23_init 25 = .ok (.return_, 1) := dk_177 (dk_at dksX23_init_1 3 rfl rfl)
abbrev cX23_read : ByteArray := prog_5_method_2_code
def yX23_read : MethodName := ⟨RX23, "read", "()Ljava/util/ArrayList;"⟩
def dkwX23_read_1 : List UInt8 := [182, 0, 39, 167, 255, 233, 42, 180, 0, 14, 176]
abbrev dktX23_read_1 : List UInt8 := dkwX23_read_1 ++ []
def dkwX23_read_0 : List UInt8 := [42, 182, 0, 24, 42, 180, 0, 27, 153, 0, 22, 42, 180, 0, 14, 42, 182, 0, 31, 182, 0, 35, 87, 42]
abbrev dktX23_read_0 : List UInt8 := dkwX23_read_0 ++ dktX23_read_1
theorem dksX23_read_0 : cX23_read.data.toList.drop 0 = dktX23_read_0 := by decide +kernel
theorem dksX23_read_1 : cX23_read.data.toList.drop 24 = dktX23_read_1 := dk_seg dksX23_read_0 24 rfl rfl
theorem dX23_read_0 : decode cX23_read 0 = .ok (.aload_n 0, 1) := dk_42 (dk_at dksX23_read_0 0 rfl rfl)
theorem dX23_read_1 : decode cX23_read 1 = .ok (.invokevirtual 24, 3) := dk_182 0 24 (dk_at dksX23_read_0 1 rfl rfl)
theorem dX23_read_4 : decode cX23_read 4 = .ok (.aload_n 0, 1) := dk_42 (dk_at dksX23_read_0 4 rfl rfl)
theorem dX23_read_5 : decode cX23_read 5 = .ok (.getfield 27, 3) := dk_180 0 27 (dk_at dksX23_read_0 5 rfl rfl)
theorem dX23_read_8 : decode cX23_read 8 = .ok (.ifCond .eq 22, 3) := dk_153 0 22 (dk_at dksX23_read_0 8 rfl rfl)
theorem dX23_read_11 : decode cX23_read 11 = .ok (.aload_n 0, 1) := dk_42 (dk_at dksX23_read_0 11 rfl rfl)
theorem dX23_read_12 : decode cX23_read 12 = .ok (.getfield 14, 3) := dk_180 0 14 (dk_at dksX23_read_0 12 rfl rfl)
theorem dX23_read_15 : decode cX23_read 15 = .ok (.aload_n 0, 1) := dk_42 (dk_at dksX23_read_0 15 rfl rfl)
theorem dX23_read_16 : decode cX23_read 16 = .ok (.invokevirtual 31, 3) := dk_182 0 31 (dk_at dksX23_read_0 16 rfl rfl)
theorem dX23_read_19 : decode cX23_read 19 = .ok (.invokevirtual 35, 3) := dk_182 0 35 (dk_at dksX23_read_0 19 rfl rfl)
theorem dX23_read_22 : decode cX23_read 22 = .ok (.pop, 1) := dk_87 (dk_at dksX23_read_0 22 rfl rfl)
theorem dX23_read_23 : decode cX23_read 23 = .ok (.aload_n 0, 1) := dk_42 (dk_at dksX23_read_0 23 rfl rfl)
theorem dX23_read_24 : decode cX23_read 24 = .ok (.invokevirtual 39, 3) := dk_182 0 39 (dk_at dksX23_read_1 0 rfl rfl)
theorem dX23_read_27 : decode cX23_read 27 = .ok (.goto (-23), 3) := dk_167 255 233 (dk_at dksX23_read_1 3 rfl rfl)
theorem dX23_read_30 : decode cX23_read 30 = .ok (.aload_n 0, 1) := dk_42 (dk_at dksX23_read_1 6 rfl rfl)
theorem dX23_read_31 : decode cX23_read 31 = .ok (.getfield 14, 3) := dk_180 0 14 (dk_at dksX23_read_1 7 rfl rfl)
theorem dX23_read_34 : decode cX23_read 34 = .ok (.areturn, 1) := dk_176 (dk_at dksX23_read_1 10 rfl rfl)
abbrev cX23_act : ByteArray := prog_5_method_3_code
def yX23_act : MethodName := ⟨RX23, "act", "()LInchBorders$Act;"⟩
def dkwX23_act_8 : List UInt8 := [187, 0, 98, 89, 42, 3, 16, 11, 182, 0, 84, 29, 183, 0, 100, 176]
abbrev dktX23_act_8 : List UInt8 := dkwX23_act_8 ++ []
def dkwX23_act_7 : List UInt8 := [153, 0, 8, 42, 182, 0, 91, 176, 27, 154, 0, 7, 28, 153, 0, 11, 42, 27, 182, 0, 94, 167, 0, 18]
abbrev dktX23_act_7 : List UInt8 := dkwX23_act_7 ++ dktX23_act_8
def dkwX23_act_6 : List UInt8 := [21, 5, 153, 0, 18, 187, 0, 82, 89, 42, 4, 16, 60, 182, 0, 84, 183, 0, 88, 176, 21, 4]
abbrev dktX23_act_6 : List UInt8 := dkwX23_act_6 ++ dktX23_act_7
def dkwX23_act_5 : List UInt8 := [154, 0, 19, 42, 42, 42, 180, 0, 20, 180, 0, 58, 182, 0, 75, 182, 0, 78, 176, 42, 182, 0, 24]
abbrev dktX23_act_5 : List UInt8 := dkwX23_act_5 ++ dktX23_act_6
def dkwX23_act_4 : List UInt8 := [42, 180, 0, 14, 182, 0, 67, 16, 40, 162, 0, 7, 4, 167, 0, 4, 3, 7, 182, 0, 71, 21, 6]
abbrev dktX23_act_4 : List UInt8 := dkwX23_act_4 ++ dktX23_act_5
def dkwX23_act_3 : List UInt8 := [167, 0, 4, 3, 54, 6, 21, 6, 154, 0, 15, 42, 42, 180, 0, 20, 180, 0, 58, 182, 0, 63, 87, 42]
abbrev dktX23_act_3 : List UInt8 := dkwX23_act_3 ++ dktX23_act_4
def dkwX23_act_2 : List UInt8 := [154, 0, 22, 21, 4, 154, 0, 17, 21, 5, 154, 0, 12, 42, 18, 56, 182, 0, 44, 153, 0, 7, 4]
abbrev dktX23_act_2 : List UInt8 := dkwX23_act_2 ++ dktX23_act_3
def dkwX23_act_1 : List UInt8 := [182, 0, 44, 54, 4, 42, 18, 54, 182, 0, 44, 54, 5, 27, 154, 0, 30, 28, 154, 0, 26, 29]
abbrev dktX23_act_1 : List UInt8 := dkwX23_act_1 ++ dktX23_act_2
def dkwX23_act_0 : List UInt8 := [42, 18, 42, 182, 0, 44, 60, 42, 18, 48, 182, 0, 44, 61, 42, 18, 50, 182, 0, 44, 62, 42, 18, 52]
abbrev dktX23_act_0 : List UInt8 := dkwX23_act_0 ++ dktX23_act_1
theorem dksX23_act_0 : cX23_act.data.toList.drop 0 = dktX23_act_0 := by decide +kernel
theorem dksX23_act_1 : cX23_act.data.toList.drop 24 = dktX23_act_1 := dk_seg dksX23_act_0 24 rfl rfl
theorem dksX23_act_2 : cX23_act.data.toList.drop 46 = dktX23_act_2 := dk_seg dksX23_act_1 22 rfl rfl
theorem dksX23_act_3 : cX23_act.data.toList.drop 69 = dktX23_act_3 := dk_seg dksX23_act_2 23 rfl rfl
theorem dksX23_act_4 : cX23_act.data.toList.drop 93 = dktX23_act_4 := dk_seg dksX23_act_3 24 rfl rfl
theorem dksX23_act_5 : cX23_act.data.toList.drop 116 = dktX23_act_5 := dk_seg dksX23_act_4 23 rfl rfl
theorem dksX23_act_6 : cX23_act.data.toList.drop 139 = dktX23_act_6 := dk_seg dksX23_act_5 23 rfl rfl
theorem dksX23_act_7 : cX23_act.data.toList.drop 161 = dktX23_act_7 := dk_seg dksX23_act_6 22 rfl rfl
theorem dksX23_act_8 : cX23_act.data.toList.drop 185 = dktX23_act_8 := dk_seg dksX23_act_7 24 rfl rfl
theorem dX23_act_0 : decode cX23_act 0 = .ok (.aload_n 0, 1) := dk_42 (dk_at dksX23_act_0 0 rfl rfl)
theorem dX23_act_1 : decode cX23_act 1 = .ok (.ldc 42, 2) := dk_18 42 (dk_at dksX23_act_0 1 rfl rfl)
theorem dX23_act_3 : decode cX23_act 3 = .ok (.invokevirtual 44, 3) := dk_182 0 44 (dk_at dksX23_act_0 3 rfl rfl)
theorem dX23_act_6 : decode cX23_act 6 = .ok (.istore_n 1, 1) := dk_60 (dk_at dksX23_act_0 6 rfl rfl)
theorem dX23_act_7 : decode cX23_act 7 = .ok (.aload_n 0, 1) := dk_42 (dk_at dksX23_act_0 7 rfl rfl)
theorem dX23_act_8 : decode cX23_act 8 = .ok (.ldc 48, 2) := dk_18 48 (dk_at dksX23_act_0 8 rfl rfl)
theorem dX23_act_10 : decode cX23_act 10 = .ok (.invokevirtual 44, 3) := dk_182 0 44 (dk_at dksX23_act_0 10 rfl rfl)
theorem dX23_act_13 : decode cX23_act 13 = .ok (.istore_n 2, 1) := dk_61 (dk_at dksX23_act_0 13 rfl rfl)
theorem dX23_act_14 : decode cX23_act 14 = .ok (.aload_n 0, 1) := dk_42 (dk_at dksX23_act_0 14 rfl rfl)
theorem dX23_act_15 : decode cX23_act 15 = .ok (.ldc 50, 2) := dk_18 50 (dk_at dksX23_act_0 15 rfl rfl)
theorem dX23_act_17 : decode cX23_act 17 = .ok (.invokevirtual 44, 3) := dk_182 0 44 (dk_at dksX23_act_0 17 rfl rfl)
theorem dX23_act_20 : decode cX23_act 20 = .ok (.istore_n 3, 1) := dk_62 (dk_at dksX23_act_0 20 rfl rfl)
theorem dX23_act_21 : decode cX23_act 21 = .ok (.aload_n 0, 1) := dk_42 (dk_at dksX23_act_0 21 rfl rfl)
theorem dX23_act_22 : decode cX23_act 22 = .ok (.ldc 52, 2) := dk_18 52 (dk_at dksX23_act_0 22 rfl rfl)
theorem dX23_act_24 : decode cX23_act 24 = .ok (.invokevirtual 44, 3) := dk_182 0 44 (dk_at dksX23_act_1 0 rfl rfl)
theorem dX23_act_27 : decode cX23_act 27 = .ok (.istore 4, 2) := dk_54 4 (dk_at dksX23_act_1 3 rfl rfl)
theorem dX23_act_29 : decode cX23_act 29 = .ok (.aload_n 0, 1) := dk_42 (dk_at dksX23_act_1 5 rfl rfl)
theorem dX23_act_30 : decode cX23_act 30 = .ok (.ldc 54, 2) := dk_18 54 (dk_at dksX23_act_1 6 rfl rfl)
theorem dX23_act_32 : decode cX23_act 32 = .ok (.invokevirtual 44, 3) := dk_182 0 44 (dk_at dksX23_act_1 8 rfl rfl)
theorem dX23_act_35 : decode cX23_act 35 = .ok (.istore 5, 2) := dk_54 5 (dk_at dksX23_act_1 11 rfl rfl)
theorem dX23_act_37 : decode cX23_act 37 = .ok (.iload_n 1, 1) := dk_27 (dk_at dksX23_act_1 13 rfl rfl)
theorem dX23_act_38 : decode cX23_act 38 = .ok (.ifCond .ne 30, 3) := dk_154 0 30 (dk_at dksX23_act_1 14 rfl rfl)
theorem dX23_act_41 : decode cX23_act 41 = .ok (.iload_n 2, 1) := dk_28 (dk_at dksX23_act_1 17 rfl rfl)
theorem dX23_act_42 : decode cX23_act 42 = .ok (.ifCond .ne 26, 3) := dk_154 0 26 (dk_at dksX23_act_1 18 rfl rfl)
theorem dX23_act_45 : decode cX23_act 45 = .ok (.iload_n 3, 1) := dk_29 (dk_at dksX23_act_1 21 rfl rfl)
theorem dX23_act_46 : decode cX23_act 46 = .ok (.ifCond .ne 22, 3) := dk_154 0 22 (dk_at dksX23_act_2 0 rfl rfl)
theorem dX23_act_49 : decode cX23_act 49 = .ok (.iload 4, 2) := dk_21 4 (dk_at dksX23_act_2 3 rfl rfl)
theorem dX23_act_51 : decode cX23_act 51 = .ok (.ifCond .ne 17, 3) := dk_154 0 17 (dk_at dksX23_act_2 5 rfl rfl)
theorem dX23_act_54 : decode cX23_act 54 = .ok (.iload 5, 2) := dk_21 5 (dk_at dksX23_act_2 8 rfl rfl)
theorem dX23_act_56 : decode cX23_act 56 = .ok (.ifCond .ne 12, 3) := dk_154 0 12 (dk_at dksX23_act_2 10 rfl rfl)
theorem dX23_act_59 : decode cX23_act 59 = .ok (.aload_n 0, 1) := dk_42 (dk_at dksX23_act_2 13 rfl rfl)
theorem dX23_act_60 : decode cX23_act 60 = .ok (.ldc 56, 2) := dk_18 56 (dk_at dksX23_act_2 14 rfl rfl)
theorem dX23_act_62 : decode cX23_act 62 = .ok (.invokevirtual 44, 3) := dk_182 0 44 (dk_at dksX23_act_2 16 rfl rfl)
theorem dX23_act_65 : decode cX23_act 65 = .ok (.ifCond .eq 7, 3) := dk_153 0 7 (dk_at dksX23_act_2 19 rfl rfl)
theorem dX23_act_68 : decode cX23_act 68 = .ok (.iconst 1, 1) := dk_4 (dk_at dksX23_act_2 22 rfl rfl)
theorem dX23_act_69 : decode cX23_act 69 = .ok (.goto 4, 3) := dk_167 0 4 (dk_at dksX23_act_3 0 rfl rfl)
theorem dX23_act_72 : decode cX23_act 72 = .ok (.iconst 0, 1) := dk_3 (dk_at dksX23_act_3 3 rfl rfl)
theorem dX23_act_73 : decode cX23_act 73 = .ok (.istore 6, 2) := dk_54 6 (dk_at dksX23_act_3 4 rfl rfl)
theorem dX23_act_75 : decode cX23_act 75 = .ok (.iload 6, 2) := dk_21 6 (dk_at dksX23_act_3 6 rfl rfl)
theorem dX23_act_77 : decode cX23_act 77 = .ok (.ifCond .ne 15, 3) := dk_154 0 15 (dk_at dksX23_act_3 8 rfl rfl)
theorem dX23_act_80 : decode cX23_act 80 = .ok (.aload_n 0, 1) := dk_42 (dk_at dksX23_act_3 11 rfl rfl)
theorem dX23_act_81 : decode cX23_act 81 = .ok (.aload_n 0, 1) := dk_42 (dk_at dksX23_act_3 12 rfl rfl)
theorem dX23_act_82 : decode cX23_act 82 = .ok (.getfield 20, 3) := dk_180 0 20 (dk_at dksX23_act_3 13 rfl rfl)
theorem dX23_act_85 : decode cX23_act 85 = .ok (.getfield 58, 3) := dk_180 0 58 (dk_at dksX23_act_3 16 rfl rfl)
theorem dX23_act_88 : decode cX23_act 88 = .ok (.invokevirtual 63, 3) := dk_182 0 63 (dk_at dksX23_act_3 19 rfl rfl)
theorem dX23_act_91 : decode cX23_act 91 = .ok (.pop, 1) := dk_87 (dk_at dksX23_act_3 22 rfl rfl)
theorem dX23_act_92 : decode cX23_act 92 = .ok (.aload_n 0, 1) := dk_42 (dk_at dksX23_act_3 23 rfl rfl)
theorem dX23_act_93 : decode cX23_act 93 = .ok (.aload_n 0, 1) := dk_42 (dk_at dksX23_act_4 0 rfl rfl)
theorem dX23_act_94 : decode cX23_act 94 = .ok (.getfield 14, 3) := dk_180 0 14 (dk_at dksX23_act_4 1 rfl rfl)
theorem dX23_act_97 : decode cX23_act 97 = .ok (.invokevirtual 67, 3) := dk_182 0 67 (dk_at dksX23_act_4 4 rfl rfl)
theorem dX23_act_100 : decode cX23_act 100 = .ok (.bipush 40, 2) := dk_16 40 (dk_at dksX23_act_4 7 rfl rfl)
theorem dX23_act_102 : decode cX23_act 102 = .ok (.if_icmp .ge 7, 3) := dk_162 0 7 (dk_at dksX23_act_4 9 rfl rfl)
theorem dX23_act_105 : decode cX23_act 105 = .ok (.iconst 1, 1) := dk_4 (dk_at dksX23_act_4 12 rfl rfl)
theorem dX23_act_106 : decode cX23_act 106 = .ok (.goto 4, 3) := dk_167 0 4 (dk_at dksX23_act_4 13 rfl rfl)
theorem dX23_act_109 : decode cX23_act 109 = .ok (.iconst 0, 1) := dk_3 (dk_at dksX23_act_4 16 rfl rfl)
theorem dX23_act_110 : decode cX23_act 110 = .ok (.iconst 4, 1) := dk_7 (dk_at dksX23_act_4 17 rfl rfl)
theorem dX23_act_111 : decode cX23_act 111 = .ok (.invokevirtual 71, 3) := dk_182 0 71 (dk_at dksX23_act_4 18 rfl rfl)
theorem dX23_act_114 : decode cX23_act 114 = .ok (.iload 6, 2) := dk_21 6 (dk_at dksX23_act_4 21 rfl rfl)
theorem dX23_act_116 : decode cX23_act 116 = .ok (.ifCond .ne 19, 3) := dk_154 0 19 (dk_at dksX23_act_5 0 rfl rfl)
theorem dX23_act_119 : decode cX23_act 119 = .ok (.aload_n 0, 1) := dk_42 (dk_at dksX23_act_5 3 rfl rfl)
theorem dX23_act_120 : decode cX23_act 120 = .ok (.aload_n 0, 1) := dk_42 (dk_at dksX23_act_5 4 rfl rfl)
theorem dX23_act_121 : decode cX23_act 121 = .ok (.aload_n 0, 1) := dk_42 (dk_at dksX23_act_5 5 rfl rfl)
theorem dX23_act_122 : decode cX23_act 122 = .ok (.getfield 20, 3) := dk_180 0 20 (dk_at dksX23_act_5 6 rfl rfl)
theorem dX23_act_125 : decode cX23_act 125 = .ok (.getfield 58, 3) := dk_180 0 58 (dk_at dksX23_act_5 9 rfl rfl)
theorem dX23_act_128 : decode cX23_act 128 = .ok (.invokevirtual 75, 3) := dk_182 0 75 (dk_at dksX23_act_5 12 rfl rfl)
theorem dX23_act_131 : decode cX23_act 131 = .ok (.invokevirtual 78, 3) := dk_182 0 78 (dk_at dksX23_act_5 15 rfl rfl)
theorem dX23_act_134 : decode cX23_act 134 = .ok (.areturn, 1) := dk_176 (dk_at dksX23_act_5 18 rfl rfl)
theorem dX23_act_135 : decode cX23_act 135 = .ok (.aload_n 0, 1) := dk_42 (dk_at dksX23_act_5 19 rfl rfl)
theorem dX23_act_136 : decode cX23_act 136 = .ok (.invokevirtual 24, 3) := dk_182 0 24 (dk_at dksX23_act_5 20 rfl rfl)
theorem dX23_act_139 : decode cX23_act 139 = .ok (.iload 5, 2) := dk_21 5 (dk_at dksX23_act_6 0 rfl rfl)
theorem dX23_act_141 : decode cX23_act 141 = .ok (.ifCond .eq 18, 3) := dk_153 0 18 (dk_at dksX23_act_6 2 rfl rfl)
theorem dX23_act_144 : decode cX23_act 144 = .ok (.new 82, 3) := dk_187 0 82 (dk_at dksX23_act_6 5 rfl rfl)
theorem dX23_act_147 : decode cX23_act 147 = .ok (.dup, 1) := dk_89 (dk_at dksX23_act_6 8 rfl rfl)
theorem dX23_act_148 : decode cX23_act 148 = .ok (.aload_n 0, 1) := dk_42 (dk_at dksX23_act_6 9 rfl rfl)
theorem dX23_act_149 : decode cX23_act 149 = .ok (.iconst 1, 1) := dk_4 (dk_at dksX23_act_6 10 rfl rfl)
theorem dX23_act_150 : decode cX23_act 150 = .ok (.bipush 60, 2) := dk_16 60 (dk_at dksX23_act_6 11 rfl rfl)
theorem dX23_act_152 : decode cX23_act 152 = .ok (.invokevirtual 84, 3) := dk_182 0 84 (dk_at dksX23_act_6 13 rfl rfl)
theorem dX23_act_155 : decode cX23_act 155 = .ok (.invokespecial 88, 3) := dk_183 0 88 (dk_at dksX23_act_6 16 rfl rfl)
theorem dX23_act_158 : decode cX23_act 158 = .ok (.areturn, 1) := dk_176 (dk_at dksX23_act_6 19 rfl rfl)
theorem dX23_act_159 : decode cX23_act 159 = .ok (.iload 4, 2) := dk_21 4 (dk_at dksX23_act_6 20 rfl rfl)
theorem dX23_act_161 : decode cX23_act 161 = .ok (.ifCond .eq 8, 3) := dk_153 0 8 (dk_at dksX23_act_7 0 rfl rfl)
theorem dX23_act_164 : decode cX23_act 164 = .ok (.aload_n 0, 1) := dk_42 (dk_at dksX23_act_7 3 rfl rfl)
theorem dX23_act_165 : decode cX23_act 165 = .ok (.invokevirtual 91, 3) := dk_182 0 91 (dk_at dksX23_act_7 4 rfl rfl)
theorem dX23_act_168 : decode cX23_act 168 = .ok (.areturn, 1) := dk_176 (dk_at dksX23_act_7 7 rfl rfl)
theorem dX23_act_169 : decode cX23_act 169 = .ok (.iload_n 1, 1) := dk_27 (dk_at dksX23_act_7 8 rfl rfl)
theorem dX23_act_170 : decode cX23_act 170 = .ok (.ifCond .ne 7, 3) := dk_154 0 7 (dk_at dksX23_act_7 9 rfl rfl)
theorem dX23_act_173 : decode cX23_act 173 = .ok (.iload_n 2, 1) := dk_28 (dk_at dksX23_act_7 12 rfl rfl)
theorem dX23_act_174 : decode cX23_act 174 = .ok (.ifCond .eq 11, 3) := dk_153 0 11 (dk_at dksX23_act_7 13 rfl rfl)
theorem dX23_act_177 : decode cX23_act 177 = .ok (.aload_n 0, 1) := dk_42 (dk_at dksX23_act_7 16 rfl rfl)
theorem dX23_act_178 : decode cX23_act 178 = .ok (.iload_n 1, 1) := dk_27 (dk_at dksX23_act_7 17 rfl rfl)
theorem dX23_act_179 : decode cX23_act 179 = .ok (.invokevirtual 94, 3) := dk_182 0 94 (dk_at dksX23_act_7 18 rfl rfl)
theorem dX23_act_182 : decode cX23_act 182 = .ok (.goto 18, 3) := dk_167 0 18 (dk_at dksX23_act_7 21 rfl rfl)
theorem dX23_act_185 : decode cX23_act 185 = .ok (.new 98, 3) := dk_187 0 98 (dk_at dksX23_act_8 0 rfl rfl)
theorem dX23_act_188 : decode cX23_act 188 = .ok (.dup, 1) := dk_89 (dk_at dksX23_act_8 3 rfl rfl)
theorem dX23_act_189 : decode cX23_act 189 = .ok (.aload_n 0, 1) := dk_42 (dk_at dksX23_act_8 4 rfl rfl)
theorem dX23_act_190 : decode cX23_act 190 = .ok (.iconst 0, 1) := dk_3 (dk_at dksX23_act_8 5 rfl rfl)
theorem dX23_act_191 : decode cX23_act 191 = .ok (.bipush 11, 2) := dk_16 11 (dk_at dksX23_act_8 6 rfl rfl)
theorem dX23_act_193 : decode cX23_act 193 = .ok (.invokevirtual 84, 3) := dk_182 0 84 (dk_at dksX23_act_8 8 rfl rfl)
theorem dX23_act_196 : decode cX23_act 196 = .ok (.iload_n 3, 1) := dk_29 (dk_at dksX23_act_8 11 rfl rfl)
theorem dX23_act_197 : decode cX23_act 197 = .ok (.invokespecial 100, 3) := dk_183 0 100 (dk_at dksX23_act_8 12 rfl rfl)
theorem dX23_act_200 : decode cX23_act 200 = .ok (.areturn, 1) := dk_176 (dk_at dksX23_act_8 15 rfl rfl)
abbrev cX23_crosses : ByteArray := prog_5_method_4_code
def yX23_crosses : MethodName := ⟨RX23, "crosses", "(I)LInchBorders$Act;"⟩
def dkwX23_crosses_1 : List UInt8 := [180, 0, 20, 180, 0, 106, 182, 0, 75, 183, 0, 109, 176]
abbrev dktX23_crosses_1 : List UInt8 := dkwX23_crosses_1 ++ []
def dkwX23_crosses_0 : List UInt8 := [42, 42, 18, 103, 182, 0, 44, 4, 182, 0, 71, 42, 182, 0, 24, 187, 0, 104, 89, 27, 42, 42]
abbrev dktX23_crosses_0 : List UInt8 := dkwX23_crosses_0 ++ dktX23_crosses_1
theorem dksX23_crosses_0 : cX23_crosses.data.toList.drop 0 = dktX23_crosses_0 := by decide +kernel
theorem dksX23_crosses_1 : cX23_crosses.data.toList.drop 22 = dktX23_crosses_1 := dk_seg dksX23_crosses_0 22 rfl rfl
theorem dX23_crosses_0 : decode cX23_crosses 0 = .ok (.aload_n 0, 1) := dk_42 (dk_at dksX23_crosses_0 0 rfl rfl)
theorem dX23_crosses_1 : decode cX23_crosses 1 = .ok (.aload_n 0, 1) := dk_42 (dk_at dksX23_crosses_0 1 rfl rfl)
theorem dX23_crosses_2 : decode cX23_crosses 2 = .ok (.ldc 103, 2) := dk_18 103 (dk_at dksX23_crosses_0 2 rfl rfl)
theorem dX23_crosses_4 : decode cX23_crosses 4 = .ok (.invokevirtual 44, 3) := dk_182 0 44 (dk_at dksX23_crosses_0 4 rfl rfl)
theorem dX23_crosses_7 : decode cX23_crosses 7 = .ok (.iconst 1, 1) := dk_4 (dk_at dksX23_crosses_0 7 rfl rfl)
theorem dX23_crosses_8 : decode cX23_crosses 8 = .ok (.invokevirtual 71, 3) := dk_182 0 71 (dk_at dksX23_crosses_0 8 rfl rfl)
theorem dX23_crosses_11 : decode cX23_crosses 11 = .ok (.aload_n 0, 1) := dk_42 (dk_at dksX23_crosses_0 11 rfl rfl)
theorem dX23_crosses_12 : decode cX23_crosses 12 = .ok (.invokevirtual 24, 3) := dk_182 0 24 (dk_at dksX23_crosses_0 12 rfl rfl)
theorem dX23_crosses_15 : decode cX23_crosses 15 = .ok (.new 104, 3) := dk_187 0 104 (dk_at dksX23_crosses_0 15 rfl rfl)
theorem dX23_crosses_18 : decode cX23_crosses 18 = .ok (.dup, 1) := dk_89 (dk_at dksX23_crosses_0 18 rfl rfl)
theorem dX23_crosses_19 : decode cX23_crosses 19 = .ok (.iload_n 1, 1) := dk_27 (dk_at dksX23_crosses_0 19 rfl rfl)
theorem dX23_crosses_20 : decode cX23_crosses 20 = .ok (.aload_n 0, 1) := dk_42 (dk_at dksX23_crosses_0 20 rfl rfl)
theorem dX23_crosses_21 : decode cX23_crosses 21 = .ok (.aload_n 0, 1) := dk_42 (dk_at dksX23_crosses_0 21 rfl rfl)
theorem dX23_crosses_22 : decode cX23_crosses 22 = .ok (.getfield 20, 3) := dk_180 0 20 (dk_at dksX23_crosses_1 0 rfl rfl)
theorem dX23_crosses_25 : decode cX23_crosses 25 = .ok (.getfield 106, 3) := dk_180 0 106 (dk_at dksX23_crosses_1 3 rfl rfl)
theorem dX23_crosses_28 : decode cX23_crosses 28 = .ok (.invokevirtual 75, 3) := dk_182 0 75 (dk_at dksX23_crosses_1 6 rfl rfl)
theorem dX23_crosses_31 : decode cX23_crosses 31 = .ok (.invokespecial 109, 3) := dk_183 0 109 (dk_at dksX23_crosses_1 9 rfl rfl)
theorem dX23_crosses_34 : decode cX23_crosses 34 = .ok (.areturn, 1) := dk_176 (dk_at dksX23_crosses_1 12 rfl rfl)
abbrev cX23_lends : ByteArray := prog_5_method_6_code
def yX23_lends : MethodName := ⟨RX23, "lends", "()LInchBorders$Act;"⟩
def dkwX23_lends_1 : List UInt8 := [187, 0, 117, 89, 27, 28, 42, 4, 16, 99, 182, 0, 84, 183, 0, 119, 176]
abbrev dktX23_lends_1 : List UInt8 := dkwX23_lends_1 ++ []
def dkwX23_lends_0 : List UInt8 := [42, 42, 180, 0, 20, 180, 0, 106, 182, 0, 75, 60, 42, 42, 180, 0, 20, 180, 0, 106, 182, 0, 75, 61]
abbrev dktX23_lends_0 : List UInt8 := dkwX23_lends_0 ++ dktX23_lends_1
theorem dksX23_lends_0 : cX23_lends.data.toList.drop 0 = dktX23_lends_0 := by decide +kernel
theorem dksX23_lends_1 : cX23_lends.data.toList.drop 24 = dktX23_lends_1 := dk_seg dksX23_lends_0 24 rfl rfl
theorem dX23_lends_0 : decode cX23_lends 0 = .ok (.aload_n 0, 1) := dk_42 (dk_at dksX23_lends_0 0 rfl rfl)
theorem dX23_lends_1 : decode cX23_lends 1 = .ok (.aload_n 0, 1) := dk_42 (dk_at dksX23_lends_0 1 rfl rfl)
theorem dX23_lends_2 : decode cX23_lends 2 = .ok (.getfield 20, 3) := dk_180 0 20 (dk_at dksX23_lends_0 2 rfl rfl)
theorem dX23_lends_5 : decode cX23_lends 5 = .ok (.getfield 106, 3) := dk_180 0 106 (dk_at dksX23_lends_0 5 rfl rfl)
theorem dX23_lends_8 : decode cX23_lends 8 = .ok (.invokevirtual 75, 3) := dk_182 0 75 (dk_at dksX23_lends_0 8 rfl rfl)
theorem dX23_lends_11 : decode cX23_lends 11 = .ok (.istore_n 1, 1) := dk_60 (dk_at dksX23_lends_0 11 rfl rfl)
theorem dX23_lends_12 : decode cX23_lends 12 = .ok (.aload_n 0, 1) := dk_42 (dk_at dksX23_lends_0 12 rfl rfl)
theorem dX23_lends_13 : decode cX23_lends 13 = .ok (.aload_n 0, 1) := dk_42 (dk_at dksX23_lends_0 13 rfl rfl)
theorem dX23_lends_14 : decode cX23_lends 14 = .ok (.getfield 20, 3) := dk_180 0 20 (dk_at dksX23_lends_0 14 rfl rfl)
theorem dX23_lends_17 : decode cX23_lends 17 = .ok (.getfield 106, 3) := dk_180 0 106 (dk_at dksX23_lends_0 17 rfl rfl)
theorem dX23_lends_20 : decode cX23_lends 20 = .ok (.invokevirtual 75, 3) := dk_182 0 75 (dk_at dksX23_lends_0 20 rfl rfl)
theorem dX23_lends_23 : decode cX23_lends 23 = .ok (.istore_n 2, 1) := dk_61 (dk_at dksX23_lends_0 23 rfl rfl)
theorem dX23_lends_24 : decode cX23_lends 24 = .ok (.new 117, 3) := dk_187 0 117 (dk_at dksX23_lends_1 0 rfl rfl)
theorem dX23_lends_27 : decode cX23_lends 27 = .ok (.dup, 1) := dk_89 (dk_at dksX23_lends_1 3 rfl rfl)
theorem dX23_lends_28 : decode cX23_lends 28 = .ok (.iload_n 1, 1) := dk_27 (dk_at dksX23_lends_1 4 rfl rfl)
theorem dX23_lends_29 : decode cX23_lends 29 = .ok (.iload_n 2, 1) := dk_28 (dk_at dksX23_lends_1 5 rfl rfl)
theorem dX23_lends_30 : decode cX23_lends 30 = .ok (.aload_n 0, 1) := dk_42 (dk_at dksX23_lends_1 6 rfl rfl)
theorem dX23_lends_31 : decode cX23_lends 31 = .ok (.iconst 1, 1) := dk_4 (dk_at dksX23_lends_1 7 rfl rfl)
theorem dX23_lends_32 : decode cX23_lends 32 = .ok (.bipush 99, 2) := dk_16 99 (dk_at dksX23_lends_1 8 rfl rfl)
theorem dX23_lends_34 : decode cX23_lends 34 = .ok (.invokevirtual 84, 3) := dk_182 0 84 (dk_at dksX23_lends_1 10 rfl rfl)
theorem dX23_lends_37 : decode cX23_lends 37 = .ok (.invokespecial 119, 3) := dk_183 0 119 (dk_at dksX23_lends_1 13 rfl rfl)
theorem dX23_lends_40 : decode cX23_lends 40 = .ok (.areturn, 1) := dk_176 (dk_at dksX23_lends_1 16 rfl rfl)
abbrev cX23_treaty : ByteArray := prog_5_method_5_code
def yX23_treaty : MethodName := ⟨RX23, "treaty", "(Z)LInchBorders$Act;"⟩
def dkwX23_treaty_1 : List UInt8 := [180, 0, 106, 182, 0, 75, 27, 183, 0, 114, 176]
abbrev dktX23_treaty_1 : List UInt8 := dkwX23_treaty_1 ++ []
def dkwX23_treaty_0 : List UInt8 := [42, 42, 180, 0, 20, 180, 0, 106, 182, 0, 75, 61, 187, 0, 112, 89, 28, 42, 42, 180, 0, 20]
abbrev dktX23_treaty_0 : List UInt8 := dkwX23_treaty_0 ++ dktX23_treaty_1
theorem dksX23_treaty_0 : cX23_treaty.data.toList.drop 0 = dktX23_treaty_0 := by decide +kernel
theorem dksX23_treaty_1 : cX23_treaty.data.toList.drop 22 = dktX23_treaty_1 := dk_seg dksX23_treaty_0 22 rfl rfl
theorem dX23_treaty_0 : decode cX23_treaty 0 = .ok (.aload_n 0, 1) := dk_42 (dk_at dksX23_treaty_0 0 rfl rfl)
theorem dX23_treaty_1 : decode cX23_treaty 1 = .ok (.aload_n 0, 1) := dk_42 (dk_at dksX23_treaty_0 1 rfl rfl)
theorem dX23_treaty_2 : decode cX23_treaty 2 = .ok (.getfield 20, 3) := dk_180 0 20 (dk_at dksX23_treaty_0 2 rfl rfl)
theorem dX23_treaty_5 : decode cX23_treaty 5 = .ok (.getfield 106, 3) := dk_180 0 106 (dk_at dksX23_treaty_0 5 rfl rfl)
theorem dX23_treaty_8 : decode cX23_treaty 8 = .ok (.invokevirtual 75, 3) := dk_182 0 75 (dk_at dksX23_treaty_0 8 rfl rfl)
theorem dX23_treaty_11 : decode cX23_treaty 11 = .ok (.istore_n 2, 1) := dk_61 (dk_at dksX23_treaty_0 11 rfl rfl)
theorem dX23_treaty_12 : decode cX23_treaty 12 = .ok (.new 112, 3) := dk_187 0 112 (dk_at dksX23_treaty_0 12 rfl rfl)
theorem dX23_treaty_15 : decode cX23_treaty 15 = .ok (.dup, 1) := dk_89 (dk_at dksX23_treaty_0 15 rfl rfl)
theorem dX23_treaty_16 : decode cX23_treaty 16 = .ok (.iload_n 2, 1) := dk_28 (dk_at dksX23_treaty_0 16 rfl rfl)
theorem dX23_treaty_17 : decode cX23_treaty 17 = .ok (.aload_n 0, 1) := dk_42 (dk_at dksX23_treaty_0 17 rfl rfl)
theorem dX23_treaty_18 : decode cX23_treaty 18 = .ok (.aload_n 0, 1) := dk_42 (dk_at dksX23_treaty_0 18 rfl rfl)
theorem dX23_treaty_19 : decode cX23_treaty 19 = .ok (.getfield 20, 3) := dk_180 0 20 (dk_at dksX23_treaty_0 19 rfl rfl)
theorem dX23_treaty_22 : decode cX23_treaty 22 = .ok (.getfield 106, 3) := dk_180 0 106 (dk_at dksX23_treaty_1 0 rfl rfl)
theorem dX23_treaty_25 : decode cX23_treaty 25 = .ok (.invokevirtual 75, 3) := dk_182 0 75 (dk_at dksX23_treaty_1 3 rfl rfl)
theorem dX23_treaty_28 : decode cX23_treaty 28 = .ok (.iload_n 1, 1) := dk_27 (dk_at dksX23_treaty_1 6 rfl rfl)
theorem dX23_treaty_29 : decode cX23_treaty 29 = .ok (.invokespecial 114, 3) := dk_183 0 114 (dk_at dksX23_treaty_1 7 rfl rfl)
theorem dX23_treaty_32 : decode cX23_treaty 32 = .ok (.areturn, 1) := dk_176 (dk_at dksX23_treaty_1 10 rfl rfl)
theorem q154 : (Jvm.Cond.initialized "InchBorders$BookReader") ∈ lw_all := lw_g (lw_at lw_m1 43 rfl) rfl
theorem q208 : (Jvm.Cond.fieldLinkNest "InchBorders$BookReader" (106 : Nat) "InchBorders$Atlas" "lands" "Ljava/util/ArrayList;" "InchBorders") ∈ lw_tbl := lw_at lw_m1 97 rfl
theorem q218 : (Jvm.Cond.fieldLinkNest "InchBorders$BookReader" (58 : Nat) "InchBorders$Atlas" "persons" "Ljava/util/ArrayList;" "InchBorders") ∈ lw_tbl := lw_at lw_m1 107 rfl
theorem q482 : (Jvm.Cond.fieldLink "InchBorders$BookReader" (27 : Nat) "InchBorders$BookReader" "kind" "I") ∈ lw_all := lw_g (lw_at lw_m2 131 rfl) rfl
theorem q483 : (Jvm.Cond.sameField "InchBorders$BookReader" "InchBorders$Reader" "kind" "I") ∈ lw_all := lw_g (lw_at lw_m2 132 rfl) rfl
theorem q991 : (Jvm.Cond.selects "InchBorders$BookReader" ({ cls := "java/lang/Object", name := "getClass", desc := "()Ljava/lang/Class;" } : Jvm.MethodName) ({ cls := "java/lang/Object", name := "getClass", desc := "()Ljava/lang/Class;" } : Jvm.MethodName)) ∈ lw_all := lw_g (lw_at lw_m4 160 rfl) rfl
theorem q1689 : (Jvm.Cond.instantiable "InchBorders$BookReader" (11 : Nat)) ∈ lw_all := lw_g (lw_at lw_m7 138 rfl) rfl
theorem q1691 : (Jvm.Cond.instanceMethod ({ cls := "InchBorders$BookReader", name := "<init>", desc := "([BILInchBorders$Atlas;)V" } : Jvm.MethodName)) ∈ lw_all := lw_g (lw_at lw_m7 140 rfl) rfl
theorem q1692 : (Jvm.Cond.code ({ cls := "InchBorders$BookReader", name := "<init>", desc := "([BILInchBorders$Atlas;)V" } : Jvm.MethodName) prog_5_method_1_code (4 : Nat) (Option.none : Option Jvm.ClassFile.FieldType)) ∈ lw_all := lw_g (lw_at lw_m7 141 rfl) rfl
theorem q1693 : (Jvm.Cond.methodLink "InchBorders$BookReader" (3 : Nat) ({ cls := "InchBorders$Reader", name := "<init>", desc := "([BII)V" } : Jvm.MethodName)) ∈ lw_all := lw_g (lw_at lw_m7 142 rfl) rfl
theorem q1694 : (Jvm.Cond.classLink "InchBorders$BookReader" (9 : Nat) "java/util/ArrayList") ∈ lw_all := lw_g (lw_at lw_m7 143 rfl) rfl
theorem q1695 : (Jvm.Cond.methodLink "InchBorders$BookReader" (11 : Nat) ({ cls := "java/util/ArrayList", name := "<init>", desc := "()V" } : Jvm.MethodName)) ∈ lw_all := lw_g (lw_at lw_m7 144 rfl) rfl
theorem q1696 : (Jvm.Cond.fieldLink "InchBorders$BookReader" (20 : Nat) "InchBorders$BookReader" "a" "LInchBorders$Atlas;") ∈ lw_all := lw_g (lw_at lw_m7 145 rfl) rfl
theorem q1697 : (Jvm.Cond.fieldLink "InchBorders$BookReader" (14 : Nat) "InchBorders$BookReader" "acts" "Ljava/util/ArrayList;") ∈ lw_all := lw_g (lw_at lw_m7 146 rfl) rfl
theorem q1698 : (Jvm.Cond.laysFinal "InchBorders$BookReader" "InchBorders$BookReader" "a" "LInchBorders$Atlas;") ∈ lw_all := lw_g (lw_at lw_m7 147 rfl) rfl
theorem q1699 : (Jvm.Cond.soleField "InchBorders$BookReader" "a") ∈ lw_all := lw_g (lw_at lw_m7 148 rfl) rfl
theorem q1700 : (Jvm.Cond.laysFinal "InchBorders$BookReader" "InchBorders$BookReader" "acts" "Ljava/util/ArrayList;") ∈ lw_all := lw_g (lw_at lw_m7 149 rfl) rfl
theorem q1701 : (Jvm.Cond.soleField "InchBorders$BookReader" "acts") ∈ lw_all := lw_g (lw_at lw_m7 150 rfl) rfl
theorem q1702 : (Jvm.Cond.laysFinal "InchBorders$BookReader" "InchBorders$Reader" "tape" "[B") ∈ lw_all := lw_g (lw_at lw_m7 151 rfl) rfl
theorem q1703 : (Jvm.Cond.laysFinal "InchBorders$BookReader" "InchBorders$Reader" "size" "I") ∈ lw_all := lw_g (lw_at lw_m7 152 rfl) rfl
theorem q1704 : (Jvm.Cond.laysFinal "InchBorders$BookReader" "InchBorders$Reader" "limit" "I") ∈ lw_all := lw_g (lw_at lw_m7 153 rfl) rfl
theorem q1705 : (Jvm.Cond.lays "InchBorders$BookReader" "InchBorders$Reader" "to" "I") ∈ lw_all := lw_g (lw_at lw_m7 154 rfl) rfl
theorem q1706 : (Jvm.Cond.lays "InchBorders$BookReader" "InchBorders$Reader" "kind" "I") ∈ lw_all := lw_g (lw_at lw_m7 155 rfl) rfl
theorem q1707 : (Jvm.Cond.lays "InchBorders$BookReader" "InchBorders$Reader" "from" "I") ∈ lw_all := lw_g (lw_at lw_m7 156 rfl) rfl
theorem q1708 : (Jvm.Cond.lays "InchBorders$BookReader" "InchBorders$Reader" "number" "I") ∈ lw_all := lw_g (lw_at lw_m7 157 rfl) rfl
theorem q1709 : (Jvm.Cond.lays "InchBorders$BookReader" "InchBorders$Reader" "sign" "I") ∈ lw_all := lw_g (lw_at lw_m7 158 rfl) rfl
theorem q1710 : (Jvm.Cond.lays "InchBorders$BookReader" "InchBorders$Reader" "word" "Ljava/lang/String;") ∈ lw_all := lw_g (lw_at lw_m7 159 rfl) rfl
theorem q1711 : (Jvm.Cond.superclass "InchBorders$BookReader" "InchBorders$Reader") ∈ lw_all := lw_g (lw_at lw_m7 160 rfl) rfl
theorem q1713 : (Jvm.Cond.instanceMethod ({ cls := "InchBorders$BookReader", name := "read", desc := "()Ljava/util/ArrayList;" } : Jvm.MethodName)) ∈ lw_all := lw_g (lw_at lw_m7 162 rfl) rfl
theorem q1714 : (Jvm.Cond.selects "InchBorders$BookReader" ({ cls := "InchBorders$BookReader", name := "read", desc := "()Ljava/util/ArrayList;" } : Jvm.MethodName) ({ cls := "InchBorders$BookReader", name := "read", desc := "()Ljava/util/ArrayList;" } : Jvm.MethodName)) ∈ lw_all := lw_g (lw_at lw_m7 163 rfl) rfl
theorem q1715 : (Jvm.Cond.code ({ cls := "InchBorders$BookReader", name := "read", desc := "()Ljava/util/ArrayList;" } : Jvm.MethodName) prog_5_method_2_code (1 : Nat) (Option.some (Jvm.ClassFile.FieldType.object "java/util/ArrayList"))) ∈ lw_all := lw_g (lw_at lw_m7 164 rfl) rfl
theorem q1716 : (Jvm.Cond.methodLink "InchBorders$BookReader" (24 : Nat) ({ cls := "InchBorders$BookReader", name := "go", desc := "()V" } : Jvm.MethodName)) ∈ lw_all := lw_g (lw_at lw_m7 165 rfl) rfl
theorem q1717 : (Jvm.Cond.sameMethod "InchBorders$BookReader" "InchBorders$Reader" "go" "()V") ∈ lw_all := lw_g (lw_at lw_m7 166 rfl) rfl
theorem q1718 : (Jvm.Cond.selects "InchBorders$BookReader" ({ cls := "InchBorders$BookReader", name := "go", desc := "()V" } : Jvm.MethodName) ({ cls := "InchBorders$Reader", name := "go", desc := "()V" } : Jvm.MethodName)) ∈ lw_all := lw_g (lw_at lw_m7 167 rfl) rfl
theorem q1719 : (Jvm.Cond.methodLink "InchBorders$BookReader" (31 : Nat) ({ cls := "InchBorders$BookReader", name := "act", desc := "()LInchBorders$Act;" } : Jvm.MethodName)) ∈ lw_all := lw_g (lw_at lw_m7 168 rfl) rfl
theorem q1720 : (Jvm.Cond.privateMethod ({ cls := "InchBorders$BookReader", name := "act", desc := "()LInchBorders$Act;" } : Jvm.MethodName)) ∈ lw_tbl := lw_at lw_m7 169 rfl
theorem q1721 : (Jvm.Cond.instanceMethod ({ cls := "InchBorders$BookReader", name := "act", desc := "()LInchBorders$Act;" } : Jvm.MethodName)) ∈ lw_all := lw_g (lw_at lw_m7 170 rfl) rfl
theorem q1722 : (Jvm.Cond.code ({ cls := "InchBorders$BookReader", name := "act", desc := "()LInchBorders$Act;" } : Jvm.MethodName) prog_5_method_3_code (7 : Nat) (Option.some (Jvm.ClassFile.FieldType.object "InchBorders$Act"))) ∈ lw_all := lw_g (lw_at lw_m7 171 rfl) rfl
theorem q1723 : (Jvm.Cond.stringRef "InchBorders$BookReader" (42 : Nat) "pact") ∈ lw_tbl := lw_at lw_m7 172 rfl
theorem q1724 : (Jvm.Cond.methodLink "InchBorders$BookReader" (44 : Nat) ({ cls := "InchBorders$BookReader", name := "is", desc := "(Ljava/lang/String;)Z" } : Jvm.MethodName)) ∈ lw_all := lw_g (lw_at lw_m7 173 rfl) rfl
theorem q1725 : (Jvm.Cond.sameMethod "InchBorders$BookReader" "InchBorders$Reader" "is" "(Ljava/lang/String;)Z") ∈ lw_all := lw_g (lw_at lw_m7 174 rfl) rfl
theorem q1726 : (Jvm.Cond.selects "InchBorders$BookReader" ({ cls := "InchBorders$BookReader", name := "is", desc := "(Ljava/lang/String;)Z" } : Jvm.MethodName) ({ cls := "InchBorders$Reader", name := "is", desc := "(Ljava/lang/String;)Z" } : Jvm.MethodName)) ∈ lw_all := lw_g (lw_at lw_m7 175 rfl) rfl
theorem q1727 : (Jvm.Cond.stringRef "InchBorders$BookReader" (48 : Nat) "break") ∈ lw_tbl := lw_at lw_m7 176 rfl
theorem q1728 : (Jvm.Cond.stringRef "InchBorders$BookReader" (50 : Nat) "close") ∈ lw_tbl := lw_at lw_m7 177 rfl
theorem q1729 : (Jvm.Cond.stringRef "InchBorders$BookReader" (52 : Nat) "lend") ∈ lw_tbl := lw_at lw_m7 178 rfl
theorem q1730 : (Jvm.Cond.stringRef "InchBorders$BookReader" (54 : Nat) "day") ∈ lw_tbl := lw_at lw_m7 179 rfl
theorem q1731 : (Jvm.Cond.stringRef "InchBorders$BookReader" (56 : Nat) "open") ∈ lw_tbl := lw_at lw_m7 180 rfl
theorem q1732 : (Jvm.Cond.methodLink "InchBorders$BookReader" (63 : Nat) ({ cls := "InchBorders$BookReader", name := "hold", desc := "(Ljava/util/ArrayList;)I" } : Jvm.MethodName)) ∈ lw_all := lw_g (lw_at lw_m7 181 rfl) rfl
theorem q1733 : (Jvm.Cond.sameMethod "InchBorders$BookReader" "InchBorders$Reader" "hold" "(Ljava/util/ArrayList;)I") ∈ lw_all := lw_g (lw_at lw_m7 182 rfl) rfl
theorem q1734 : (Jvm.Cond.selects "InchBorders$BookReader" ({ cls := "InchBorders$BookReader", name := "hold", desc := "(Ljava/util/ArrayList;)I" } : Jvm.MethodName) ({ cls := "InchBorders$Reader", name := "hold", desc := "(Ljava/util/ArrayList;)I" } : Jvm.MethodName)) ∈ lw_all := lw_g (lw_at lw_m7 183 rfl) rfl
theorem q1735 : (Jvm.Cond.methodLink "InchBorders$BookReader" (67 : Nat) ({ cls := "java/util/ArrayList", name := "size", desc := "()I" } : Jvm.MethodName)) ∈ lw_all := lw_g (lw_at lw_m7 184 rfl) rfl
theorem q1736 : (Jvm.Cond.methodLink "InchBorders$BookReader" (71 : Nat) ({ cls := "InchBorders$BookReader", name := "need", desc := "(ZI)V" } : Jvm.MethodName)) ∈ lw_all := lw_g (lw_at lw_m7 185 rfl) rfl
theorem q1737 : (Jvm.Cond.sameMethod "InchBorders$BookReader" "InchBorders$Reader" "need" "(ZI)V") ∈ lw_all := lw_g (lw_at lw_m7 186 rfl) rfl
theorem q1738 : (Jvm.Cond.selects "InchBorders$BookReader" ({ cls := "InchBorders$BookReader", name := "need", desc := "(ZI)V" } : Jvm.MethodName) ({ cls := "InchBorders$Reader", name := "need", desc := "(ZI)V" } : Jvm.MethodName)) ∈ lw_all := lw_g (lw_at lw_m7 187 rfl) rfl
theorem q1739 : (Jvm.Cond.methodLink "InchBorders$BookReader" (75 : Nat) ({ cls := "InchBorders$BookReader", name := "one", desc := "(Ljava/util/ArrayList;)I" } : Jvm.MethodName)) ∈ lw_all := lw_g (lw_at lw_m7 188 rfl) rfl
theorem q1740 : (Jvm.Cond.sameMethod "InchBorders$BookReader" "InchBorders$Reader" "one" "(Ljava/util/ArrayList;)I") ∈ lw_all := lw_g (lw_at lw_m7 189 rfl) rfl
theorem q1741 : (Jvm.Cond.selects "InchBorders$BookReader" ({ cls := "InchBorders$BookReader", name := "one", desc := "(Ljava/util/ArrayList;)I" } : Jvm.MethodName) ({ cls := "InchBorders$Reader", name := "one", desc := "(Ljava/util/ArrayList;)I" } : Jvm.MethodName)) ∈ lw_all := lw_g (lw_at lw_m7 190 rfl) rfl
theorem q1742 : (Jvm.Cond.methodLink "InchBorders$BookReader" (78 : Nat) ({ cls := "InchBorders$BookReader", name := "crosses", desc := "(I)LInchBorders$Act;" } : Jvm.MethodName)) ∈ lw_all := lw_g (lw_at lw_m7 191 rfl) rfl
theorem q1743 : (Jvm.Cond.privateMethod ({ cls := "InchBorders$BookReader", name := "crosses", desc := "(I)LInchBorders$Act;" } : Jvm.MethodName)) ∈ lw_tbl := lw_at lw_m7 192 rfl
theorem q1744 : (Jvm.Cond.instanceMethod ({ cls := "InchBorders$BookReader", name := "crosses", desc := "(I)LInchBorders$Act;" } : Jvm.MethodName)) ∈ lw_all := lw_g (lw_at lw_m7 193 rfl) rfl
theorem q1745 : (Jvm.Cond.code ({ cls := "InchBorders$BookReader", name := "crosses", desc := "(I)LInchBorders$Act;" } : Jvm.MethodName) prog_5_method_4_code (2 : Nat) (Option.some (Jvm.ClassFile.FieldType.object "InchBorders$Act"))) ∈ lw_all := lw_g (lw_at lw_m7 194 rfl) rfl
theorem q1746 : (Jvm.Cond.stringRef "InchBorders$BookReader" (103 : Nat) "crosses") ∈ lw_tbl := lw_at lw_m7 195 rfl
theorem q1747 : (Jvm.Cond.classLink "InchBorders$BookReader" (104 : Nat) "InchBorders$Crosses") ∈ lw_all := lw_g (lw_at lw_m7 196 rfl) rfl
theorem q1748 : (Jvm.Cond.methodLink "InchBorders$BookReader" (109 : Nat) ({ cls := "InchBorders$Crosses", name := "<init>", desc := "(II)V" } : Jvm.MethodName)) ∈ lw_all := lw_g (lw_at lw_m7 197 rfl) rfl
theorem q1749 : (Jvm.Cond.classLink "InchBorders$BookReader" (82 : Nat) "InchBorders$Passes") ∈ lw_all := lw_g (lw_at lw_m7 198 rfl) rfl
theorem q1751 : (Jvm.Cond.methodLink "InchBorders$BookReader" (84 : Nat) ({ cls := "InchBorders$BookReader", name := "number", desc := "(II)I" } : Jvm.MethodName)) ∈ lw_all := lw_g (lw_at lw_m7 200 rfl) rfl
theorem q1752 : (Jvm.Cond.sameMethod "InchBorders$BookReader" "InchBorders$Reader" "number" "(II)I") ∈ lw_all := lw_g (lw_at lw_m7 201 rfl) rfl
theorem q1753 : (Jvm.Cond.selects "InchBorders$BookReader" ({ cls := "InchBorders$BookReader", name := "number", desc := "(II)I" } : Jvm.MethodName) ({ cls := "InchBorders$Reader", name := "number", desc := "(II)I" } : Jvm.MethodName)) ∈ lw_all := lw_g (lw_at lw_m7 202 rfl) rfl
theorem q1754 : (Jvm.Cond.methodLink "InchBorders$BookReader" (88 : Nat) ({ cls := "InchBorders$Passes", name := "<init>", desc := "(I)V" } : Jvm.MethodName)) ∈ lw_all := lw_g (lw_at lw_m7 203 rfl) rfl
theorem q1762 : (Jvm.Cond.methodLink "InchBorders$BookReader" (91 : Nat) ({ cls := "InchBorders$BookReader", name := "lends", desc := "()LInchBorders$Act;" } : Jvm.MethodName)) ∈ lw_all := lw_g (lw_at lw_m7 211 rfl) rfl
theorem q1763 : (Jvm.Cond.privateMethod ({ cls := "InchBorders$BookReader", name := "lends", desc := "()LInchBorders$Act;" } : Jvm.MethodName)) ∈ lw_tbl := lw_at lw_m7 212 rfl
theorem q1764 : (Jvm.Cond.instanceMethod ({ cls := "InchBorders$BookReader", name := "lends", desc := "()LInchBorders$Act;" } : Jvm.MethodName)) ∈ lw_all := lw_g (lw_at lw_m7 213 rfl) rfl
theorem q1765 : (Jvm.Cond.code ({ cls := "InchBorders$BookReader", name := "lends", desc := "()LInchBorders$Act;" } : Jvm.MethodName) prog_5_method_6_code (3 : Nat) (Option.some (Jvm.ClassFile.FieldType.object "InchBorders$Act"))) ∈ lw_all := lw_g (lw_at lw_m7 214 rfl) rfl
theorem q1766 : (Jvm.Cond.classLink "InchBorders$BookReader" (117 : Nat) "InchBorders$Lends") ∈ lw_all := lw_g (lw_at lw_m7 215 rfl) rfl
theorem q1767 : (Jvm.Cond.methodLink "InchBorders$BookReader" (119 : Nat) ({ cls := "InchBorders$Lends", name := "<init>", desc := "(III)V" } : Jvm.MethodName)) ∈ lw_all := lw_g (lw_at lw_m7 216 rfl) rfl
theorem q1768 : (Jvm.Cond.methodLink "InchBorders$BookReader" (94 : Nat) ({ cls := "InchBorders$BookReader", name := "treaty", desc := "(Z)LInchBorders$Act;" } : Jvm.MethodName)) ∈ lw_all := lw_g (lw_at lw_m7 217 rfl) rfl
theorem q1769 : (Jvm.Cond.privateMethod ({ cls := "InchBorders$BookReader", name := "treaty", desc := "(Z)LInchBorders$Act;" } : Jvm.MethodName)) ∈ lw_tbl := lw_at lw_m7 218 rfl
theorem q1770 : (Jvm.Cond.instanceMethod ({ cls := "InchBorders$BookReader", name := "treaty", desc := "(Z)LInchBorders$Act;" } : Jvm.MethodName)) ∈ lw_all := lw_g (lw_at lw_m7 219 rfl) rfl
theorem q1771 : (Jvm.Cond.code ({ cls := "InchBorders$BookReader", name := "treaty", desc := "(Z)LInchBorders$Act;" } : Jvm.MethodName) prog_5_method_5_code (3 : Nat) (Option.some (Jvm.ClassFile.FieldType.object "InchBorders$Act"))) ∈ lw_all := lw_g (lw_at lw_m7 220 rfl) rfl
theorem q1772 : (Jvm.Cond.classLink "InchBorders$BookReader" (112 : Nat) "InchBorders$Treats") ∈ lw_all := lw_g (lw_at lw_m7 221 rfl) rfl
theorem q1773 : (Jvm.Cond.methodLink "InchBorders$BookReader" (114 : Nat) ({ cls := "InchBorders$Treats", name := "<init>", desc := "(IIZ)V" } : Jvm.MethodName)) ∈ lw_all := lw_g (lw_at lw_m7 222 rfl) rfl
theorem q1774 : (Jvm.Cond.classLink "InchBorders$BookReader" (98 : Nat) "InchBorders$Closes") ∈ lw_all := lw_g (lw_at lw_m7 223 rfl) rfl
theorem q1775 : (Jvm.Cond.methodLink "InchBorders$BookReader" (100 : Nat) ({ cls := "InchBorders$Closes", name := "<init>", desc := "(IZ)V" } : Jvm.MethodName)) ∈ lw_all := lw_g (lw_at lw_m7 224 rfl) rfl
theorem q1776 : (Jvm.Cond.methodLink "InchBorders$BookReader" (35 : Nat) ({ cls := "java/util/ArrayList", name := "add", desc := "(Ljava/lang/Object;)Z" } : Jvm.MethodName)) ∈ lw_all := lw_g (lw_at lw_m7 225 rfl) rfl
theorem q1777 : (Jvm.Cond.methodLink "InchBorders$BookReader" (39 : Nat) ({ cls := "InchBorders$BookReader", name := "end", desc := "()V" } : Jvm.MethodName)) ∈ lw_all := lw_g (lw_at lw_m7 226 rfl) rfl
theorem q1778 : (Jvm.Cond.sameMethod "InchBorders$BookReader" "InchBorders$Reader" "end" "()V") ∈ lw_all := lw_g (lw_at lw_m7 227 rfl) rfl
theorem q1779 : (Jvm.Cond.selects "InchBorders$BookReader" ({ cls := "InchBorders$BookReader", name := "end", desc := "()V" } : Jvm.MethodName) ({ cls := "InchBorders$Reader", name := "end", desc := "()V" } : Jvm.MethodName)) ∈ lw_all := lw_g (lw_at lw_m7 228 rfl) rfl
theorem q2704 : (Jvm.Cond.selects "InchBorders$BookReader" ({ cls := "InchBorders$Reader", name := "need", desc := "(ZI)V" } : Jvm.MethodName) ({ cls := "InchBorders$Reader", name := "need", desc := "(ZI)V" } : Jvm.MethodName)) ∈ lw_all := lw_g (lw_at lw_m11 193 rfl) rfl
theorem q2708 : (Jvm.Cond.selects "InchBorders$BookReader" ({ cls := "InchBorders$Reader", name := "go", desc := "()V" } : Jvm.MethodName) ({ cls := "InchBorders$Reader", name := "go", desc := "()V" } : Jvm.MethodName)) ∈ lw_all := lw_g (lw_at lw_m11 197 rfl) rfl
theorem q2712 : (Jvm.Cond.selects "InchBorders$BookReader" ({ cls := "InchBorders$Reader", name := "isName", desc := "()Z" } : Jvm.MethodName) ({ cls := "InchBorders$Reader", name := "isName", desc := "()Z" } : Jvm.MethodName)) ∈ lw_all := lw_g (lw_at lw_m11 201 rfl) rfl
theorem q2716 : (Jvm.Cond.selects "InchBorders$BookReader" ({ cls := "InchBorders$Reader", name := "find", desc := "(Ljava/util/ArrayList;)I" } : Jvm.MethodName) ({ cls := "InchBorders$Reader", name := "find", desc := "(Ljava/util/ArrayList;)I" } : Jvm.MethodName)) ∈ lw_all := lw_g (lw_at lw_m11 205 rfl) rfl
theorem q2720 : (Jvm.Cond.selects "InchBorders$BookReader" ({ cls := "InchBorders$Reader", name := "hold", desc := "(Ljava/util/ArrayList;)I" } : Jvm.MethodName) ({ cls := "InchBorders$Reader", name := "hold", desc := "(Ljava/util/ArrayList;)I" } : Jvm.MethodName)) ∈ lw_all := lw_g (lw_at lw_m11 209 rfl) rfl
theorem q2752 : (Jvm.Cond.castable "InchBorders$BookReader" "java/lang/Object") ∈ lw_tbl := lw_at lw_m12 1 rfl
theorem in_X23 : ∀ w ∈ wsX230, w ∈ lw_all := lw_in wsX230 [1702, 1703, 1704, 1705, 1706, 1707, 1708, 1709, 1710, 1698, 1700] (by decide +kernel) (by decide +kernel)

/-! InchBorders$Passes -/
set_option maxRecDepth 100000
def RX24 : String := "InchBorders$Passes"
def TX24 : u_T := fun k => match k with
  | _ => ("InchBorders$Passes", "many", "I", true)
def tyX24 : Nat → FieldType := fun k => match k with
  | _ => .int
abbrev wsX240 : List Cond := u_ws RX24 TX24 1
theorem nmX24 : ∀ a, a < 1 → ∀ b, b < 1 → a ≠ b → (TX24 a).2.1 ≠ (TX24 b).2.1 := by decide +kernel
theorem tyX24_ok : ∀ k, k < 1 → parseFieldDescriptor (TX24 k).2.2.1 = some (tyX24 k) := by decide +kernel
abbrev cX24_does : ByteArray := prog_21_method_2_code
def yX24_does : MethodName := ⟨RX24, "does", "(LInchBorders$Times;)I"⟩
def dkwX24_does_1 : List UInt8 := [182, 0, 20, 87, 3, 172]
abbrev dktX24_does_1 : List UInt8 := dkwX24_does_1 ++ []
def dkwX24_does_0 : List UInt8 := [43, 180, 0, 15, 42, 180, 0, 9, 96, 17, 1, 144, 164, 0, 6, 16, 61, 172, 43, 42, 180, 0, 9]
abbrev dktX24_does_0 : List UInt8 := dkwX24_does_0 ++ dktX24_does_1
theorem dksX24_does_0 : cX24_does.data.toList.drop 0 = dktX24_does_0 := by decide +kernel
theorem dksX24_does_1 : cX24_does.data.toList.drop 23 = dktX24_does_1 := dk_seg dksX24_does_0 23 rfl rfl
theorem dX24_does_0 : decode cX24_does 0 = .ok (.aload_n 1, 1) := dk_43 (dk_at dksX24_does_0 0 rfl rfl)
theorem dX24_does_1 : decode cX24_does 1 = .ok (.getfield 15, 3) := dk_180 0 15 (dk_at dksX24_does_0 1 rfl rfl)
theorem dX24_does_4 : decode cX24_does 4 = .ok (.aload_n 0, 1) := dk_42 (dk_at dksX24_does_0 4 rfl rfl)
theorem dX24_does_5 : decode cX24_does 5 = .ok (.getfield 9, 3) := dk_180 0 9 (dk_at dksX24_does_0 5 rfl rfl)
theorem dX24_does_8 : decode cX24_does 8 = .ok (.iadd, 1) := dk_96 (dk_at dksX24_does_0 8 rfl rfl)
theorem dX24_does_9 : decode cX24_does 9 = .ok (.sipush 400, 3) := dk_17 1 144 (dk_at dksX24_does_0 9 rfl rfl)
theorem dX24_does_12 : decode cX24_does 12 = .ok (.if_icmp .le 6, 3) := dk_164 0 6 (dk_at dksX24_does_0 12 rfl rfl)
theorem dX24_does_15 : decode cX24_does 15 = .ok (.bipush 61, 2) := dk_16 61 (dk_at dksX24_does_0 15 rfl rfl)
theorem dX24_does_17 : decode cX24_does 17 = .ok (.ireturn, 1) := dk_172 (dk_at dksX24_does_0 17 rfl rfl)
theorem dX24_does_18 : decode cX24_does 18 = .ok (.aload_n 1, 1) := dk_43 (dk_at dksX24_does_0 18 rfl rfl)
theorem dX24_does_19 : decode cX24_does 19 = .ok (.aload_n 0, 1) := dk_42 (dk_at dksX24_does_0 19 rfl rfl)
theorem dX24_does_20 : decode cX24_does 20 = .ok (.getfield 9, 3) := dk_180 0 9 (dk_at dksX24_does_0 20 rfl rfl)
theorem dX24_does_23 : decode cX24_does 23 = .ok (.invokevirtual 20, 3) := dk_182 0 20 (dk_at dksX24_does_1 0 rfl rfl)
theorem dX24_does_26 : decode cX24_does 26 = .ok (.pop, 1) := dk_87 (dk_at dksX24_does_1 3 rfl rfl)
theorem dX24_does_27 : decode cX24_does 27 = .ok (.iconst 0, 1) := dk_3 (dk_at dksX24_does_1 4 rfl rfl)
theorem dX24_does_28 : decode cX24_does 28 = .ok (.ireturn, 1) := dk_172 (dk_at dksX24_does_1 5 rfl rfl)
abbrev cX24_init : ByteArray := prog_21_method_1_code
def yX24_init : MethodName := ⟨RX24, "<init>", "(I)V"⟩
def dkwX24_init_0 : List UInt8 := [42, 183, 0, 3, 42, 27, 181, 0, 9, 177]
abbrev dktX24_init_0 : List UInt8 := dkwX24_init_0 ++ []
theorem dksX24_init_0 : cX24_init.data.toList.drop 0 = dktX24_init_0 := by decide +kernel
theorem dX24_init_0 : decode cX24_init 0 = .ok (.aload_n 0, 1) := dk_42 (dk_at dksX24_init_0 0 rfl rfl)
theorem dX24_init_1 : decode cX24_init 1 = .ok (.invokespecial 3, 3) := dk_183 0 3 (dk_at dksX24_init_0 1 rfl rfl)
theorem dX24_init_4 : decode cX24_init 4 = .ok (.aload_n 0, 1) := dk_42 (dk_at dksX24_init_0 4 rfl rfl)
theorem dX24_init_5 : decode cX24_init 5 = .ok (.iload_n 1, 1) := dk_27 (dk_at dksX24_init_0 5 rfl rfl)
theorem dX24_init_6 : decode cX24_init 6 = .ok (.putfield 9, 3) := dk_181 0 9 (dk_at dksX24_init_0 6 rfl rfl)
theorem dX24_init_9 : decode cX24_init 9 = .ok (.return_, 1) := dk_177 (dk_at dksX24_init_0 9 rfl rfl)
theorem q155 : (Jvm.Cond.initialized "InchBorders$Passes") ∈ lw_all := lw_g (lw_at lw_m1 44 rfl) rfl
theorem q241 : (Jvm.Cond.fieldLinkNest "InchBorders$Passes" (15 : Nat) "InchBorders$Times" "day" "I" "InchBorders") ∈ lw_tbl := lw_at lw_m1 130 rfl
theorem q1004 : (Jvm.Cond.selects "InchBorders$Passes" ({ cls := "java/lang/Object", name := "getClass", desc := "()Ljava/lang/Class;" } : Jvm.MethodName) ({ cls := "java/lang/Object", name := "getClass", desc := "()Ljava/lang/Class;" } : Jvm.MethodName)) ∈ lw_all := lw_g (lw_at lw_m4 173 rfl) rfl
theorem q1274 : (Jvm.Cond.selects "InchBorders$Passes" ({ cls := "InchBorders$Act", name := "does", desc := "(LInchBorders$Times;)I" } : Jvm.MethodName) ({ cls := "InchBorders$Passes", name := "does", desc := "(LInchBorders$Times;)I" } : Jvm.MethodName)) ∈ lw_all := lw_g (lw_at lw_m5 203 rfl) rfl
theorem q1275 : (Jvm.Cond.instanceMethod ({ cls := "InchBorders$Passes", name := "does", desc := "(LInchBorders$Times;)I" } : Jvm.MethodName)) ∈ lw_all := lw_g (lw_at lw_m5 204 rfl) rfl
theorem q1276 : (Jvm.Cond.code ({ cls := "InchBorders$Passes", name := "does", desc := "(LInchBorders$Times;)I" } : Jvm.MethodName) prog_21_method_2_code (2 : Nat) (Option.some Jvm.ClassFile.FieldType.int)) ∈ lw_all := lw_g (lw_at lw_m5 205 rfl) rfl
theorem q1277 : (Jvm.Cond.methodLink "InchBorders$Passes" (20 : Nat) ({ cls := "InchBorders$Times", name := "passAll", desc := "(I)I" } : Jvm.MethodName)) ∈ lw_all := lw_g (lw_at lw_m5 206 rfl) rfl
theorem q1750 : (Jvm.Cond.instantiable "InchBorders$Passes" (1 : Nat)) ∈ lw_all := lw_g (lw_at lw_m7 199 rfl) rfl
theorem q1755 : (Jvm.Cond.instanceMethod ({ cls := "InchBorders$Passes", name := "<init>", desc := "(I)V" } : Jvm.MethodName)) ∈ lw_all := lw_g (lw_at lw_m7 204 rfl) rfl
theorem q1756 : (Jvm.Cond.code ({ cls := "InchBorders$Passes", name := "<init>", desc := "(I)V" } : Jvm.MethodName) prog_21_method_1_code (2 : Nat) (Option.none : Option Jvm.ClassFile.FieldType)) ∈ lw_all := lw_g (lw_at lw_m7 205 rfl) rfl
theorem q1757 : (Jvm.Cond.methodLinkNest "InchBorders$Passes" (3 : Nat) ({ cls := "InchBorders$Act", name := "<init>", desc := "()V" } : Jvm.MethodName) "InchBorders") ∈ lw_tbl := lw_at lw_m7 206 rfl
theorem q1758 : (Jvm.Cond.fieldLink "InchBorders$Passes" (9 : Nat) "InchBorders$Passes" "many" "I") ∈ lw_all := lw_g (lw_at lw_m7 207 rfl) rfl
theorem q1759 : (Jvm.Cond.laysFinal "InchBorders$Passes" "InchBorders$Passes" "many" "I") ∈ lw_all := lw_g (lw_at lw_m7 208 rfl) rfl
theorem q1760 : (Jvm.Cond.soleField "InchBorders$Passes" "many") ∈ lw_all := lw_g (lw_at lw_m7 209 rfl) rfl
theorem q1761 : (Jvm.Cond.superclass "InchBorders$Passes" "InchBorders$Act") ∈ lw_all := lw_g (lw_at lw_m7 210 rfl) rfl
theorem q2729 : (Jvm.Cond.castable "InchBorders$Passes" "InchBorders$Act") ∈ lw_tbl := lw_at lw_m11 218 rfl
theorem q2753 : (Jvm.Cond.castable "InchBorders$Passes" "java/lang/Object") ∈ lw_tbl := lw_at lw_m12 2 rfl
theorem in_X24 : ∀ w ∈ wsX240, w ∈ lw_all := lw_in wsX240 [1759] (by decide +kernel) (by decide +kernel)

/-! InchBorders$SentenceReader -/
set_option maxRecDepth 100000
def RX25 : String := "InchBorders$SentenceReader"
def TX25 : u_T := fun k => match k with
  | 0 => ("InchBorders$Reader", "tape", "[B", true)
  | 1 => ("InchBorders$Reader", "size", "I", true)
  | 2 => ("InchBorders$Reader", "limit", "I", true)
  | 3 => ("InchBorders$Reader", "to", "I", false)
  | 4 => ("InchBorders$Reader", "kind", "I", false)
  | 5 => ("InchBorders$Reader", "from", "I", false)
  | 6 => ("InchBorders$Reader", "number", "I", false)
  | 7 => ("InchBorders$Reader", "sign", "I", false)
  | 8 => ("InchBorders$Reader", "word", "Ljava/lang/String;", false)
  | 9 => ("InchBorders$SentenceReader", "a", "LInchBorders$Atlas;", true)
  | 10 => ("InchBorders$SentenceReader", "ones", "I", false)
  | _ => ("InchBorders$SentenceReader", "within", "I", false)
def tyX25 : Nat → FieldType := fun k => match k with
  | 0 => .array .byte
  | 1 => .int
  | 2 => .int
  | 3 => .int
  | 4 => .int
  | 5 => .int
  | 6 => .int
  | 7 => .int
  | 8 => .object "java/lang/String"
  | 9 => .object "InchBorders$Atlas"
  | 10 => .int
  | _ => .int
abbrev wsX250 : List Cond := u_ws RX25 TX25 12
theorem nmX25 : ∀ a, a < 12 → ∀ b, b < 12 → a ≠ b → (TX25 a).2.1 ≠ (TX25 b).2.1 := by decide +kernel
theorem tyX25_ok : ∀ k, k < 12 → parseFieldDescriptor (TX25 k).2.2.1 = some (tyX25 k) := by decide +kernel
abbrev cX25_init : ByteArray := prog_25_method_1_code
def yX25_init : MethodName := ⟨RX25, "<init>", "([BILInchBorders$Atlas;)V"⟩
def dkwX25_init_0 : List UInt8 := [42, 43, 28, 17, 0, 200, 183, 0, 3, 42, 45, 181, 0, 9, 177]
abbrev dktX25_init_0 : List UInt8 := dkwX25_init_0 ++ []
theorem dksX25_init_0 : cX25_init.data.toList.drop 0 = dktX25_init_0 := by decide +kernel
theorem dX25_init_0 : decode cX25_init 0 = .ok (.aload_n 0, 1) := dk_42 (dk_at dksX25_init_0 0 rfl rfl)
theorem dX25_init_1 : decode cX25_init 1 = .ok (.aload_n 1, 1) := dk_43 (dk_at dksX25_init_0 1 rfl rfl)
theorem dX25_init_2 : decode cX25_init 2 = .ok (.iload_n 2, 1) := dk_28 (dk_at dksX25_init_0 2 rfl rfl)
theorem dX25_init_3 : decode cX25_init 3 = .ok (.sipush 200, 3) := dk_17 0 200 (dk_at dksX25_init_0 3 rfl rfl)
theorem dX25_init_6 : decode cX25_init 6 = .ok (.invokespecial 3, 3) := dk_183 0 3 (dk_at dksX25_init_0 6 rfl rfl)
theorem dX25_init_9 : decode cX25_init 9 = .ok (.aload_n 0, 1) := dk_42 (dk_at dksX25_init_0 9 rfl rfl)
theorem dX25_init_10 : decode cX25_init 10 = .ok (.aload_n 3, 1) := dk_45 (dk_at dksX25_init_0 10 rfl rfl)
theorem dX25_init_11 : decode cX25_init 11 = .ok (.putfield 9, 3) := dk_181 0 9 (dk_at dksX25_init_0 11 rfl rfl)
theorem dX25_init_14 : decode cX25_init 14 = .ok (.return_, 1) := dk_177 (dk_at dksX25_init_0 14 rfl rfl)
abbrev cX25_read : ByteArray := prog_25_method_2_code
def yX25_read : MethodName := ⟨RX25, "read", "()LInchBorders$Cond;"⟩
def dkwX25_read_1 : List UInt8 := [182, 0, 27, 43, 176]
abbrev dktX25_read_1 : List UInt8 := dkwX25_read_1 ++ []
def dkwX25_read_0 : List UInt8 := [42, 182, 0, 15, 42, 182, 0, 19, 76, 42, 42, 180, 0, 23, 154, 0, 7, 4, 167, 0, 4, 3, 4]
abbrev dktX25_read_0 : List UInt8 := dkwX25_read_0 ++ dktX25_read_1
theorem dksX25_read_0 : cX25_read.data.toList.drop 0 = dktX25_read_0 := by decide +kernel
theorem dksX25_read_1 : cX25_read.data.toList.drop 23 = dktX25_read_1 := dk_seg dksX25_read_0 23 rfl rfl
theorem dX25_read_0 : decode cX25_read 0 = .ok (.aload_n 0, 1) := dk_42 (dk_at dksX25_read_0 0 rfl rfl)
theorem dX25_read_1 : decode cX25_read 1 = .ok (.invokevirtual 15, 3) := dk_182 0 15 (dk_at dksX25_read_0 1 rfl rfl)
theorem dX25_read_4 : decode cX25_read 4 = .ok (.aload_n 0, 1) := dk_42 (dk_at dksX25_read_0 4 rfl rfl)
theorem dX25_read_5 : decode cX25_read 5 = .ok (.invokevirtual 19, 3) := dk_182 0 19 (dk_at dksX25_read_0 5 rfl rfl)
theorem dX25_read_8 : decode cX25_read 8 = .ok (.astore_n 1, 1) := dk_76 (dk_at dksX25_read_0 8 rfl rfl)
theorem dX25_read_9 : decode cX25_read 9 = .ok (.aload_n 0, 1) := dk_42 (dk_at dksX25_read_0 9 rfl rfl)
theorem dX25_read_10 : decode cX25_read 10 = .ok (.aload_n 0, 1) := dk_42 (dk_at dksX25_read_0 10 rfl rfl)
theorem dX25_read_11 : decode cX25_read 11 = .ok (.getfield 23, 3) := dk_180 0 23 (dk_at dksX25_read_0 11 rfl rfl)
theorem dX25_read_14 : decode cX25_read 14 = .ok (.ifCond .ne 7, 3) := dk_154 0 7 (dk_at dksX25_read_0 14 rfl rfl)
theorem dX25_read_17 : decode cX25_read 17 = .ok (.iconst 1, 1) := dk_4 (dk_at dksX25_read_0 17 rfl rfl)
theorem dX25_read_18 : decode cX25_read 18 = .ok (.goto 4, 3) := dk_167 0 4 (dk_at dksX25_read_0 18 rfl rfl)
theorem dX25_read_21 : decode cX25_read 21 = .ok (.iconst 0, 1) := dk_3 (dk_at dksX25_read_0 21 rfl rfl)
theorem dX25_read_22 : decode cX25_read 22 = .ok (.iconst 1, 1) := dk_4 (dk_at dksX25_read_0 22 rfl rfl)
theorem dX25_read_23 : decode cX25_read 23 = .ok (.invokevirtual 27, 3) := dk_182 0 27 (dk_at dksX25_read_1 0 rfl rfl)
theorem dX25_read_26 : decode cX25_read 26 = .ok (.aload_n 1, 1) := dk_43 (dk_at dksX25_read_1 3 rfl rfl)
theorem dX25_read_27 : decode cX25_read 27 = .ok (.areturn, 1) := dk_176 (dk_at dksX25_read_1 4 rfl rfl)
abbrev cX25_or : ByteArray := prog_25_method_3_code
def yX25_or : MethodName := ⟨RX25, "or", "()LInchBorders$Cond;"⟩
def dkwX25_or_1 : List UInt8 := [182, 0, 31, 3, 183, 0, 41, 76, 167, 255, 229, 43, 176]
abbrev dktX25_or_1 : List UInt8 := dkwX25_or_1 ++ []
def dkwX25_or_0 : List UInt8 := [42, 182, 0, 31, 76, 42, 18, 34, 182, 0, 35, 153, 0, 24, 42, 182, 0, 15, 187, 0, 39, 89, 43, 42]
abbrev dktX25_or_0 : List UInt8 := dkwX25_or_0 ++ dktX25_or_1
theorem dksX25_or_0 : cX25_or.data.toList.drop 0 = dktX25_or_0 := by decide +kernel
theorem dksX25_or_1 : cX25_or.data.toList.drop 24 = dktX25_or_1 := dk_seg dksX25_or_0 24 rfl rfl
theorem dX25_or_0 : decode cX25_or 0 = .ok (.aload_n 0, 1) := dk_42 (dk_at dksX25_or_0 0 rfl rfl)
theorem dX25_or_1 : decode cX25_or 1 = .ok (.invokevirtual 31, 3) := dk_182 0 31 (dk_at dksX25_or_0 1 rfl rfl)
theorem dX25_or_4 : decode cX25_or 4 = .ok (.astore_n 1, 1) := dk_76 (dk_at dksX25_or_0 4 rfl rfl)
theorem dX25_or_5 : decode cX25_or 5 = .ok (.aload_n 0, 1) := dk_42 (dk_at dksX25_or_0 5 rfl rfl)
theorem dX25_or_6 : decode cX25_or 6 = .ok (.ldc 34, 2) := dk_18 34 (dk_at dksX25_or_0 6 rfl rfl)
theorem dX25_or_8 : decode cX25_or 8 = .ok (.invokevirtual 35, 3) := dk_182 0 35 (dk_at dksX25_or_0 8 rfl rfl)
theorem dX25_or_11 : decode cX25_or 11 = .ok (.ifCond .eq 24, 3) := dk_153 0 24 (dk_at dksX25_or_0 11 rfl rfl)
theorem dX25_or_14 : decode cX25_or 14 = .ok (.aload_n 0, 1) := dk_42 (dk_at dksX25_or_0 14 rfl rfl)
theorem dX25_or_15 : decode cX25_or 15 = .ok (.invokevirtual 15, 3) := dk_182 0 15 (dk_at dksX25_or_0 15 rfl rfl)
theorem dX25_or_18 : decode cX25_or 18 = .ok (.new 39, 3) := dk_187 0 39 (dk_at dksX25_or_0 18 rfl rfl)
theorem dX25_or_21 : decode cX25_or 21 = .ok (.dup, 1) := dk_89 (dk_at dksX25_or_0 21 rfl rfl)
theorem dX25_or_22 : decode cX25_or 22 = .ok (.aload_n 1, 1) := dk_43 (dk_at dksX25_or_0 22 rfl rfl)
theorem dX25_or_23 : decode cX25_or 23 = .ok (.aload_n 0, 1) := dk_42 (dk_at dksX25_or_0 23 rfl rfl)
theorem dX25_or_24 : decode cX25_or 24 = .ok (.invokevirtual 31, 3) := dk_182 0 31 (dk_at dksX25_or_1 0 rfl rfl)
theorem dX25_or_27 : decode cX25_or 27 = .ok (.iconst 0, 1) := dk_3 (dk_at dksX25_or_1 3 rfl rfl)
theorem dX25_or_28 : decode cX25_or 28 = .ok (.invokespecial 41, 3) := dk_183 0 41 (dk_at dksX25_or_1 4 rfl rfl)
theorem dX25_or_31 : decode cX25_or 31 = .ok (.astore_n 1, 1) := dk_76 (dk_at dksX25_or_1 7 rfl rfl)
theorem dX25_or_32 : decode cX25_or 32 = .ok (.goto (-27), 3) := dk_167 255 229 (dk_at dksX25_or_1 8 rfl rfl)
theorem dX25_or_35 : decode cX25_or 35 = .ok (.aload_n 1, 1) := dk_43 (dk_at dksX25_or_1 11 rfl rfl)
theorem dX25_or_36 : decode cX25_or 36 = .ok (.areturn, 1) := dk_176 (dk_at dksX25_or_1 12 rfl rfl)
abbrev cX25_and : ByteArray := prog_25_method_4_code
def yX25_and : MethodName := ⟨RX25, "and", "()LInchBorders$Cond;"⟩
def dkwX25_and_1 : List UInt8 := [182, 0, 44, 4, 183, 0, 41, 76, 167, 255, 229, 43, 176]
abbrev dktX25_and_1 : List UInt8 := dkwX25_and_1 ++ []
def dkwX25_and_0 : List UInt8 := [42, 182, 0, 44, 76, 42, 18, 47, 182, 0, 35, 153, 0, 24, 42, 182, 0, 15, 187, 0, 39, 89, 43, 42]
abbrev dktX25_and_0 : List UInt8 := dkwX25_and_0 ++ dktX25_and_1
theorem dksX25_and_0 : cX25_and.data.toList.drop 0 = dktX25_and_0 := by decide +kernel
theorem dksX25_and_1 : cX25_and.data.toList.drop 24 = dktX25_and_1 := dk_seg dksX25_and_0 24 rfl rfl
theorem dX25_and_0 : decode cX25_and 0 = .ok (.aload_n 0, 1) := dk_42 (dk_at dksX25_and_0 0 rfl rfl)
theorem dX25_and_1 : decode cX25_and 1 = .ok (.invokevirtual 44, 3) := dk_182 0 44 (dk_at dksX25_and_0 1 rfl rfl)
theorem dX25_and_4 : decode cX25_and 4 = .ok (.astore_n 1, 1) := dk_76 (dk_at dksX25_and_0 4 rfl rfl)
theorem dX25_and_5 : decode cX25_and 5 = .ok (.aload_n 0, 1) := dk_42 (dk_at dksX25_and_0 5 rfl rfl)
theorem dX25_and_6 : decode cX25_and 6 = .ok (.ldc 47, 2) := dk_18 47 (dk_at dksX25_and_0 6 rfl rfl)
theorem dX25_and_8 : decode cX25_and 8 = .ok (.invokevirtual 35, 3) := dk_182 0 35 (dk_at dksX25_and_0 8 rfl rfl)
theorem dX25_and_11 : decode cX25_and 11 = .ok (.ifCond .eq 24, 3) := dk_153 0 24 (dk_at dksX25_and_0 11 rfl rfl)
theorem dX25_and_14 : decode cX25_and 14 = .ok (.aload_n 0, 1) := dk_42 (dk_at dksX25_and_0 14 rfl rfl)
theorem dX25_and_15 : decode cX25_and 15 = .ok (.invokevirtual 15, 3) := dk_182 0 15 (dk_at dksX25_and_0 15 rfl rfl)
theorem dX25_and_18 : decode cX25_and 18 = .ok (.new 39, 3) := dk_187 0 39 (dk_at dksX25_and_0 18 rfl rfl)
theorem dX25_and_21 : decode cX25_and 21 = .ok (.dup, 1) := dk_89 (dk_at dksX25_and_0 21 rfl rfl)
theorem dX25_and_22 : decode cX25_and 22 = .ok (.aload_n 1, 1) := dk_43 (dk_at dksX25_and_0 22 rfl rfl)
theorem dX25_and_23 : decode cX25_and 23 = .ok (.aload_n 0, 1) := dk_42 (dk_at dksX25_and_0 23 rfl rfl)
theorem dX25_and_24 : decode cX25_and 24 = .ok (.invokevirtual 44, 3) := dk_182 0 44 (dk_at dksX25_and_1 0 rfl rfl)
theorem dX25_and_27 : decode cX25_and 27 = .ok (.iconst 1, 1) := dk_4 (dk_at dksX25_and_1 3 rfl rfl)
theorem dX25_and_28 : decode cX25_and 28 = .ok (.invokespecial 41, 3) := dk_183 0 41 (dk_at dksX25_and_1 4 rfl rfl)
theorem dX25_and_31 : decode cX25_and 31 = .ok (.astore_n 1, 1) := dk_76 (dk_at dksX25_and_1 7 rfl rfl)
theorem dX25_and_32 : decode cX25_and 32 = .ok (.goto (-27), 3) := dk_167 255 229 (dk_at dksX25_and_1 8 rfl rfl)
theorem dX25_and_35 : decode cX25_and 35 = .ok (.aload_n 1, 1) := dk_43 (dk_at dksX25_and_1 11 rfl rfl)
theorem dX25_and_36 : decode cX25_and 36 = .ok (.areturn, 1) := dk_176 (dk_at dksX25_and_1 12 rfl rfl)
abbrev cX25_says : ByteArray := prog_25_method_7_code
def yX25_says : MethodName := ⟨RX25, "says", "()LInchBorders$Cond;"⟩
def dkwX25_says_10 : List UInt8 := [182, 0, 112, 58, 7, 42, 89, 180, 0, 81, 4, 100, 181, 0, 81, 25, 7, 176]
abbrev dktX25_says_10 : List UInt8 := dkwX25_says_10 ++ []
def dkwX25_says_9 : List UInt8 := [21, 5, 42, 42, 180, 0, 9, 180, 0, 99, 182, 0, 105, 183, 0, 109, 167, 0, 9, 42, 21, 6]
abbrev dktX25_says_9 : List UInt8 := dkwX25_says_9 ++ dktX25_says_10
def dkwX25_says_8 : List UInt8 := [153, 0, 14, 187, 0, 92, 89, 29, 183, 0, 94, 167, 0, 38, 21, 5, 2, 159, 0, 26, 187, 0, 97, 89]
abbrev dktX25_says_8 : List UInt8 := dkwX25_says_8 ++ dktX25_says_9
def dkwX25_says_7 : List UInt8 := [167, 0, 72, 28, 153, 0, 17, 187, 0, 87, 89, 42, 182, 0, 44, 183, 0, 89, 167, 0, 54, 21, 4]
abbrev dktX25_says_7 : List UInt8 := dkwX25_says_7 ++ dktX25_says_8
def dkwX25_says_6 : List UInt8 := [42, 89, 180, 0, 81, 4, 96, 181, 0, 81, 42, 182, 0, 15, 27, 153, 0, 10, 42, 182, 0, 84]
abbrev dktX25_says_6 : List UInt8 := dkwX25_says_6 ++ dktX25_says_7
def dkwX25_says_5 : List UInt8 := [16, 8, 162, 0, 7, 4, 167, 0, 4, 3, 7, 182, 0, 27, 42, 89, 180, 0, 78, 4, 96, 181, 0, 78]
abbrev dktX25_says_5 : List UInt8 := dkwX25_says_5 ++ dktX25_says_6
def dkwX25_says_4 : List UInt8 := [4, 167, 0, 4, 3, 4, 182, 0, 27, 42, 42, 180, 0, 78, 16, 20, 162, 0, 16, 42, 180, 0, 81]
abbrev dktX25_says_4 : List UInt8 := dkwX25_says_4 ++ dktX25_says_5
def dkwX25_says_3 : List UInt8 := [154, 0, 24, 28, 154, 0, 20, 21, 4, 154, 0, 15, 21, 5, 2, 160, 0, 9, 21, 6, 2, 159, 0, 7]
abbrev dktX25_says_3 : List UInt8 := dkwX25_says_3 ++ dktX25_says_4
def dkwX25_says_2 : List UInt8 := [153, 0, 7, 4, 167, 0, 4, 3, 54, 4, 42, 182, 0, 71, 54, 5, 42, 182, 0, 75, 54, 6, 42, 27]
abbrev dktX25_says_2 : List UInt8 := dkwX25_says_2 ++ dktX25_says_3
def dkwX25_says_1 : List UInt8 := [42, 18, 65, 182, 0, 35, 61, 42, 18, 67, 182, 0, 35, 62, 29, 154, 0, 12, 42, 18, 69, 182, 0, 35]
abbrev dktX25_says_1 : List UInt8 := dkwX25_says_1 ++ dktX25_says_2
def dkwX25_says_0 : List UInt8 := [42, 180, 0, 23, 16, 6, 160, 0, 16, 42, 180, 0, 62, 16, 40, 160, 0, 7, 4, 167, 0, 4, 3, 60]
abbrev dktX25_says_0 : List UInt8 := dkwX25_says_0 ++ dktX25_says_1
theorem dksX25_says_0 : cX25_says.data.toList.drop 0 = dktX25_says_0 := by decide +kernel
theorem dksX25_says_1 : cX25_says.data.toList.drop 24 = dktX25_says_1 := dk_seg dksX25_says_0 24 rfl rfl
theorem dksX25_says_2 : cX25_says.data.toList.drop 48 = dktX25_says_2 := dk_seg dksX25_says_1 24 rfl rfl
theorem dksX25_says_3 : cX25_says.data.toList.drop 72 = dktX25_says_3 := dk_seg dksX25_says_2 24 rfl rfl
theorem dksX25_says_4 : cX25_says.data.toList.drop 96 = dktX25_says_4 := dk_seg dksX25_says_3 24 rfl rfl
theorem dksX25_says_5 : cX25_says.data.toList.drop 119 = dktX25_says_5 := dk_seg dksX25_says_4 23 rfl rfl
theorem dksX25_says_6 : cX25_says.data.toList.drop 143 = dktX25_says_6 := dk_seg dksX25_says_5 24 rfl rfl
theorem dksX25_says_7 : cX25_says.data.toList.drop 165 = dktX25_says_7 := dk_seg dksX25_says_6 22 rfl rfl
theorem dksX25_says_8 : cX25_says.data.toList.drop 188 = dktX25_says_8 := dk_seg dksX25_says_7 23 rfl rfl
theorem dksX25_says_9 : cX25_says.data.toList.drop 212 = dktX25_says_9 := dk_seg dksX25_says_8 24 rfl rfl
theorem dksX25_says_10 : cX25_says.data.toList.drop 234 = dktX25_says_10 := dk_seg dksX25_says_9 22 rfl rfl
theorem dX25_says_0 : decode cX25_says 0 = .ok (.aload_n 0, 1) := dk_42 (dk_at dksX25_says_0 0 rfl rfl)
theorem dX25_says_1 : decode cX25_says 1 = .ok (.getfield 23, 3) := dk_180 0 23 (dk_at dksX25_says_0 1 rfl rfl)
theorem dX25_says_4 : decode cX25_says 4 = .ok (.bipush 6, 2) := dk_16 6 (dk_at dksX25_says_0 4 rfl rfl)
theorem dX25_says_6 : decode cX25_says 6 = .ok (.if_icmp .ne 16, 3) := dk_160 0 16 (dk_at dksX25_says_0 6 rfl rfl)
theorem dX25_says_9 : decode cX25_says 9 = .ok (.aload_n 0, 1) := dk_42 (dk_at dksX25_says_0 9 rfl rfl)
theorem dX25_says_10 : decode cX25_says 10 = .ok (.getfield 62, 3) := dk_180 0 62 (dk_at dksX25_says_0 10 rfl rfl)
theorem dX25_says_13 : decode cX25_says 13 = .ok (.bipush 40, 2) := dk_16 40 (dk_at dksX25_says_0 13 rfl rfl)
theorem dX25_says_15 : decode cX25_says 15 = .ok (.if_icmp .ne 7, 3) := dk_160 0 7 (dk_at dksX25_says_0 15 rfl rfl)
theorem dX25_says_18 : decode cX25_says 18 = .ok (.iconst 1, 1) := dk_4 (dk_at dksX25_says_0 18 rfl rfl)
theorem dX25_says_19 : decode cX25_says 19 = .ok (.goto 4, 3) := dk_167 0 4 (dk_at dksX25_says_0 19 rfl rfl)
theorem dX25_says_22 : decode cX25_says 22 = .ok (.iconst 0, 1) := dk_3 (dk_at dksX25_says_0 22 rfl rfl)
theorem dX25_says_23 : decode cX25_says 23 = .ok (.istore_n 1, 1) := dk_60 (dk_at dksX25_says_0 23 rfl rfl)
theorem dX25_says_24 : decode cX25_says 24 = .ok (.aload_n 0, 1) := dk_42 (dk_at dksX25_says_1 0 rfl rfl)
theorem dX25_says_25 : decode cX25_says 25 = .ok (.ldc 65, 2) := dk_18 65 (dk_at dksX25_says_1 1 rfl rfl)
theorem dX25_says_27 : decode cX25_says 27 = .ok (.invokevirtual 35, 3) := dk_182 0 35 (dk_at dksX25_says_1 3 rfl rfl)
theorem dX25_says_30 : decode cX25_says 30 = .ok (.istore_n 2, 1) := dk_61 (dk_at dksX25_says_1 6 rfl rfl)
theorem dX25_says_31 : decode cX25_says 31 = .ok (.aload_n 0, 1) := dk_42 (dk_at dksX25_says_1 7 rfl rfl)
theorem dX25_says_32 : decode cX25_says 32 = .ok (.ldc 67, 2) := dk_18 67 (dk_at dksX25_says_1 8 rfl rfl)
theorem dX25_says_34 : decode cX25_says 34 = .ok (.invokevirtual 35, 3) := dk_182 0 35 (dk_at dksX25_says_1 10 rfl rfl)
theorem dX25_says_37 : decode cX25_says 37 = .ok (.istore_n 3, 1) := dk_62 (dk_at dksX25_says_1 13 rfl rfl)
theorem dX25_says_38 : decode cX25_says 38 = .ok (.iload_n 3, 1) := dk_29 (dk_at dksX25_says_1 14 rfl rfl)
theorem dX25_says_39 : decode cX25_says 39 = .ok (.ifCond .ne 12, 3) := dk_154 0 12 (dk_at dksX25_says_1 15 rfl rfl)
theorem dX25_says_42 : decode cX25_says 42 = .ok (.aload_n 0, 1) := dk_42 (dk_at dksX25_says_1 18 rfl rfl)
theorem dX25_says_43 : decode cX25_says 43 = .ok (.ldc 69, 2) := dk_18 69 (dk_at dksX25_says_1 19 rfl rfl)
theorem dX25_says_45 : decode cX25_says 45 = .ok (.invokevirtual 35, 3) := dk_182 0 35 (dk_at dksX25_says_1 21 rfl rfl)
theorem dX25_says_48 : decode cX25_says 48 = .ok (.ifCond .eq 7, 3) := dk_153 0 7 (dk_at dksX25_says_2 0 rfl rfl)
theorem dX25_says_51 : decode cX25_says 51 = .ok (.iconst 1, 1) := dk_4 (dk_at dksX25_says_2 3 rfl rfl)
theorem dX25_says_52 : decode cX25_says 52 = .ok (.goto 4, 3) := dk_167 0 4 (dk_at dksX25_says_2 4 rfl rfl)
theorem dX25_says_55 : decode cX25_says 55 = .ok (.iconst 0, 1) := dk_3 (dk_at dksX25_says_2 7 rfl rfl)
theorem dX25_says_56 : decode cX25_says 56 = .ok (.istore 4, 2) := dk_54 4 (dk_at dksX25_says_2 8 rfl rfl)
theorem dX25_says_58 : decode cX25_says 58 = .ok (.aload_n 0, 1) := dk_42 (dk_at dksX25_says_2 10 rfl rfl)
theorem dX25_says_59 : decode cX25_says 59 = .ok (.invokevirtual 71, 3) := dk_182 0 71 (dk_at dksX25_says_2 11 rfl rfl)
theorem dX25_says_62 : decode cX25_says 62 = .ok (.istore 5, 2) := dk_54 5 (dk_at dksX25_says_2 14 rfl rfl)
theorem dX25_says_64 : decode cX25_says 64 = .ok (.aload_n 0, 1) := dk_42 (dk_at dksX25_says_2 16 rfl rfl)
theorem dX25_says_65 : decode cX25_says 65 = .ok (.invokevirtual 75, 3) := dk_182 0 75 (dk_at dksX25_says_2 17 rfl rfl)
theorem dX25_says_68 : decode cX25_says 68 = .ok (.istore 6, 2) := dk_54 6 (dk_at dksX25_says_2 20 rfl rfl)
theorem dX25_says_70 : decode cX25_says 70 = .ok (.aload_n 0, 1) := dk_42 (dk_at dksX25_says_2 22 rfl rfl)
theorem dX25_says_71 : decode cX25_says 71 = .ok (.iload_n 1, 1) := dk_27 (dk_at dksX25_says_2 23 rfl rfl)
theorem dX25_says_72 : decode cX25_says 72 = .ok (.ifCond .ne 24, 3) := dk_154 0 24 (dk_at dksX25_says_3 0 rfl rfl)
theorem dX25_says_75 : decode cX25_says 75 = .ok (.iload_n 2, 1) := dk_28 (dk_at dksX25_says_3 3 rfl rfl)
theorem dX25_says_76 : decode cX25_says 76 = .ok (.ifCond .ne 20, 3) := dk_154 0 20 (dk_at dksX25_says_3 4 rfl rfl)
theorem dX25_says_79 : decode cX25_says 79 = .ok (.iload 4, 2) := dk_21 4 (dk_at dksX25_says_3 7 rfl rfl)
theorem dX25_says_81 : decode cX25_says 81 = .ok (.ifCond .ne 15, 3) := dk_154 0 15 (dk_at dksX25_says_3 9 rfl rfl)
theorem dX25_says_84 : decode cX25_says 84 = .ok (.iload 5, 2) := dk_21 5 (dk_at dksX25_says_3 12 rfl rfl)
theorem dX25_says_86 : decode cX25_says 86 = .ok (.iconst (-1), 1) := dk_2 (dk_at dksX25_says_3 14 rfl rfl)
theorem dX25_says_87 : decode cX25_says 87 = .ok (.if_icmp .ne 9, 3) := dk_160 0 9 (dk_at dksX25_says_3 15 rfl rfl)
theorem dX25_says_90 : decode cX25_says 90 = .ok (.iload 6, 2) := dk_21 6 (dk_at dksX25_says_3 18 rfl rfl)
theorem dX25_says_92 : decode cX25_says 92 = .ok (.iconst (-1), 1) := dk_2 (dk_at dksX25_says_3 20 rfl rfl)
theorem dX25_says_93 : decode cX25_says 93 = .ok (.if_icmp .eq 7, 3) := dk_159 0 7 (dk_at dksX25_says_3 21 rfl rfl)
theorem dX25_says_96 : decode cX25_says 96 = .ok (.iconst 1, 1) := dk_4 (dk_at dksX25_says_4 0 rfl rfl)
theorem dX25_says_97 : decode cX25_says 97 = .ok (.goto 4, 3) := dk_167 0 4 (dk_at dksX25_says_4 1 rfl rfl)
theorem dX25_says_100 : decode cX25_says 100 = .ok (.iconst 0, 1) := dk_3 (dk_at dksX25_says_4 4 rfl rfl)
theorem dX25_says_101 : decode cX25_says 101 = .ok (.iconst 1, 1) := dk_4 (dk_at dksX25_says_4 5 rfl rfl)
theorem dX25_says_102 : decode cX25_says 102 = .ok (.invokevirtual 27, 3) := dk_182 0 27 (dk_at dksX25_says_4 6 rfl rfl)
theorem dX25_says_105 : decode cX25_says 105 = .ok (.aload_n 0, 1) := dk_42 (dk_at dksX25_says_4 9 rfl rfl)
theorem dX25_says_106 : decode cX25_says 106 = .ok (.aload_n 0, 1) := dk_42 (dk_at dksX25_says_4 10 rfl rfl)
theorem dX25_says_107 : decode cX25_says 107 = .ok (.getfield 78, 3) := dk_180 0 78 (dk_at dksX25_says_4 11 rfl rfl)
theorem dX25_says_110 : decode cX25_says 110 = .ok (.bipush 20, 2) := dk_16 20 (dk_at dksX25_says_4 14 rfl rfl)
theorem dX25_says_112 : decode cX25_says 112 = .ok (.if_icmp .ge 16, 3) := dk_162 0 16 (dk_at dksX25_says_4 16 rfl rfl)
theorem dX25_says_115 : decode cX25_says 115 = .ok (.aload_n 0, 1) := dk_42 (dk_at dksX25_says_4 19 rfl rfl)
theorem dX25_says_116 : decode cX25_says 116 = .ok (.getfield 81, 3) := dk_180 0 81 (dk_at dksX25_says_4 20 rfl rfl)
theorem dX25_says_119 : decode cX25_says 119 = .ok (.bipush 8, 2) := dk_16 8 (dk_at dksX25_says_5 0 rfl rfl)
theorem dX25_says_121 : decode cX25_says 121 = .ok (.if_icmp .ge 7, 3) := dk_162 0 7 (dk_at dksX25_says_5 2 rfl rfl)
theorem dX25_says_124 : decode cX25_says 124 = .ok (.iconst 1, 1) := dk_4 (dk_at dksX25_says_5 5 rfl rfl)
theorem dX25_says_125 : decode cX25_says 125 = .ok (.goto 4, 3) := dk_167 0 4 (dk_at dksX25_says_5 6 rfl rfl)
theorem dX25_says_128 : decode cX25_says 128 = .ok (.iconst 0, 1) := dk_3 (dk_at dksX25_says_5 9 rfl rfl)
theorem dX25_says_129 : decode cX25_says 129 = .ok (.iconst 4, 1) := dk_7 (dk_at dksX25_says_5 10 rfl rfl)
theorem dX25_says_130 : decode cX25_says 130 = .ok (.invokevirtual 27, 3) := dk_182 0 27 (dk_at dksX25_says_5 11 rfl rfl)
theorem dX25_says_133 : decode cX25_says 133 = .ok (.aload_n 0, 1) := dk_42 (dk_at dksX25_says_5 14 rfl rfl)
theorem dX25_says_134 : decode cX25_says 134 = .ok (.dup, 1) := dk_89 (dk_at dksX25_says_5 15 rfl rfl)
theorem dX25_says_135 : decode cX25_says 135 = .ok (.getfield 78, 3) := dk_180 0 78 (dk_at dksX25_says_5 16 rfl rfl)
theorem dX25_says_138 : decode cX25_says 138 = .ok (.iconst 1, 1) := dk_4 (dk_at dksX25_says_5 19 rfl rfl)
theorem dX25_says_139 : decode cX25_says 139 = .ok (.iadd, 1) := dk_96 (dk_at dksX25_says_5 20 rfl rfl)
theorem dX25_says_140 : decode cX25_says 140 = .ok (.putfield 78, 3) := dk_181 0 78 (dk_at dksX25_says_5 21 rfl rfl)
theorem dX25_says_143 : decode cX25_says 143 = .ok (.aload_n 0, 1) := dk_42 (dk_at dksX25_says_6 0 rfl rfl)
theorem dX25_says_144 : decode cX25_says 144 = .ok (.dup, 1) := dk_89 (dk_at dksX25_says_6 1 rfl rfl)
theorem dX25_says_145 : decode cX25_says 145 = .ok (.getfield 81, 3) := dk_180 0 81 (dk_at dksX25_says_6 2 rfl rfl)
theorem dX25_says_148 : decode cX25_says 148 = .ok (.iconst 1, 1) := dk_4 (dk_at dksX25_says_6 5 rfl rfl)
theorem dX25_says_149 : decode cX25_says 149 = .ok (.iadd, 1) := dk_96 (dk_at dksX25_says_6 6 rfl rfl)
theorem dX25_says_150 : decode cX25_says 150 = .ok (.putfield 81, 3) := dk_181 0 81 (dk_at dksX25_says_6 7 rfl rfl)
theorem dX25_says_153 : decode cX25_says 153 = .ok (.aload_n 0, 1) := dk_42 (dk_at dksX25_says_6 10 rfl rfl)
theorem dX25_says_154 : decode cX25_says 154 = .ok (.invokevirtual 15, 3) := dk_182 0 15 (dk_at dksX25_says_6 11 rfl rfl)
theorem dX25_says_157 : decode cX25_says 157 = .ok (.iload_n 1, 1) := dk_27 (dk_at dksX25_says_6 14 rfl rfl)
theorem dX25_says_158 : decode cX25_says 158 = .ok (.ifCond .eq 10, 3) := dk_153 0 10 (dk_at dksX25_says_6 15 rfl rfl)
theorem dX25_says_161 : decode cX25_says 161 = .ok (.aload_n 0, 1) := dk_42 (dk_at dksX25_says_6 18 rfl rfl)
theorem dX25_says_162 : decode cX25_says 162 = .ok (.invokevirtual 84, 3) := dk_182 0 84 (dk_at dksX25_says_6 19 rfl rfl)
theorem dX25_says_165 : decode cX25_says 165 = .ok (.goto 72, 3) := dk_167 0 72 (dk_at dksX25_says_7 0 rfl rfl)
theorem dX25_says_168 : decode cX25_says 168 = .ok (.iload_n 2, 1) := dk_28 (dk_at dksX25_says_7 3 rfl rfl)
theorem dX25_says_169 : decode cX25_says 169 = .ok (.ifCond .eq 17, 3) := dk_153 0 17 (dk_at dksX25_says_7 4 rfl rfl)
theorem dX25_says_172 : decode cX25_says 172 = .ok (.new 87, 3) := dk_187 0 87 (dk_at dksX25_says_7 7 rfl rfl)
theorem dX25_says_175 : decode cX25_says 175 = .ok (.dup, 1) := dk_89 (dk_at dksX25_says_7 10 rfl rfl)
theorem dX25_says_176 : decode cX25_says 176 = .ok (.aload_n 0, 1) := dk_42 (dk_at dksX25_says_7 11 rfl rfl)
theorem dX25_says_177 : decode cX25_says 177 = .ok (.invokevirtual 44, 3) := dk_182 0 44 (dk_at dksX25_says_7 12 rfl rfl)
theorem dX25_says_180 : decode cX25_says 180 = .ok (.invokespecial 89, 3) := dk_183 0 89 (dk_at dksX25_says_7 15 rfl rfl)
theorem dX25_says_183 : decode cX25_says 183 = .ok (.goto 54, 3) := dk_167 0 54 (dk_at dksX25_says_7 18 rfl rfl)
theorem dX25_says_186 : decode cX25_says 186 = .ok (.iload 4, 2) := dk_21 4 (dk_at dksX25_says_7 21 rfl rfl)
theorem dX25_says_188 : decode cX25_says 188 = .ok (.ifCond .eq 14, 3) := dk_153 0 14 (dk_at dksX25_says_8 0 rfl rfl)
theorem dX25_says_191 : decode cX25_says 191 = .ok (.new 92, 3) := dk_187 0 92 (dk_at dksX25_says_8 3 rfl rfl)
theorem dX25_says_194 : decode cX25_says 194 = .ok (.dup, 1) := dk_89 (dk_at dksX25_says_8 6 rfl rfl)
theorem dX25_says_195 : decode cX25_says 195 = .ok (.iload_n 3, 1) := dk_29 (dk_at dksX25_says_8 7 rfl rfl)
theorem dX25_says_196 : decode cX25_says 196 = .ok (.invokespecial 94, 3) := dk_183 0 94 (dk_at dksX25_says_8 8 rfl rfl)
theorem dX25_says_199 : decode cX25_says 199 = .ok (.goto 38, 3) := dk_167 0 38 (dk_at dksX25_says_8 11 rfl rfl)
theorem dX25_says_202 : decode cX25_says 202 = .ok (.iload 5, 2) := dk_21 5 (dk_at dksX25_says_8 14 rfl rfl)
theorem dX25_says_204 : decode cX25_says 204 = .ok (.iconst (-1), 1) := dk_2 (dk_at dksX25_says_8 16 rfl rfl)
theorem dX25_says_205 : decode cX25_says 205 = .ok (.if_icmp .eq 26, 3) := dk_159 0 26 (dk_at dksX25_says_8 17 rfl rfl)
theorem dX25_says_208 : decode cX25_says 208 = .ok (.new 97, 3) := dk_187 0 97 (dk_at dksX25_says_8 20 rfl rfl)
theorem dX25_says_211 : decode cX25_says 211 = .ok (.dup, 1) := dk_89 (dk_at dksX25_says_8 23 rfl rfl)
theorem dX25_says_212 : decode cX25_says 212 = .ok (.iload 5, 2) := dk_21 5 (dk_at dksX25_says_9 0 rfl rfl)
theorem dX25_says_214 : decode cX25_says 214 = .ok (.aload_n 0, 1) := dk_42 (dk_at dksX25_says_9 2 rfl rfl)
theorem dX25_says_215 : decode cX25_says 215 = .ok (.aload_n 0, 1) := dk_42 (dk_at dksX25_says_9 3 rfl rfl)
theorem dX25_says_216 : decode cX25_says 216 = .ok (.getfield 9, 3) := dk_180 0 9 (dk_at dksX25_says_9 4 rfl rfl)
theorem dX25_says_219 : decode cX25_says 219 = .ok (.getfield 99, 3) := dk_180 0 99 (dk_at dksX25_says_9 7 rfl rfl)
theorem dX25_says_222 : decode cX25_says 222 = .ok (.invokevirtual 105, 3) := dk_182 0 105 (dk_at dksX25_says_9 10 rfl rfl)
theorem dX25_says_225 : decode cX25_says 225 = .ok (.invokespecial 109, 3) := dk_183 0 109 (dk_at dksX25_says_9 13 rfl rfl)
theorem dX25_says_228 : decode cX25_says 228 = .ok (.goto 9, 3) := dk_167 0 9 (dk_at dksX25_says_9 16 rfl rfl)
theorem dX25_says_231 : decode cX25_says 231 = .ok (.aload_n 0, 1) := dk_42 (dk_at dksX25_says_9 19 rfl rfl)
theorem dX25_says_232 : decode cX25_says 232 = .ok (.iload 6, 2) := dk_21 6 (dk_at dksX25_says_9 20 rfl rfl)
theorem dX25_says_234 : decode cX25_says 234 = .ok (.invokevirtual 112, 3) := dk_182 0 112 (dk_at dksX25_says_10 0 rfl rfl)
theorem dX25_says_237 : decode cX25_says 237 = .ok (.astore 7, 2) := dk_58 7 (dk_at dksX25_says_10 3 rfl rfl)
theorem dX25_says_239 : decode cX25_says 239 = .ok (.aload_n 0, 1) := dk_42 (dk_at dksX25_says_10 5 rfl rfl)
theorem dX25_says_240 : decode cX25_says 240 = .ok (.dup, 1) := dk_89 (dk_at dksX25_says_10 6 rfl rfl)
theorem dX25_says_241 : decode cX25_says 241 = .ok (.getfield 81, 3) := dk_180 0 81 (dk_at dksX25_says_10 7 rfl rfl)
theorem dX25_says_244 : decode cX25_says 244 = .ok (.iconst 1, 1) := dk_4 (dk_at dksX25_says_10 10 rfl rfl)
theorem dX25_says_245 : decode cX25_says 245 = .ok (.isub, 1) := dk_100 (dk_at dksX25_says_10 11 rfl rfl)
theorem dX25_says_246 : decode cX25_says 246 = .ok (.putfield 81, 3) := dk_181 0 81 (dk_at dksX25_says_10 12 rfl rfl)
theorem dX25_says_249 : decode cX25_says 249 = .ok (.aload 7, 2) := dk_25 7 (dk_at dksX25_says_10 15 rfl rfl)
theorem dX25_says_251 : decode cX25_says 251 = .ok (.areturn, 1) := dk_176 (dk_at dksX25_says_10 17 rfl rfl)
abbrev cX25_named : ByteArray := prog_25_method_5_code
def yX25_named : MethodName := ⟨RX25, "named", "()I"⟩
def dkwX25_named_1 : List UInt8 := [167, 0, 17, 42, 18, 52, 182, 0, 35, 153, 0, 7, 5, 167, 0, 4, 2, 172]
abbrev dktX25_named_1 : List UInt8 := dkwX25_named_1 ++ []
def dkwX25_named_0 : List UInt8 := [42, 18, 48, 182, 0, 35, 153, 0, 7, 3, 167, 0, 30, 42, 18, 50, 182, 0, 35, 153, 0, 7, 4]
abbrev dktX25_named_0 : List UInt8 := dkwX25_named_0 ++ dktX25_named_1
theorem dksX25_named_0 : cX25_named.data.toList.drop 0 = dktX25_named_0 := by decide +kernel
theorem dksX25_named_1 : cX25_named.data.toList.drop 23 = dktX25_named_1 := dk_seg dksX25_named_0 23 rfl rfl
theorem dX25_named_0 : decode cX25_named 0 = .ok (.aload_n 0, 1) := dk_42 (dk_at dksX25_named_0 0 rfl rfl)
theorem dX25_named_1 : decode cX25_named 1 = .ok (.ldc 48, 2) := dk_18 48 (dk_at dksX25_named_0 1 rfl rfl)
theorem dX25_named_3 : decode cX25_named 3 = .ok (.invokevirtual 35, 3) := dk_182 0 35 (dk_at dksX25_named_0 3 rfl rfl)
theorem dX25_named_6 : decode cX25_named 6 = .ok (.ifCond .eq 7, 3) := dk_153 0 7 (dk_at dksX25_named_0 6 rfl rfl)
theorem dX25_named_9 : decode cX25_named 9 = .ok (.iconst 0, 1) := dk_3 (dk_at dksX25_named_0 9 rfl rfl)
theorem dX25_named_10 : decode cX25_named 10 = .ok (.goto 30, 3) := dk_167 0 30 (dk_at dksX25_named_0 10 rfl rfl)
theorem dX25_named_13 : decode cX25_named 13 = .ok (.aload_n 0, 1) := dk_42 (dk_at dksX25_named_0 13 rfl rfl)
theorem dX25_named_14 : decode cX25_named 14 = .ok (.ldc 50, 2) := dk_18 50 (dk_at dksX25_named_0 14 rfl rfl)
theorem dX25_named_16 : decode cX25_named 16 = .ok (.invokevirtual 35, 3) := dk_182 0 35 (dk_at dksX25_named_0 16 rfl rfl)
theorem dX25_named_19 : decode cX25_named 19 = .ok (.ifCond .eq 7, 3) := dk_153 0 7 (dk_at dksX25_named_0 19 rfl rfl)
theorem dX25_named_22 : decode cX25_named 22 = .ok (.iconst 1, 1) := dk_4 (dk_at dksX25_named_0 22 rfl rfl)
theorem dX25_named_23 : decode cX25_named 23 = .ok (.goto 17, 3) := dk_167 0 17 (dk_at dksX25_named_1 0 rfl rfl)
theorem dX25_named_26 : decode cX25_named 26 = .ok (.aload_n 0, 1) := dk_42 (dk_at dksX25_named_1 3 rfl rfl)
theorem dX25_named_27 : decode cX25_named 27 = .ok (.ldc 52, 2) := dk_18 52 (dk_at dksX25_named_1 4 rfl rfl)
theorem dX25_named_29 : decode cX25_named 29 = .ok (.invokevirtual 35, 3) := dk_182 0 35 (dk_at dksX25_named_1 6 rfl rfl)
theorem dX25_named_32 : decode cX25_named 32 = .ok (.ifCond .eq 7, 3) := dk_153 0 7 (dk_at dksX25_named_1 9 rfl rfl)
theorem dX25_named_35 : decode cX25_named 35 = .ok (.iconst 2, 1) := dk_5 (dk_at dksX25_named_1 12 rfl rfl)
theorem dX25_named_36 : decode cX25_named 36 = .ok (.goto 4, 3) := dk_167 0 4 (dk_at dksX25_named_1 13 rfl rfl)
theorem dX25_named_39 : decode cX25_named 39 = .ok (.iconst (-1), 1) := dk_2 (dk_at dksX25_named_1 16 rfl rfl)
theorem dX25_named_40 : decode cX25_named 40 = .ok (.ireturn, 1) := dk_172 (dk_at dksX25_named_1 17 rfl rfl)
abbrev cX25_numbered : ByteArray := prog_25_method_6_code
def yX25_numbered : MethodName := ⟨RX25, "numbered", "()I"⟩
def dkwX25_numbered_2 : List UInt8 := [153, 0, 7, 6, 167, 0, 4, 2, 172]
abbrev dktX25_numbered_2 : List UInt8 := dkwX25_numbered_2 ++ []
def dkwX25_numbered_1 : List UInt8 := [167, 0, 30, 42, 18, 58, 182, 0, 35, 153, 0, 7, 5, 167, 0, 17, 42, 18, 60, 182, 0, 35]
abbrev dktX25_numbered_1 : List UInt8 := dkwX25_numbered_1 ++ dktX25_numbered_2
def dkwX25_numbered_0 : List UInt8 := [42, 18, 54, 182, 0, 35, 153, 0, 7, 3, 167, 0, 43, 42, 18, 56, 182, 0, 35, 153, 0, 7, 4]
abbrev dktX25_numbered_0 : List UInt8 := dkwX25_numbered_0 ++ dktX25_numbered_1
theorem dksX25_numbered_0 : cX25_numbered.data.toList.drop 0 = dktX25_numbered_0 := by decide +kernel
theorem dksX25_numbered_1 : cX25_numbered.data.toList.drop 23 = dktX25_numbered_1 := dk_seg dksX25_numbered_0 23 rfl rfl
theorem dksX25_numbered_2 : cX25_numbered.data.toList.drop 45 = dktX25_numbered_2 := dk_seg dksX25_numbered_1 22 rfl rfl
theorem dX25_numbered_0 : decode cX25_numbered 0 = .ok (.aload_n 0, 1) := dk_42 (dk_at dksX25_numbered_0 0 rfl rfl)
theorem dX25_numbered_1 : decode cX25_numbered 1 = .ok (.ldc 54, 2) := dk_18 54 (dk_at dksX25_numbered_0 1 rfl rfl)
theorem dX25_numbered_3 : decode cX25_numbered 3 = .ok (.invokevirtual 35, 3) := dk_182 0 35 (dk_at dksX25_numbered_0 3 rfl rfl)
theorem dX25_numbered_6 : decode cX25_numbered 6 = .ok (.ifCond .eq 7, 3) := dk_153 0 7 (dk_at dksX25_numbered_0 6 rfl rfl)
theorem dX25_numbered_9 : decode cX25_numbered 9 = .ok (.iconst 0, 1) := dk_3 (dk_at dksX25_numbered_0 9 rfl rfl)
theorem dX25_numbered_10 : decode cX25_numbered 10 = .ok (.goto 43, 3) := dk_167 0 43 (dk_at dksX25_numbered_0 10 rfl rfl)
theorem dX25_numbered_13 : decode cX25_numbered 13 = .ok (.aload_n 0, 1) := dk_42 (dk_at dksX25_numbered_0 13 rfl rfl)
theorem dX25_numbered_14 : decode cX25_numbered 14 = .ok (.ldc 56, 2) := dk_18 56 (dk_at dksX25_numbered_0 14 rfl rfl)
theorem dX25_numbered_16 : decode cX25_numbered 16 = .ok (.invokevirtual 35, 3) := dk_182 0 35 (dk_at dksX25_numbered_0 16 rfl rfl)
theorem dX25_numbered_19 : decode cX25_numbered 19 = .ok (.ifCond .eq 7, 3) := dk_153 0 7 (dk_at dksX25_numbered_0 19 rfl rfl)
theorem dX25_numbered_22 : decode cX25_numbered 22 = .ok (.iconst 1, 1) := dk_4 (dk_at dksX25_numbered_0 22 rfl rfl)
theorem dX25_numbered_23 : decode cX25_numbered 23 = .ok (.goto 30, 3) := dk_167 0 30 (dk_at dksX25_numbered_1 0 rfl rfl)
theorem dX25_numbered_26 : decode cX25_numbered 26 = .ok (.aload_n 0, 1) := dk_42 (dk_at dksX25_numbered_1 3 rfl rfl)
theorem dX25_numbered_27 : decode cX25_numbered 27 = .ok (.ldc 58, 2) := dk_18 58 (dk_at dksX25_numbered_1 4 rfl rfl)
theorem dX25_numbered_29 : decode cX25_numbered 29 = .ok (.invokevirtual 35, 3) := dk_182 0 35 (dk_at dksX25_numbered_1 6 rfl rfl)
theorem dX25_numbered_32 : decode cX25_numbered 32 = .ok (.ifCond .eq 7, 3) := dk_153 0 7 (dk_at dksX25_numbered_1 9 rfl rfl)
theorem dX25_numbered_35 : decode cX25_numbered 35 = .ok (.iconst 2, 1) := dk_5 (dk_at dksX25_numbered_1 12 rfl rfl)
theorem dX25_numbered_36 : decode cX25_numbered 36 = .ok (.goto 17, 3) := dk_167 0 17 (dk_at dksX25_numbered_1 13 rfl rfl)
theorem dX25_numbered_39 : decode cX25_numbered 39 = .ok (.aload_n 0, 1) := dk_42 (dk_at dksX25_numbered_1 16 rfl rfl)
theorem dX25_numbered_40 : decode cX25_numbered 40 = .ok (.ldc 60, 2) := dk_18 60 (dk_at dksX25_numbered_1 17 rfl rfl)
theorem dX25_numbered_42 : decode cX25_numbered 42 = .ok (.invokevirtual 35, 3) := dk_182 0 35 (dk_at dksX25_numbered_1 19 rfl rfl)
theorem dX25_numbered_45 : decode cX25_numbered 45 = .ok (.ifCond .eq 7, 3) := dk_153 0 7 (dk_at dksX25_numbered_2 0 rfl rfl)
theorem dX25_numbered_48 : decode cX25_numbered 48 = .ok (.iconst 3, 1) := dk_6 (dk_at dksX25_numbered_2 3 rfl rfl)
theorem dX25_numbered_49 : decode cX25_numbered 49 = .ok (.goto 4, 3) := dk_167 0 4 (dk_at dksX25_numbered_2 4 rfl rfl)
theorem dX25_numbered_52 : decode cX25_numbered 52 = .ok (.iconst (-1), 1) := dk_2 (dk_at dksX25_numbered_2 7 rfl rfl)
theorem dX25_numbered_53 : decode cX25_numbered 53 = .ok (.ireturn, 1) := dk_172 (dk_at dksX25_numbered_2 8 rfl rfl)
abbrev cX25_bracket : ByteArray := prog_25_method_8_code
def yX25_bracket : MethodName := ⟨RX25, "bracket", "()LInchBorders$Cond;"⟩
def dkwX25_bracket_1 : List UInt8 := [4, 167, 0, 4, 3, 4, 182, 0, 27, 42, 182, 0, 15, 43, 176]
abbrev dktX25_bracket_1 : List UInt8 := dkwX25_bracket_1 ++ []
def dkwX25_bracket_0 : List UInt8 := [42, 182, 0, 19, 76, 42, 42, 180, 0, 23, 16, 6, 160, 0, 16, 42, 180, 0, 62, 16, 41, 160, 0, 7]
abbrev dktX25_bracket_0 : List UInt8 := dkwX25_bracket_0 ++ dktX25_bracket_1
theorem dksX25_bracket_0 : cX25_bracket.data.toList.drop 0 = dktX25_bracket_0 := by decide +kernel
theorem dksX25_bracket_1 : cX25_bracket.data.toList.drop 24 = dktX25_bracket_1 := dk_seg dksX25_bracket_0 24 rfl rfl
theorem dX25_bracket_0 : decode cX25_bracket 0 = .ok (.aload_n 0, 1) := dk_42 (dk_at dksX25_bracket_0 0 rfl rfl)
theorem dX25_bracket_1 : decode cX25_bracket 1 = .ok (.invokevirtual 19, 3) := dk_182 0 19 (dk_at dksX25_bracket_0 1 rfl rfl)
theorem dX25_bracket_4 : decode cX25_bracket 4 = .ok (.astore_n 1, 1) := dk_76 (dk_at dksX25_bracket_0 4 rfl rfl)
theorem dX25_bracket_5 : decode cX25_bracket 5 = .ok (.aload_n 0, 1) := dk_42 (dk_at dksX25_bracket_0 5 rfl rfl)
theorem dX25_bracket_6 : decode cX25_bracket 6 = .ok (.aload_n 0, 1) := dk_42 (dk_at dksX25_bracket_0 6 rfl rfl)
theorem dX25_bracket_7 : decode cX25_bracket 7 = .ok (.getfield 23, 3) := dk_180 0 23 (dk_at dksX25_bracket_0 7 rfl rfl)
theorem dX25_bracket_10 : decode cX25_bracket 10 = .ok (.bipush 6, 2) := dk_16 6 (dk_at dksX25_bracket_0 10 rfl rfl)
theorem dX25_bracket_12 : decode cX25_bracket 12 = .ok (.if_icmp .ne 16, 3) := dk_160 0 16 (dk_at dksX25_bracket_0 12 rfl rfl)
theorem dX25_bracket_15 : decode cX25_bracket 15 = .ok (.aload_n 0, 1) := dk_42 (dk_at dksX25_bracket_0 15 rfl rfl)
theorem dX25_bracket_16 : decode cX25_bracket 16 = .ok (.getfield 62, 3) := dk_180 0 62 (dk_at dksX25_bracket_0 16 rfl rfl)
theorem dX25_bracket_19 : decode cX25_bracket 19 = .ok (.bipush 41, 2) := dk_16 41 (dk_at dksX25_bracket_0 19 rfl rfl)
theorem dX25_bracket_21 : decode cX25_bracket 21 = .ok (.if_icmp .ne 7, 3) := dk_160 0 7 (dk_at dksX25_bracket_0 21 rfl rfl)
theorem dX25_bracket_24 : decode cX25_bracket 24 = .ok (.iconst 1, 1) := dk_4 (dk_at dksX25_bracket_1 0 rfl rfl)
theorem dX25_bracket_25 : decode cX25_bracket 25 = .ok (.goto 4, 3) := dk_167 0 4 (dk_at dksX25_bracket_1 1 rfl rfl)
theorem dX25_bracket_28 : decode cX25_bracket 28 = .ok (.iconst 0, 1) := dk_3 (dk_at dksX25_bracket_1 4 rfl rfl)
theorem dX25_bracket_29 : decode cX25_bracket 29 = .ok (.iconst 1, 1) := dk_4 (dk_at dksX25_bracket_1 5 rfl rfl)
theorem dX25_bracket_30 : decode cX25_bracket 30 = .ok (.invokevirtual 27, 3) := dk_182 0 27 (dk_at dksX25_bracket_1 6 rfl rfl)
theorem dX25_bracket_33 : decode cX25_bracket 33 = .ok (.aload_n 0, 1) := dk_42 (dk_at dksX25_bracket_1 9 rfl rfl)
theorem dX25_bracket_34 : decode cX25_bracket 34 = .ok (.invokevirtual 15, 3) := dk_182 0 15 (dk_at dksX25_bracket_1 10 rfl rfl)
theorem dX25_bracket_37 : decode cX25_bracket 37 = .ok (.aload_n 1, 1) := dk_43 (dk_at dksX25_bracket_1 13 rfl rfl)
theorem dX25_bracket_38 : decode cX25_bracket 38 = .ok (.areturn, 1) := dk_176 (dk_at dksX25_bracket_1 14 rfl rfl)
abbrev cX25_than : ByteArray := prog_25_method_9_code
def yX25_than : MethodName := ⟨RX25, "than", "(I)LInchBorders$Cond;"⟩
def dkwX25_than_2 : List UInt8 := [187, 0, 116, 89, 27, 28, 42, 3, 17, 3, 231, 182, 0, 118, 183, 0, 121, 176]
abbrev dktX25_than_2 : List UInt8 := dkwX25_than_2 ++ []
def dkwX25_than_1 : List UInt8 := [16, 41, 159, 0, 7, 4, 167, 0, 4, 3, 4, 182, 0, 27, 42, 180, 0, 62, 61, 42, 182, 0, 15]
abbrev dktX25_than_1 : List UInt8 := dkwX25_than_1 ++ dktX25_than_2
def dkwX25_than_0 : List UInt8 := [42, 42, 180, 0, 23, 16, 6, 160, 0, 25, 42, 180, 0, 62, 16, 40, 159, 0, 16, 42, 180, 0, 62]
abbrev dktX25_than_0 : List UInt8 := dkwX25_than_0 ++ dktX25_than_1
theorem dksX25_than_0 : cX25_than.data.toList.drop 0 = dktX25_than_0 := by decide +kernel
theorem dksX25_than_1 : cX25_than.data.toList.drop 23 = dktX25_than_1 := dk_seg dksX25_than_0 23 rfl rfl
theorem dksX25_than_2 : cX25_than.data.toList.drop 46 = dktX25_than_2 := dk_seg dksX25_than_1 23 rfl rfl
theorem dX25_than_0 : decode cX25_than 0 = .ok (.aload_n 0, 1) := dk_42 (dk_at dksX25_than_0 0 rfl rfl)
theorem dX25_than_1 : decode cX25_than 1 = .ok (.aload_n 0, 1) := dk_42 (dk_at dksX25_than_0 1 rfl rfl)
theorem dX25_than_2 : decode cX25_than 2 = .ok (.getfield 23, 3) := dk_180 0 23 (dk_at dksX25_than_0 2 rfl rfl)
theorem dX25_than_5 : decode cX25_than 5 = .ok (.bipush 6, 2) := dk_16 6 (dk_at dksX25_than_0 5 rfl rfl)
theorem dX25_than_7 : decode cX25_than 7 = .ok (.if_icmp .ne 25, 3) := dk_160 0 25 (dk_at dksX25_than_0 7 rfl rfl)
theorem dX25_than_10 : decode cX25_than 10 = .ok (.aload_n 0, 1) := dk_42 (dk_at dksX25_than_0 10 rfl rfl)
theorem dX25_than_11 : decode cX25_than 11 = .ok (.getfield 62, 3) := dk_180 0 62 (dk_at dksX25_than_0 11 rfl rfl)
theorem dX25_than_14 : decode cX25_than 14 = .ok (.bipush 40, 2) := dk_16 40 (dk_at dksX25_than_0 14 rfl rfl)
theorem dX25_than_16 : decode cX25_than 16 = .ok (.if_icmp .eq 16, 3) := dk_159 0 16 (dk_at dksX25_than_0 16 rfl rfl)
theorem dX25_than_19 : decode cX25_than 19 = .ok (.aload_n 0, 1) := dk_42 (dk_at dksX25_than_0 19 rfl rfl)
theorem dX25_than_20 : decode cX25_than 20 = .ok (.getfield 62, 3) := dk_180 0 62 (dk_at dksX25_than_0 20 rfl rfl)
theorem dX25_than_23 : decode cX25_than 23 = .ok (.bipush 41, 2) := dk_16 41 (dk_at dksX25_than_1 0 rfl rfl)
theorem dX25_than_25 : decode cX25_than 25 = .ok (.if_icmp .eq 7, 3) := dk_159 0 7 (dk_at dksX25_than_1 2 rfl rfl)
theorem dX25_than_28 : decode cX25_than 28 = .ok (.iconst 1, 1) := dk_4 (dk_at dksX25_than_1 5 rfl rfl)
theorem dX25_than_29 : decode cX25_than 29 = .ok (.goto 4, 3) := dk_167 0 4 (dk_at dksX25_than_1 6 rfl rfl)
theorem dX25_than_32 : decode cX25_than 32 = .ok (.iconst 0, 1) := dk_3 (dk_at dksX25_than_1 9 rfl rfl)
theorem dX25_than_33 : decode cX25_than 33 = .ok (.iconst 1, 1) := dk_4 (dk_at dksX25_than_1 10 rfl rfl)
theorem dX25_than_34 : decode cX25_than 34 = .ok (.invokevirtual 27, 3) := dk_182 0 27 (dk_at dksX25_than_1 11 rfl rfl)
theorem dX25_than_37 : decode cX25_than 37 = .ok (.aload_n 0, 1) := dk_42 (dk_at dksX25_than_1 14 rfl rfl)
theorem dX25_than_38 : decode cX25_than 38 = .ok (.getfield 62, 3) := dk_180 0 62 (dk_at dksX25_than_1 15 rfl rfl)
theorem dX25_than_41 : decode cX25_than 41 = .ok (.istore_n 2, 1) := dk_61 (dk_at dksX25_than_1 18 rfl rfl)
theorem dX25_than_42 : decode cX25_than 42 = .ok (.aload_n 0, 1) := dk_42 (dk_at dksX25_than_1 19 rfl rfl)
theorem dX25_than_43 : decode cX25_than 43 = .ok (.invokevirtual 15, 3) := dk_182 0 15 (dk_at dksX25_than_1 20 rfl rfl)
theorem dX25_than_46 : decode cX25_than 46 = .ok (.new 116, 3) := dk_187 0 116 (dk_at dksX25_than_2 0 rfl rfl)
theorem dX25_than_49 : decode cX25_than 49 = .ok (.dup, 1) := dk_89 (dk_at dksX25_than_2 3 rfl rfl)
theorem dX25_than_50 : decode cX25_than 50 = .ok (.iload_n 1, 1) := dk_27 (dk_at dksX25_than_2 4 rfl rfl)
theorem dX25_than_51 : decode cX25_than 51 = .ok (.iload_n 2, 1) := dk_28 (dk_at dksX25_than_2 5 rfl rfl)
theorem dX25_than_52 : decode cX25_than 52 = .ok (.aload_n 0, 1) := dk_42 (dk_at dksX25_than_2 6 rfl rfl)
theorem dX25_than_53 : decode cX25_than 53 = .ok (.iconst 0, 1) := dk_3 (dk_at dksX25_than_2 7 rfl rfl)
theorem dX25_than_54 : decode cX25_than 54 = .ok (.sipush 999, 3) := dk_17 3 231 (dk_at dksX25_than_2 8 rfl rfl)
theorem dX25_than_57 : decode cX25_than 57 = .ok (.invokevirtual 118, 3) := dk_182 0 118 (dk_at dksX25_than_2 11 rfl rfl)
theorem dX25_than_60 : decode cX25_than 60 = .ok (.invokespecial 121, 3) := dk_183 0 121 (dk_at dksX25_than_2 14 rfl rfl)
theorem dX25_than_63 : decode cX25_than 63 = .ok (.areturn, 1) := dk_176 (dk_at dksX25_than_2 17 rfl rfl)
theorem q156 : (Jvm.Cond.initialized "InchBorders$SentenceReader") ∈ lw_all := lw_g (lw_at lw_m1 45 rfl) rfl
theorem q210 : (Jvm.Cond.fieldLinkNest "InchBorders$SentenceReader" (99 : Nat) "InchBorders$Atlas" "lands" "Ljava/util/ArrayList;" "InchBorders") ∈ lw_tbl := lw_at lw_m1 99 rfl
theorem q484 : (Jvm.Cond.fieldLink "InchBorders$SentenceReader" (23 : Nat) "InchBorders$SentenceReader" "kind" "I") ∈ lw_all := lw_g (lw_at lw_m2 133 rfl) rfl
theorem q485 : (Jvm.Cond.sameField "InchBorders$SentenceReader" "InchBorders$Reader" "kind" "I") ∈ lw_all := lw_g (lw_at lw_m2 134 rfl) rfl
theorem q490 : (Jvm.Cond.fieldLink "InchBorders$SentenceReader" (62 : Nat) "InchBorders$SentenceReader" "sign" "I") ∈ lw_all := lw_g (lw_at lw_m2 139 rfl) rfl
theorem q491 : (Jvm.Cond.sameField "InchBorders$SentenceReader" "InchBorders$Reader" "sign" "I") ∈ lw_all := lw_g (lw_at lw_m2 140 rfl) rfl
theorem q1007 : (Jvm.Cond.selects "InchBorders$SentenceReader" ({ cls := "java/lang/Object", name := "getClass", desc := "()Ljava/lang/Class;" } : Jvm.MethodName) ({ cls := "java/lang/Object", name := "getClass", desc := "()Ljava/lang/Class;" } : Jvm.MethodName)) ∈ lw_all := lw_g (lw_at lw_m4 176 rfl) rfl
theorem q1794 : (Jvm.Cond.instantiable "InchBorders$SentenceReader" (12 : Nat)) ∈ lw_all := lw_g (lw_at lw_m8 3 rfl) rfl
theorem q1796 : (Jvm.Cond.instanceMethod ({ cls := "InchBorders$SentenceReader", name := "<init>", desc := "([BILInchBorders$Atlas;)V" } : Jvm.MethodName)) ∈ lw_all := lw_g (lw_at lw_m8 5 rfl) rfl
theorem q1797 : (Jvm.Cond.code ({ cls := "InchBorders$SentenceReader", name := "<init>", desc := "([BILInchBorders$Atlas;)V" } : Jvm.MethodName) prog_25_method_1_code (4 : Nat) (Option.none : Option Jvm.ClassFile.FieldType)) ∈ lw_all := lw_g (lw_at lw_m8 6 rfl) rfl
theorem q1798 : (Jvm.Cond.methodLink "InchBorders$SentenceReader" (3 : Nat) ({ cls := "InchBorders$Reader", name := "<init>", desc := "([BII)V" } : Jvm.MethodName)) ∈ lw_all := lw_g (lw_at lw_m8 7 rfl) rfl
theorem q1799 : (Jvm.Cond.fieldLink "InchBorders$SentenceReader" (9 : Nat) "InchBorders$SentenceReader" "a" "LInchBorders$Atlas;") ∈ lw_all := lw_g (lw_at lw_m8 8 rfl) rfl
theorem q1800 : (Jvm.Cond.fieldLink "InchBorders$SentenceReader" (78 : Nat) "InchBorders$SentenceReader" "ones" "I") ∈ lw_all := lw_g (lw_at lw_m8 9 rfl) rfl
theorem q1802 : (Jvm.Cond.fieldLink "InchBorders$SentenceReader" (81 : Nat) "InchBorders$SentenceReader" "within" "I") ∈ lw_all := lw_g (lw_at lw_m8 11 rfl) rfl
theorem q1803 : (Jvm.Cond.laysFinal "InchBorders$SentenceReader" "InchBorders$SentenceReader" "a" "LInchBorders$Atlas;") ∈ lw_all := lw_g (lw_at lw_m8 12 rfl) rfl
theorem q1804 : (Jvm.Cond.soleField "InchBorders$SentenceReader" "a") ∈ lw_all := lw_g (lw_at lw_m8 13 rfl) rfl
theorem q1805 : (Jvm.Cond.lays "InchBorders$SentenceReader" "InchBorders$SentenceReader" "ones" "I") ∈ lw_all := lw_g (lw_at lw_m8 14 rfl) rfl
theorem q1806 : (Jvm.Cond.soleField "InchBorders$SentenceReader" "ones") ∈ lw_all := lw_g (lw_at lw_m8 15 rfl) rfl
theorem q1807 : (Jvm.Cond.lays "InchBorders$SentenceReader" "InchBorders$SentenceReader" "within" "I") ∈ lw_all := lw_g (lw_at lw_m8 16 rfl) rfl
theorem q1808 : (Jvm.Cond.soleField "InchBorders$SentenceReader" "within") ∈ lw_all := lw_g (lw_at lw_m8 17 rfl) rfl
theorem q1809 : (Jvm.Cond.laysFinal "InchBorders$SentenceReader" "InchBorders$Reader" "tape" "[B") ∈ lw_all := lw_g (lw_at lw_m8 18 rfl) rfl
theorem q1810 : (Jvm.Cond.laysFinal "InchBorders$SentenceReader" "InchBorders$Reader" "size" "I") ∈ lw_all := lw_g (lw_at lw_m8 19 rfl) rfl
theorem q1811 : (Jvm.Cond.laysFinal "InchBorders$SentenceReader" "InchBorders$Reader" "limit" "I") ∈ lw_all := lw_g (lw_at lw_m8 20 rfl) rfl
theorem q1812 : (Jvm.Cond.lays "InchBorders$SentenceReader" "InchBorders$Reader" "to" "I") ∈ lw_all := lw_g (lw_at lw_m8 21 rfl) rfl
theorem q1813 : (Jvm.Cond.lays "InchBorders$SentenceReader" "InchBorders$Reader" "kind" "I") ∈ lw_all := lw_g (lw_at lw_m8 22 rfl) rfl
theorem q1814 : (Jvm.Cond.lays "InchBorders$SentenceReader" "InchBorders$Reader" "from" "I") ∈ lw_all := lw_g (lw_at lw_m8 23 rfl) rfl
theorem q1815 : (Jvm.Cond.lays "InchBorders$SentenceReader" "InchBorders$Reader" "number" "I") ∈ lw_all := lw_g (lw_at lw_m8 24 rfl) rfl
theorem q1816 : (Jvm.Cond.lays "InchBorders$SentenceReader" "InchBorders$Reader" "sign" "I") ∈ lw_all := lw_g (lw_at lw_m8 25 rfl) rfl
theorem q1817 : (Jvm.Cond.lays "InchBorders$SentenceReader" "InchBorders$Reader" "word" "Ljava/lang/String;") ∈ lw_all := lw_g (lw_at lw_m8 26 rfl) rfl
theorem q1818 : (Jvm.Cond.superclass "InchBorders$SentenceReader" "InchBorders$Reader") ∈ lw_all := lw_g (lw_at lw_m8 27 rfl) rfl
theorem q1820 : (Jvm.Cond.instanceMethod ({ cls := "InchBorders$SentenceReader", name := "read", desc := "()LInchBorders$Cond;" } : Jvm.MethodName)) ∈ lw_all := lw_g (lw_at lw_m8 29 rfl) rfl
theorem q1821 : (Jvm.Cond.selects "InchBorders$SentenceReader" ({ cls := "InchBorders$SentenceReader", name := "read", desc := "()LInchBorders$Cond;" } : Jvm.MethodName) ({ cls := "InchBorders$SentenceReader", name := "read", desc := "()LInchBorders$Cond;" } : Jvm.MethodName)) ∈ lw_all := lw_g (lw_at lw_m8 30 rfl) rfl
theorem q1822 : (Jvm.Cond.code ({ cls := "InchBorders$SentenceReader", name := "read", desc := "()LInchBorders$Cond;" } : Jvm.MethodName) prog_25_method_2_code (2 : Nat) (Option.some (Jvm.ClassFile.FieldType.object "InchBorders$Cond"))) ∈ lw_all := lw_g (lw_at lw_m8 31 rfl) rfl
theorem q1823 : (Jvm.Cond.methodLink "InchBorders$SentenceReader" (15 : Nat) ({ cls := "InchBorders$SentenceReader", name := "go", desc := "()V" } : Jvm.MethodName)) ∈ lw_all := lw_g (lw_at lw_m8 32 rfl) rfl
theorem q1824 : (Jvm.Cond.sameMethod "InchBorders$SentenceReader" "InchBorders$Reader" "go" "()V") ∈ lw_all := lw_g (lw_at lw_m8 33 rfl) rfl
theorem q1825 : (Jvm.Cond.selects "InchBorders$SentenceReader" ({ cls := "InchBorders$SentenceReader", name := "go", desc := "()V" } : Jvm.MethodName) ({ cls := "InchBorders$Reader", name := "go", desc := "()V" } : Jvm.MethodName)) ∈ lw_all := lw_g (lw_at lw_m8 34 rfl) rfl
theorem q1826 : (Jvm.Cond.methodLink "InchBorders$SentenceReader" (19 : Nat) ({ cls := "InchBorders$SentenceReader", name := "or", desc := "()LInchBorders$Cond;" } : Jvm.MethodName)) ∈ lw_all := lw_g (lw_at lw_m8 35 rfl) rfl
theorem q1827 : (Jvm.Cond.privateMethod ({ cls := "InchBorders$SentenceReader", name := "or", desc := "()LInchBorders$Cond;" } : Jvm.MethodName)) ∈ lw_tbl := lw_at lw_m8 36 rfl
theorem q1828 : (Jvm.Cond.instanceMethod ({ cls := "InchBorders$SentenceReader", name := "or", desc := "()LInchBorders$Cond;" } : Jvm.MethodName)) ∈ lw_all := lw_g (lw_at lw_m8 37 rfl) rfl
theorem q1829 : (Jvm.Cond.code ({ cls := "InchBorders$SentenceReader", name := "or", desc := "()LInchBorders$Cond;" } : Jvm.MethodName) prog_25_method_3_code (2 : Nat) (Option.some (Jvm.ClassFile.FieldType.object "InchBorders$Cond"))) ∈ lw_all := lw_g (lw_at lw_m8 38 rfl) rfl
theorem q1830 : (Jvm.Cond.methodLink "InchBorders$SentenceReader" (31 : Nat) ({ cls := "InchBorders$SentenceReader", name := "and", desc := "()LInchBorders$Cond;" } : Jvm.MethodName)) ∈ lw_all := lw_g (lw_at lw_m8 39 rfl) rfl
theorem q1831 : (Jvm.Cond.privateMethod ({ cls := "InchBorders$SentenceReader", name := "and", desc := "()LInchBorders$Cond;" } : Jvm.MethodName)) ∈ lw_tbl := lw_at lw_m8 40 rfl
theorem q1832 : (Jvm.Cond.instanceMethod ({ cls := "InchBorders$SentenceReader", name := "and", desc := "()LInchBorders$Cond;" } : Jvm.MethodName)) ∈ lw_all := lw_g (lw_at lw_m8 41 rfl) rfl
theorem q1833 : (Jvm.Cond.code ({ cls := "InchBorders$SentenceReader", name := "and", desc := "()LInchBorders$Cond;" } : Jvm.MethodName) prog_25_method_4_code (2 : Nat) (Option.some (Jvm.ClassFile.FieldType.object "InchBorders$Cond"))) ∈ lw_all := lw_g (lw_at lw_m8 42 rfl) rfl
theorem q1834 : (Jvm.Cond.methodLink "InchBorders$SentenceReader" (44 : Nat) ({ cls := "InchBorders$SentenceReader", name := "says", desc := "()LInchBorders$Cond;" } : Jvm.MethodName)) ∈ lw_all := lw_g (lw_at lw_m8 43 rfl) rfl
theorem q1835 : (Jvm.Cond.privateMethod ({ cls := "InchBorders$SentenceReader", name := "says", desc := "()LInchBorders$Cond;" } : Jvm.MethodName)) ∈ lw_tbl := lw_at lw_m8 44 rfl
theorem q1836 : (Jvm.Cond.instanceMethod ({ cls := "InchBorders$SentenceReader", name := "says", desc := "()LInchBorders$Cond;" } : Jvm.MethodName)) ∈ lw_all := lw_g (lw_at lw_m8 45 rfl) rfl
theorem q1837 : (Jvm.Cond.code ({ cls := "InchBorders$SentenceReader", name := "says", desc := "()LInchBorders$Cond;" } : Jvm.MethodName) prog_25_method_7_code (8 : Nat) (Option.some (Jvm.ClassFile.FieldType.object "InchBorders$Cond"))) ∈ lw_all := lw_g (lw_at lw_m8 46 rfl) rfl
theorem q1838 : (Jvm.Cond.stringRef "InchBorders$SentenceReader" (65 : Nat) "not") ∈ lw_tbl := lw_at lw_m8 47 rfl
theorem q1839 : (Jvm.Cond.methodLink "InchBorders$SentenceReader" (35 : Nat) ({ cls := "InchBorders$SentenceReader", name := "is", desc := "(Ljava/lang/String;)Z" } : Jvm.MethodName)) ∈ lw_all := lw_g (lw_at lw_m8 48 rfl) rfl
theorem q1840 : (Jvm.Cond.sameMethod "InchBorders$SentenceReader" "InchBorders$Reader" "is" "(Ljava/lang/String;)Z") ∈ lw_all := lw_g (lw_at lw_m8 49 rfl) rfl
theorem q1841 : (Jvm.Cond.selects "InchBorders$SentenceReader" ({ cls := "InchBorders$SentenceReader", name := "is", desc := "(Ljava/lang/String;)Z" } : Jvm.MethodName) ({ cls := "InchBorders$Reader", name := "is", desc := "(Ljava/lang/String;)Z" } : Jvm.MethodName)) ∈ lw_all := lw_g (lw_at lw_m8 50 rfl) rfl
theorem q1842 : (Jvm.Cond.stringRef "InchBorders$SentenceReader" (67 : Nat) "home") ∈ lw_tbl := lw_at lw_m8 51 rfl
theorem q1843 : (Jvm.Cond.stringRef "InchBorders$SentenceReader" (69 : Nat) "stuck") ∈ lw_tbl := lw_at lw_m8 52 rfl
theorem q1844 : (Jvm.Cond.methodLink "InchBorders$SentenceReader" (71 : Nat) ({ cls := "InchBorders$SentenceReader", name := "named", desc := "()I" } : Jvm.MethodName)) ∈ lw_all := lw_g (lw_at lw_m8 53 rfl) rfl
theorem q1845 : (Jvm.Cond.privateMethod ({ cls := "InchBorders$SentenceReader", name := "named", desc := "()I" } : Jvm.MethodName)) ∈ lw_tbl := lw_at lw_m8 54 rfl
theorem q1846 : (Jvm.Cond.instanceMethod ({ cls := "InchBorders$SentenceReader", name := "named", desc := "()I" } : Jvm.MethodName)) ∈ lw_all := lw_g (lw_at lw_m8 55 rfl) rfl
theorem q1847 : (Jvm.Cond.code ({ cls := "InchBorders$SentenceReader", name := "named", desc := "()I" } : Jvm.MethodName) prog_25_method_5_code (1 : Nat) (Option.some Jvm.ClassFile.FieldType.int)) ∈ lw_all := lw_g (lw_at lw_m8 56 rfl) rfl
theorem q1848 : (Jvm.Cond.stringRef "InchBorders$SentenceReader" (48 : Nat) "in") ∈ lw_tbl := lw_at lw_m8 57 rfl
theorem q1849 : (Jvm.Cond.stringRef "InchBorders$SentenceReader" (50 : Nat) "of") ∈ lw_tbl := lw_at lw_m8 58 rfl
theorem q1850 : (Jvm.Cond.stringRef "InchBorders$SentenceReader" (52 : Nat) "free") ∈ lw_tbl := lw_at lw_m8 59 rfl
theorem q1851 : (Jvm.Cond.methodLink "InchBorders$SentenceReader" (75 : Nat) ({ cls := "InchBorders$SentenceReader", name := "numbered", desc := "()I" } : Jvm.MethodName)) ∈ lw_all := lw_g (lw_at lw_m8 60 rfl) rfl
theorem q1852 : (Jvm.Cond.privateMethod ({ cls := "InchBorders$SentenceReader", name := "numbered", desc := "()I" } : Jvm.MethodName)) ∈ lw_tbl := lw_at lw_m8 61 rfl
theorem q1853 : (Jvm.Cond.instanceMethod ({ cls := "InchBorders$SentenceReader", name := "numbered", desc := "()I" } : Jvm.MethodName)) ∈ lw_all := lw_g (lw_at lw_m8 62 rfl) rfl
theorem q1854 : (Jvm.Cond.code ({ cls := "InchBorders$SentenceReader", name := "numbered", desc := "()I" } : Jvm.MethodName) prog_25_method_6_code (1 : Nat) (Option.some Jvm.ClassFile.FieldType.int)) ∈ lw_all := lw_g (lw_at lw_m8 63 rfl) rfl
theorem q1855 : (Jvm.Cond.stringRef "InchBorders$SentenceReader" (54 : Nat) "length") ∈ lw_tbl := lw_at lw_m8 64 rfl
theorem q1856 : (Jvm.Cond.stringRef "InchBorders$SentenceReader" (56 : Nat) "taken") ∈ lw_tbl := lw_at lw_m8 65 rfl
theorem q1857 : (Jvm.Cond.stringRef "InchBorders$SentenceReader" (58 : Nat) "crossed") ∈ lw_tbl := lw_at lw_m8 66 rfl
theorem q1858 : (Jvm.Cond.stringRef "InchBorders$SentenceReader" (60 : Nat) "number") ∈ lw_tbl := lw_at lw_m8 67 rfl
theorem q1859 : (Jvm.Cond.methodLink "InchBorders$SentenceReader" (27 : Nat) ({ cls := "InchBorders$SentenceReader", name := "need", desc := "(ZI)V" } : Jvm.MethodName)) ∈ lw_all := lw_g (lw_at lw_m8 68 rfl) rfl
theorem q1860 : (Jvm.Cond.sameMethod "InchBorders$SentenceReader" "InchBorders$Reader" "need" "(ZI)V") ∈ lw_all := lw_g (lw_at lw_m8 69 rfl) rfl
theorem q1861 : (Jvm.Cond.selects "InchBorders$SentenceReader" ({ cls := "InchBorders$SentenceReader", name := "need", desc := "(ZI)V" } : Jvm.MethodName) ({ cls := "InchBorders$Reader", name := "need", desc := "(ZI)V" } : Jvm.MethodName)) ∈ lw_all := lw_g (lw_at lw_m8 70 rfl) rfl
theorem q1862 : (Jvm.Cond.methodLink "InchBorders$SentenceReader" (84 : Nat) ({ cls := "InchBorders$SentenceReader", name := "bracket", desc := "()LInchBorders$Cond;" } : Jvm.MethodName)) ∈ lw_all := lw_g (lw_at lw_m8 71 rfl) rfl
theorem q1863 : (Jvm.Cond.privateMethod ({ cls := "InchBorders$SentenceReader", name := "bracket", desc := "()LInchBorders$Cond;" } : Jvm.MethodName)) ∈ lw_tbl := lw_at lw_m8 72 rfl
theorem q1864 : (Jvm.Cond.instanceMethod ({ cls := "InchBorders$SentenceReader", name := "bracket", desc := "()LInchBorders$Cond;" } : Jvm.MethodName)) ∈ lw_all := lw_g (lw_at lw_m8 73 rfl) rfl
theorem q1865 : (Jvm.Cond.code ({ cls := "InchBorders$SentenceReader", name := "bracket", desc := "()LInchBorders$Cond;" } : Jvm.MethodName) prog_25_method_8_code (2 : Nat) (Option.some (Jvm.ClassFile.FieldType.object "InchBorders$Cond"))) ∈ lw_all := lw_g (lw_at lw_m8 74 rfl) rfl
theorem q1866 : (Jvm.Cond.classLink "InchBorders$SentenceReader" (87 : Nat) "InchBorders$Not") ∈ lw_all := lw_g (lw_at lw_m8 75 rfl) rfl
theorem q1868 : (Jvm.Cond.methodLink "InchBorders$SentenceReader" (89 : Nat) ({ cls := "InchBorders$Not", name := "<init>", desc := "(LInchBorders$Cond;)V" } : Jvm.MethodName)) ∈ lw_all := lw_g (lw_at lw_m8 77 rfl) rfl
theorem q1879 : (Jvm.Cond.classLink "InchBorders$SentenceReader" (92 : Nat) "InchBorders$IsSo") ∈ lw_all := lw_g (lw_at lw_m8 88 rfl) rfl
theorem q1881 : (Jvm.Cond.methodLink "InchBorders$SentenceReader" (94 : Nat) ({ cls := "InchBorders$IsSo", name := "<init>", desc := "(Z)V" } : Jvm.MethodName)) ∈ lw_all := lw_g (lw_at lw_m8 90 rfl) rfl
theorem q1889 : (Jvm.Cond.classLink "InchBorders$SentenceReader" (97 : Nat) "InchBorders$Of") ∈ lw_all := lw_g (lw_at lw_m8 98 rfl) rfl
theorem q1891 : (Jvm.Cond.methodLink "InchBorders$SentenceReader" (105 : Nat) ({ cls := "InchBorders$SentenceReader", name := "one", desc := "(Ljava/util/ArrayList;)I" } : Jvm.MethodName)) ∈ lw_all := lw_g (lw_at lw_m8 100 rfl) rfl
theorem q1892 : (Jvm.Cond.sameMethod "InchBorders$SentenceReader" "InchBorders$Reader" "one" "(Ljava/util/ArrayList;)I") ∈ lw_all := lw_g (lw_at lw_m8 101 rfl) rfl
theorem q1893 : (Jvm.Cond.selects "InchBorders$SentenceReader" ({ cls := "InchBorders$SentenceReader", name := "one", desc := "(Ljava/util/ArrayList;)I" } : Jvm.MethodName) ({ cls := "InchBorders$Reader", name := "one", desc := "(Ljava/util/ArrayList;)I" } : Jvm.MethodName)) ∈ lw_all := lw_g (lw_at lw_m8 102 rfl) rfl
theorem q1894 : (Jvm.Cond.methodLink "InchBorders$SentenceReader" (109 : Nat) ({ cls := "InchBorders$Of", name := "<init>", desc := "(II)V" } : Jvm.MethodName)) ∈ lw_all := lw_g (lw_at lw_m8 103 rfl) rfl
theorem q1905 : (Jvm.Cond.methodLink "InchBorders$SentenceReader" (112 : Nat) ({ cls := "InchBorders$SentenceReader", name := "than", desc := "(I)LInchBorders$Cond;" } : Jvm.MethodName)) ∈ lw_all := lw_g (lw_at lw_m8 114 rfl) rfl
theorem q1906 : (Jvm.Cond.privateMethod ({ cls := "InchBorders$SentenceReader", name := "than", desc := "(I)LInchBorders$Cond;" } : Jvm.MethodName)) ∈ lw_tbl := lw_at lw_m8 115 rfl
theorem q1907 : (Jvm.Cond.instanceMethod ({ cls := "InchBorders$SentenceReader", name := "than", desc := "(I)LInchBorders$Cond;" } : Jvm.MethodName)) ∈ lw_all := lw_g (lw_at lw_m8 116 rfl) rfl
theorem q1908 : (Jvm.Cond.code ({ cls := "InchBorders$SentenceReader", name := "than", desc := "(I)LInchBorders$Cond;" } : Jvm.MethodName) prog_25_method_9_code (3 : Nat) (Option.some (Jvm.ClassFile.FieldType.object "InchBorders$Cond"))) ∈ lw_all := lw_g (lw_at lw_m8 117 rfl) rfl
theorem q1909 : (Jvm.Cond.classLink "InchBorders$SentenceReader" (116 : Nat) "InchBorders$Than") ∈ lw_all := lw_g (lw_at lw_m8 118 rfl) rfl
theorem q1911 : (Jvm.Cond.methodLink "InchBorders$SentenceReader" (118 : Nat) ({ cls := "InchBorders$SentenceReader", name := "number", desc := "(II)I" } : Jvm.MethodName)) ∈ lw_all := lw_g (lw_at lw_m8 120 rfl) rfl
theorem q1912 : (Jvm.Cond.sameMethod "InchBorders$SentenceReader" "InchBorders$Reader" "number" "(II)I") ∈ lw_all := lw_g (lw_at lw_m8 121 rfl) rfl
theorem q1913 : (Jvm.Cond.selects "InchBorders$SentenceReader" ({ cls := "InchBorders$SentenceReader", name := "number", desc := "(II)I" } : Jvm.MethodName) ({ cls := "InchBorders$Reader", name := "number", desc := "(II)I" } : Jvm.MethodName)) ∈ lw_all := lw_g (lw_at lw_m8 122 rfl) rfl
theorem q1914 : (Jvm.Cond.methodLink "InchBorders$SentenceReader" (121 : Nat) ({ cls := "InchBorders$Than", name := "<init>", desc := "(III)V" } : Jvm.MethodName)) ∈ lw_all := lw_g (lw_at lw_m8 123 rfl) rfl
theorem q1928 : (Jvm.Cond.stringRef "InchBorders$SentenceReader" (47 : Nat) "and") ∈ lw_tbl := lw_at lw_m8 137 rfl
theorem q1929 : (Jvm.Cond.classLink "InchBorders$SentenceReader" (39 : Nat) "InchBorders$Two") ∈ lw_all := lw_g (lw_at lw_m8 138 rfl) rfl
theorem q1931 : (Jvm.Cond.methodLink "InchBorders$SentenceReader" (41 : Nat) ({ cls := "InchBorders$Two", name := "<init>", desc := "(LInchBorders$Cond;LInchBorders$Cond;Z)V" } : Jvm.MethodName)) ∈ lw_all := lw_g (lw_at lw_m8 140 rfl) rfl
theorem q1945 : (Jvm.Cond.stringRef "InchBorders$SentenceReader" (34 : Nat) "or") ∈ lw_tbl := lw_at lw_m8 154 rfl
theorem q2706 : (Jvm.Cond.selects "InchBorders$SentenceReader" ({ cls := "InchBorders$Reader", name := "need", desc := "(ZI)V" } : Jvm.MethodName) ({ cls := "InchBorders$Reader", name := "need", desc := "(ZI)V" } : Jvm.MethodName)) ∈ lw_all := lw_g (lw_at lw_m11 195 rfl) rfl
theorem q2710 : (Jvm.Cond.selects "InchBorders$SentenceReader" ({ cls := "InchBorders$Reader", name := "go", desc := "()V" } : Jvm.MethodName) ({ cls := "InchBorders$Reader", name := "go", desc := "()V" } : Jvm.MethodName)) ∈ lw_all := lw_g (lw_at lw_m11 199 rfl) rfl
theorem q2714 : (Jvm.Cond.selects "InchBorders$SentenceReader" ({ cls := "InchBorders$Reader", name := "isName", desc := "()Z" } : Jvm.MethodName) ({ cls := "InchBorders$Reader", name := "isName", desc := "()Z" } : Jvm.MethodName)) ∈ lw_all := lw_g (lw_at lw_m11 203 rfl) rfl
theorem q2718 : (Jvm.Cond.selects "InchBorders$SentenceReader" ({ cls := "InchBorders$Reader", name := "find", desc := "(Ljava/util/ArrayList;)I" } : Jvm.MethodName) ({ cls := "InchBorders$Reader", name := "find", desc := "(Ljava/util/ArrayList;)I" } : Jvm.MethodName)) ∈ lw_all := lw_g (lw_at lw_m11 207 rfl) rfl
theorem q2722 : (Jvm.Cond.selects "InchBorders$SentenceReader" ({ cls := "InchBorders$Reader", name := "hold", desc := "(Ljava/util/ArrayList;)I" } : Jvm.MethodName) ({ cls := "InchBorders$Reader", name := "hold", desc := "(Ljava/util/ArrayList;)I" } : Jvm.MethodName)) ∈ lw_all := lw_g (lw_at lw_m11 211 rfl) rfl
theorem q2754 : (Jvm.Cond.castable "InchBorders$SentenceReader" "java/lang/Object") ∈ lw_tbl := lw_at lw_m12 3 rfl
theorem in_X25 : ∀ w ∈ wsX250, w ∈ lw_all := lw_in wsX250 [1809, 1810, 1811, 1812, 1813, 1814, 1815, 1816, 1817, 1803, 1805, 1807] (by decide +kernel) (by decide +kernel)

/-! InchBorders$Cond -/
set_option maxRecDepth 100000
def RX26 : String := "InchBorders$Cond"
abbrev cX26_init : ByteArray := prog_7_method_1_code
def yX26_init : MethodName := ⟨RX26, "<init>", "()V"⟩
theorem dX26_init_0 : decode cX26_init 0 = .ok (.aload_n 0, 1) := by decide +kernel
theorem dX26_init_1 : decode cX26_init 1 = .ok (.invokespecial 1, 3) := by decide +kernel
theorem dX26_init_4 : decode cX26_init 4 = .ok (.return_, 1) := by decide +kernel
theorem q157 : (Jvm.Cond.initialized "InchBorders$Cond") ∈ lw_all := lw_g (lw_at lw_m1 46 rfl) rfl
theorem q1872 : (Jvm.Cond.instanceMethod ({ cls := "InchBorders$Cond", name := "<init>", desc := "()V" } : Jvm.MethodName)) ∈ lw_all := lw_g (lw_at lw_m8 81 rfl) rfl
theorem q1873 : (Jvm.Cond.code ({ cls := "InchBorders$Cond", name := "<init>", desc := "()V" } : Jvm.MethodName) prog_7_method_1_code (1 : Nat) (Option.none : Option Jvm.ClassFile.FieldType)) ∈ lw_all := lw_g (lw_at lw_m8 82 rfl) rfl
theorem q1874 : (Jvm.Cond.methodLink "InchBorders$Cond" (1 : Nat) ({ cls := "java/lang/Object", name := "<init>", desc := "()V" } : Jvm.MethodName)) ∈ lw_all := lw_g (lw_at lw_m8 83 rfl) rfl
theorem q1951 : (Jvm.Cond.declares ({ cls := "InchBorders$Cond", name := "holds", desc := "(LInchBorders$Times;I)Z" } : Jvm.MethodName)) ∈ lw_tbl := lw_at lw_m8 160 rfl
theorem q1952 : (Jvm.Cond.sameMethod "InchBorders$Cond" "InchBorders$Cond" "holds" "(LInchBorders$Times;I)Z") ∈ lw_all := lw_g (lw_at lw_m8 161 rfl) rfl

/-! InchBorders$Not -/
set_option maxRecDepth 100000
def RX27 : String := "InchBorders$Not"
def TX27 : u_T := fun k => match k with
  | _ => ("InchBorders$Not", "c", "LInchBorders$Cond;", true)
def tyX27 : Nat → FieldType := fun k => match k with
  | _ => .object "InchBorders$Cond"
abbrev wsX270 : List Cond := u_ws RX27 TX27 1
theorem nmX27 : ∀ a, a < 1 → ∀ b, b < 1 → a ≠ b → (TX27 a).2.1 ≠ (TX27 b).2.1 := by decide +kernel
theorem tyX27_ok : ∀ k, k < 1 → parseFieldDescriptor (TX27 k).2.2.1 = some (tyX27 k) := by decide +kernel
abbrev cX27_init : ByteArray := prog_18_method_1_code
def yX27_init : MethodName := ⟨RX27, "<init>", "(LInchBorders$Cond;)V"⟩
def dkwX27_init_0 : List UInt8 := [42, 183, 0, 1, 42, 43, 181, 0, 7, 177]
abbrev dktX27_init_0 : List UInt8 := dkwX27_init_0 ++ []
theorem dksX27_init_0 : cX27_init.data.toList.drop 0 = dktX27_init_0 := by decide +kernel
theorem dX27_init_0 : decode cX27_init 0 = .ok (.aload_n 0, 1) := dk_42 (dk_at dksX27_init_0 0 rfl rfl)
theorem dX27_init_1 : decode cX27_init 1 = .ok (.invokespecial 1, 3) := dk_183 0 1 (dk_at dksX27_init_0 1 rfl rfl)
theorem dX27_init_4 : decode cX27_init 4 = .ok (.aload_n 0, 1) := dk_42 (dk_at dksX27_init_0 4 rfl rfl)
theorem dX27_init_5 : decode cX27_init 5 = .ok (.aload_n 1, 1) := dk_43 (dk_at dksX27_init_0 5 rfl rfl)
theorem dX27_init_6 : decode cX27_init 6 = .ok (.putfield 7, 3) := dk_181 0 7 (dk_at dksX27_init_0 6 rfl rfl)
theorem dX27_init_9 : decode cX27_init 9 = .ok (.return_, 1) := dk_177 (dk_at dksX27_init_0 9 rfl rfl)
abbrev cX27_holds : ByteArray := prog_18_method_2_code
def yX27_holds : MethodName := ⟨RX27, "holds", "(LInchBorders$Times;I)Z"⟩
def dkwX27_holds_0 : List UInt8 := [42, 180, 0, 7, 43, 28, 182, 0, 13, 154, 0, 7, 4, 167, 0, 4, 3, 172]
abbrev dktX27_holds_0 : List UInt8 := dkwX27_holds_0 ++ []
theorem dksX27_holds_0 : cX27_holds.data.toList.drop 0 = dktX27_holds_0 := by decide +kernel
theorem dX27_holds_0 : decode cX27_holds 0 = .ok (.aload_n 0, 1) := dk_42 (dk_at dksX27_holds_0 0 rfl rfl)
theorem dX27_holds_1 : decode cX27_holds 1 = .ok (.getfield 7, 3) := dk_180 0 7 (dk_at dksX27_holds_0 1 rfl rfl)
theorem dX27_holds_4 : decode cX27_holds 4 = .ok (.aload_n 1, 1) := dk_43 (dk_at dksX27_holds_0 4 rfl rfl)
theorem dX27_holds_5 : decode cX27_holds 5 = .ok (.iload_n 2, 1) := dk_28 (dk_at dksX27_holds_0 5 rfl rfl)
theorem dX27_holds_6 : decode cX27_holds 6 = .ok (.invokevirtual 13, 3) := dk_182 0 13 (dk_at dksX27_holds_0 6 rfl rfl)
theorem dX27_holds_9 : decode cX27_holds 9 = .ok (.ifCond .ne 7, 3) := dk_154 0 7 (dk_at dksX27_holds_0 9 rfl rfl)
theorem dX27_holds_12 : decode cX27_holds 12 = .ok (.iconst 1, 1) := dk_4 (dk_at dksX27_holds_0 12 rfl rfl)
theorem dX27_holds_13 : decode cX27_holds 13 = .ok (.goto 4, 3) := dk_167 0 4 (dk_at dksX27_holds_0 13 rfl rfl)
theorem dX27_holds_16 : decode cX27_holds 16 = .ok (.iconst 0, 1) := dk_3 (dk_at dksX27_holds_0 16 rfl rfl)
theorem dX27_holds_17 : decode cX27_holds 17 = .ok (.ireturn, 1) := dk_172 (dk_at dksX27_holds_0 17 rfl rfl)
theorem q158 : (Jvm.Cond.initialized "InchBorders$Not") ∈ lw_all := lw_g (lw_at lw_m1 47 rfl) rfl
theorem q1002 : (Jvm.Cond.selects "InchBorders$Not" ({ cls := "java/lang/Object", name := "getClass", desc := "()Ljava/lang/Class;" } : Jvm.MethodName) ({ cls := "java/lang/Object", name := "getClass", desc := "()Ljava/lang/Class;" } : Jvm.MethodName)) ∈ lw_all := lw_g (lw_at lw_m4 171 rfl) rfl
theorem q1867 : (Jvm.Cond.instantiable "InchBorders$Not" (1 : Nat)) ∈ lw_all := lw_g (lw_at lw_m8 76 rfl) rfl
theorem q1869 : (Jvm.Cond.instanceMethod ({ cls := "InchBorders$Not", name := "<init>", desc := "(LInchBorders$Cond;)V" } : Jvm.MethodName)) ∈ lw_all := lw_g (lw_at lw_m8 78 rfl) rfl
theorem q1870 : (Jvm.Cond.code ({ cls := "InchBorders$Not", name := "<init>", desc := "(LInchBorders$Cond;)V" } : Jvm.MethodName) prog_18_method_1_code (2 : Nat) (Option.none : Option Jvm.ClassFile.FieldType)) ∈ lw_all := lw_g (lw_at lw_m8 79 rfl) rfl
theorem q1871 : (Jvm.Cond.methodLinkNest "InchBorders$Not" (1 : Nat) ({ cls := "InchBorders$Cond", name := "<init>", desc := "()V" } : Jvm.MethodName) "InchBorders") ∈ lw_tbl := lw_at lw_m8 80 rfl
theorem q1875 : (Jvm.Cond.fieldLink "InchBorders$Not" (7 : Nat) "InchBorders$Not" "c" "LInchBorders$Cond;") ∈ lw_all := lw_g (lw_at lw_m8 84 rfl) rfl
theorem q1876 : (Jvm.Cond.laysFinal "InchBorders$Not" "InchBorders$Not" "c" "LInchBorders$Cond;") ∈ lw_all := lw_g (lw_at lw_m8 85 rfl) rfl
theorem q1877 : (Jvm.Cond.soleField "InchBorders$Not" "c") ∈ lw_all := lw_g (lw_at lw_m8 86 rfl) rfl
theorem q1878 : (Jvm.Cond.superclass "InchBorders$Not" "InchBorders$Cond") ∈ lw_all := lw_g (lw_at lw_m8 87 rfl) rfl
theorem q1958 : (Jvm.Cond.selects "InchBorders$Not" ({ cls := "InchBorders$Cond", name := "holds", desc := "(LInchBorders$Times;I)Z" } : Jvm.MethodName) ({ cls := "InchBorders$Not", name := "holds", desc := "(LInchBorders$Times;I)Z" } : Jvm.MethodName)) ∈ lw_all := lw_g (lw_at lw_m8 167 rfl) rfl
theorem q1959 : (Jvm.Cond.instanceMethod ({ cls := "InchBorders$Not", name := "holds", desc := "(LInchBorders$Times;I)Z" } : Jvm.MethodName)) ∈ lw_all := lw_g (lw_at lw_m8 168 rfl) rfl
theorem q1960 : (Jvm.Cond.code ({ cls := "InchBorders$Not", name := "holds", desc := "(LInchBorders$Times;I)Z" } : Jvm.MethodName) prog_18_method_2_code (3 : Nat) (Option.some Jvm.ClassFile.FieldType.boolean)) ∈ lw_all := lw_g (lw_at lw_m8 169 rfl) rfl
theorem q1961 : (Jvm.Cond.methodLink "InchBorders$Not" (13 : Nat) ({ cls := "InchBorders$Cond", name := "holds", desc := "(LInchBorders$Times;I)Z" } : Jvm.MethodName)) ∈ lw_all := lw_g (lw_at lw_m8 170 rfl) rfl
theorem q2755 : (Jvm.Cond.castable "InchBorders$Not" "java/lang/Object") ∈ lw_tbl := lw_at lw_m12 4 rfl
theorem in_X27 : ∀ w ∈ wsX270, w ∈ lw_all := lw_in wsX270 [1876] (by decide +kernel) (by decide +kernel)

/-! InchBorders$IsSo -/
set_option maxRecDepth 100000
def RX28 : String := "InchBorders$IsSo"
def TX28 : u_T := fun k => match k with
  | _ => ("InchBorders$IsSo", "home", "Z", true)
def tyX28 : Nat → FieldType := fun k => match k with
  | _ => .boolean
abbrev wsX280 : List Cond := u_ws RX28 TX28 1
theorem nmX28 : ∀ a, a < 1 → ∀ b, b < 1 → a ≠ b → (TX28 a).2.1 ≠ (TX28 b).2.1 := by decide +kernel
theorem tyX28_ok : ∀ k, k < 1 → parseFieldDescriptor (TX28 k).2.2.1 = some (tyX28 k) := by decide +kernel
abbrev cX28_init : ByteArray := prog_11_method_1_code
def yX28_init : MethodName := ⟨RX28, "<init>", "(Z)V"⟩
def dkwX28_init_0 : List UInt8 := [42, 183, 0, 1, 42, 27, 181, 0, 7, 177]
abbrev dktX28_init_0 : List UInt8 := dkwX28_init_0 ++ []
theorem dksX28_init_0 : cX28_init.data.toList.drop 0 = dktX28_init_0 := by decide +kernel
theorem dX28_init_0 : decode cX28_init 0 = .ok (.aload_n 0, 1) := dk_42 (dk_at dksX28_init_0 0 rfl rfl)
theorem dX28_init_1 : decode cX28_init 1 = .ok (.invokespecial 1, 3) := dk_183 0 1 (dk_at dksX28_init_0 1 rfl rfl)
theorem dX28_init_4 : decode cX28_init 4 = .ok (.aload_n 0, 1) := dk_42 (dk_at dksX28_init_0 4 rfl rfl)
theorem dX28_init_5 : decode cX28_init 5 = .ok (.iload_n 1, 1) := dk_27 (dk_at dksX28_init_0 5 rfl rfl)
theorem dX28_init_6 : decode cX28_init 6 = .ok (.putfield 7, 3) := dk_181 0 7 (dk_at dksX28_init_0 6 rfl rfl)
theorem dX28_init_9 : decode cX28_init 9 = .ok (.return_, 1) := dk_177 (dk_at dksX28_init_0 9 rfl rfl)
abbrev cX28_holds : ByteArray := prog_11_method_2_code
def yX28_holds : MethodName := ⟨RX28, "holds", "(LInchBorders$Times;I)Z"⟩
def dkwX28_holds_1 : List UInt8 := [4, 167, 0, 20, 3, 167, 0, 16, 43, 28, 182, 0, 28, 154, 0, 7, 4, 167, 0, 4, 3, 172]
abbrev dktX28_holds_1 : List UInt8 := dkwX28_holds_1 ++ []
def dkwX28_holds_0 : List UInt8 := [42, 180, 0, 7, 153, 0, 28, 43, 180, 0, 13, 28, 46, 43, 180, 0, 19, 28, 182, 0, 23, 160, 0, 7]
abbrev dktX28_holds_0 : List UInt8 := dkwX28_holds_0 ++ dktX28_holds_1
theorem dksX28_holds_0 : cX28_holds.data.toList.drop 0 = dktX28_holds_0 := by decide +kernel
theorem dksX28_holds_1 : cX28_holds.data.toList.drop 24 = dktX28_holds_1 := dk_seg dksX28_holds_0 24 rfl rfl
theorem dX28_holds_0 : decode cX28_holds 0 = .ok (.aload_n 0, 1) := dk_42 (dk_at dksX28_holds_0 0 rfl rfl)
theorem dX28_holds_1 : decode cX28_holds 1 = .ok (.getfield 7, 3) := dk_180 0 7 (dk_at dksX28_holds_0 1 rfl rfl)
theorem dX28_holds_4 : decode cX28_holds 4 = .ok (.ifCond .eq 28, 3) := dk_153 0 28 (dk_at dksX28_holds_0 4 rfl rfl)
theorem dX28_holds_7 : decode cX28_holds 7 = .ok (.aload_n 1, 1) := dk_43 (dk_at dksX28_holds_0 7 rfl rfl)
theorem dX28_holds_8 : decode cX28_holds 8 = .ok (.getfield 13, 3) := dk_180 0 13 (dk_at dksX28_holds_0 8 rfl rfl)
theorem dX28_holds_11 : decode cX28_holds 11 = .ok (.iload_n 2, 1) := dk_28 (dk_at dksX28_holds_0 11 rfl rfl)
theorem dX28_holds_12 : decode cX28_holds 12 = .ok (.iaload, 1) := dk_46 (dk_at dksX28_holds_0 12 rfl rfl)
theorem dX28_holds_13 : decode cX28_holds 13 = .ok (.aload_n 1, 1) := dk_43 (dk_at dksX28_holds_0 13 rfl rfl)
theorem dX28_holds_14 : decode cX28_holds 14 = .ok (.getfield 19, 3) := dk_180 0 19 (dk_at dksX28_holds_0 14 rfl rfl)
theorem dX28_holds_17 : decode cX28_holds 17 = .ok (.iload_n 2, 1) := dk_28 (dk_at dksX28_holds_0 17 rfl rfl)
theorem dX28_holds_18 : decode cX28_holds 18 = .ok (.invokevirtual 23, 3) := dk_182 0 23 (dk_at dksX28_holds_0 18 rfl rfl)
theorem dX28_holds_21 : decode cX28_holds 21 = .ok (.if_icmp .ne 7, 3) := dk_160 0 7 (dk_at dksX28_holds_0 21 rfl rfl)
theorem dX28_holds_24 : decode cX28_holds 24 = .ok (.iconst 1, 1) := dk_4 (dk_at dksX28_holds_1 0 rfl rfl)
theorem dX28_holds_25 : decode cX28_holds 25 = .ok (.goto 20, 3) := dk_167 0 20 (dk_at dksX28_holds_1 1 rfl rfl)
theorem dX28_holds_28 : decode cX28_holds 28 = .ok (.iconst 0, 1) := dk_3 (dk_at dksX28_holds_1 4 rfl rfl)
theorem dX28_holds_29 : decode cX28_holds 29 = .ok (.goto 16, 3) := dk_167 0 16 (dk_at dksX28_holds_1 5 rfl rfl)
theorem dX28_holds_32 : decode cX28_holds 32 = .ok (.aload_n 1, 1) := dk_43 (dk_at dksX28_holds_1 8 rfl rfl)
theorem dX28_holds_33 : decode cX28_holds 33 = .ok (.iload_n 2, 1) := dk_28 (dk_at dksX28_holds_1 9 rfl rfl)
theorem dX28_holds_34 : decode cX28_holds 34 = .ok (.invokevirtual 28, 3) := dk_182 0 28 (dk_at dksX28_holds_1 10 rfl rfl)
theorem dX28_holds_37 : decode cX28_holds 37 = .ok (.ifCond .ne 7, 3) := dk_154 0 7 (dk_at dksX28_holds_1 13 rfl rfl)
theorem dX28_holds_40 : decode cX28_holds 40 = .ok (.iconst 1, 1) := dk_4 (dk_at dksX28_holds_1 16 rfl rfl)
theorem dX28_holds_41 : decode cX28_holds 41 = .ok (.goto 4, 3) := dk_167 0 4 (dk_at dksX28_holds_1 17 rfl rfl)
theorem dX28_holds_44 : decode cX28_holds 44 = .ok (.iconst 0, 1) := dk_3 (dk_at dksX28_holds_1 20 rfl rfl)
theorem dX28_holds_45 : decode cX28_holds 45 = .ok (.ireturn, 1) := dk_172 (dk_at dksX28_holds_1 21 rfl rfl)
theorem q159 : (Jvm.Cond.initialized "InchBorders$IsSo") ∈ lw_all := lw_g (lw_at lw_m1 48 rfl) rfl
theorem q239 : (Jvm.Cond.fieldLinkNest "InchBorders$IsSo" (19 : Nat) "InchBorders$Times" "a" "LInchBorders$Atlas;" "InchBorders") ∈ lw_tbl := lw_at lw_m1 128 rfl
theorem q260 : (Jvm.Cond.fieldLinkNest "InchBorders$IsSo" (13 : Nat) "InchBorders$Times" "at" "[I" "InchBorders") ∈ lw_tbl := lw_at lw_m1 149 rfl
theorem q996 : (Jvm.Cond.selects "InchBorders$IsSo" ({ cls := "java/lang/Object", name := "getClass", desc := "()Ljava/lang/Class;" } : Jvm.MethodName) ({ cls := "java/lang/Object", name := "getClass", desc := "()Ljava/lang/Class;" } : Jvm.MethodName)) ∈ lw_all := lw_g (lw_at lw_m4 165 rfl) rfl
theorem q1880 : (Jvm.Cond.instantiable "InchBorders$IsSo" (1 : Nat)) ∈ lw_all := lw_g (lw_at lw_m8 89 rfl) rfl
theorem q1882 : (Jvm.Cond.instanceMethod ({ cls := "InchBorders$IsSo", name := "<init>", desc := "(Z)V" } : Jvm.MethodName)) ∈ lw_all := lw_g (lw_at lw_m8 91 rfl) rfl
theorem q1883 : (Jvm.Cond.code ({ cls := "InchBorders$IsSo", name := "<init>", desc := "(Z)V" } : Jvm.MethodName) prog_11_method_1_code (2 : Nat) (Option.none : Option Jvm.ClassFile.FieldType)) ∈ lw_all := lw_g (lw_at lw_m8 92 rfl) rfl
theorem q1884 : (Jvm.Cond.methodLinkNest "InchBorders$IsSo" (1 : Nat) ({ cls := "InchBorders$Cond", name := "<init>", desc := "()V" } : Jvm.MethodName) "InchBorders") ∈ lw_tbl := lw_at lw_m8 93 rfl
theorem q1885 : (Jvm.Cond.fieldLink "InchBorders$IsSo" (7 : Nat) "InchBorders$IsSo" "home" "Z") ∈ lw_all := lw_g (lw_at lw_m8 94 rfl) rfl
theorem q1886 : (Jvm.Cond.laysFinal "InchBorders$IsSo" "InchBorders$IsSo" "home" "Z") ∈ lw_all := lw_g (lw_at lw_m8 95 rfl) rfl
theorem q1887 : (Jvm.Cond.soleField "InchBorders$IsSo" "home") ∈ lw_all := lw_g (lw_at lw_m8 96 rfl) rfl
theorem q1888 : (Jvm.Cond.superclass "InchBorders$IsSo" "InchBorders$Cond") ∈ lw_all := lw_g (lw_at lw_m8 97 rfl) rfl
theorem q1953 : (Jvm.Cond.selects "InchBorders$IsSo" ({ cls := "InchBorders$Cond", name := "holds", desc := "(LInchBorders$Times;I)Z" } : Jvm.MethodName) ({ cls := "InchBorders$IsSo", name := "holds", desc := "(LInchBorders$Times;I)Z" } : Jvm.MethodName)) ∈ lw_all := lw_g (lw_at lw_m8 162 rfl) rfl
theorem q1954 : (Jvm.Cond.instanceMethod ({ cls := "InchBorders$IsSo", name := "holds", desc := "(LInchBorders$Times;I)Z" } : Jvm.MethodName)) ∈ lw_all := lw_g (lw_at lw_m8 163 rfl) rfl
theorem q1955 : (Jvm.Cond.code ({ cls := "InchBorders$IsSo", name := "holds", desc := "(LInchBorders$Times;I)Z" } : Jvm.MethodName) prog_11_method_2_code (3 : Nat) (Option.some Jvm.ClassFile.FieldType.boolean)) ∈ lw_all := lw_g (lw_at lw_m8 164 rfl) rfl
theorem q1956 : (Jvm.Cond.methodLink "InchBorders$IsSo" (23 : Nat) ({ cls := "InchBorders$Atlas", name := "home", desc := "(I)I" } : Jvm.MethodName)) ∈ lw_all := lw_g (lw_at lw_m8 165 rfl) rfl
theorem q1957 : (Jvm.Cond.methodLink "InchBorders$IsSo" (28 : Nat) ({ cls := "InchBorders$Times", name := "canCross", desc := "(I)I" } : Jvm.MethodName)) ∈ lw_all := lw_g (lw_at lw_m8 166 rfl) rfl
theorem q2756 : (Jvm.Cond.castable "InchBorders$IsSo" "java/lang/Object") ∈ lw_tbl := lw_at lw_m12 5 rfl
theorem in_X28 : ∀ w ∈ wsX280, w ∈ lw_all := lw_in wsX280 [1886] (by decide +kernel) (by decide +kernel)
