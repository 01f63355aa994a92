/-! InchBorders$Of -/
set_option maxRecDepth 100000
def RX29 : String := "InchBorders$Of"
def TX29 : u_T := fun k => match k with
  | 0 => ("InchBorders$Of", "what", "I", true)
  | _ => ("InchBorders$Of", "land", "I", true)
def tyX29 : Nat → FieldType := fun k => match k with
  | 0 => .int
  | _ => .int
abbrev wsX290 : List Cond := u_ws RX29 TX29 2
theorem nmX29 : ∀ a, a < 2 → ∀ b, b < 2 → a ≠ b → (TX29 a).2.1 ≠ (TX29 b).2.1 := by decide +kernel
theorem tyX29_ok : ∀ k, k < 2 → parseFieldDescriptor (TX29 k).2.2.1 = some (tyX29 k) := by decide +kernel
abbrev cX29_init : ByteArray := prog_19_method_1_code
def yX29_init : MethodName := ⟨RX29, "<init>", "(II)V"⟩
def dkwX29_init_0 : List UInt8 := [42, 183, 0, 1, 42, 27, 181, 0, 7, 42, 28, 181, 0, 13, 177]
abbrev dktX29_init_0 : List UInt8 := dkwX29_init_0 ++ []
theorem dksX29_init_0 : cX29_init.data.toList.drop 0 = dktX29_init_0 := by decide +kernel
theorem dX29_init_0 : decode cX29_init 0 = .ok (.aload_n 0, 1) := dk_42 (dk_at dksX29_init_0 0 rfl rfl)
theorem dX29_init_1 : decode cX29_init 1 = .ok (.invokespecial 1, 3) := dk_183 0 1 (dk_at dksX29_init_0 1 rfl rfl)
theorem dX29_init_4 : decode cX29_init 4 = .ok (.aload_n 0, 1) := dk_42 (dk_at dksX29_init_0 4 rfl rfl)
theorem dX29_init_5 : decode cX29_init 5 = .ok (.iload_n 1, 1) := dk_27 (dk_at dksX29_init_0 5 rfl rfl)
theorem dX29_init_6 : decode cX29_init 6 = .ok (.putfield 7, 3) := dk_181 0 7 (dk_at dksX29_init_0 6 rfl rfl)
theorem dX29_init_9 : decode cX29_init 9 = .ok (.aload_n 0, 1) := dk_42 (dk_at dksX29_init_0 9 rfl rfl)
theorem dX29_init_10 : decode cX29_init 10 = .ok (.iload_n 2, 1) := dk_28 (dk_at dksX29_init_0 10 rfl rfl)
theorem dX29_init_11 : decode cX29_init 11 = .ok (.putfield 13, 3) := dk_181 0 13 (dk_at dksX29_init_0 11 rfl rfl)
theorem dX29_init_14 : decode cX29_init 14 = .ok (.return_, 1) := dk_177 (dk_at dksX29_init_0 14 rfl rfl)
abbrev cX29_holds : ByteArray := prog_19_method_2_code
def yX29_holds : MethodName := ⟨RX29, "holds", "(LInchBorders$Times;I)Z"⟩
def dkwX29_holds_3 : List UInt8 := [42, 180, 0, 13, 184, 0, 35, 172]
abbrev dktX29_holds_3 : List UInt8 := dkwX29_holds_3 ++ []
def dkwX29_holds_2 : List UInt8 := [160, 0, 7, 4, 167, 0, 27, 3, 167, 0, 23, 43, 180, 0, 32, 43, 180, 0, 22, 28, 182, 0, 26, 46]
abbrev dktX29_holds_2 : List UInt8 := dkwX29_holds_2 ++ dktX29_holds_3
def dkwX29_holds_1 : List UInt8 := [3, 167, 0, 54, 42, 180, 0, 7, 4, 160, 0, 26, 43, 180, 0, 22, 28, 182, 0, 26, 42, 180, 0, 13]
abbrev dktX29_holds_1 : List UInt8 := dkwX29_holds_1 ++ dktX29_holds_2
def dkwX29_holds_0 : List UInt8 := [42, 180, 0, 7, 154, 0, 24, 43, 180, 0, 16, 28, 46, 42, 180, 0, 13, 160, 0, 7, 4, 167, 0, 58]
abbrev dktX29_holds_0 : List UInt8 := dkwX29_holds_0 ++ dktX29_holds_1
theorem dksX29_holds_0 : cX29_holds.data.toList.drop 0 = dktX29_holds_0 := by decide +kernel
theorem dksX29_holds_1 : cX29_holds.data.toList.drop 24 = dktX29_holds_1 := dk_seg dksX29_holds_0 24 rfl rfl
theorem dksX29_holds_2 : cX29_holds.data.toList.drop 48 = dktX29_holds_2 := dk_seg dksX29_holds_1 24 rfl rfl
theorem dksX29_holds_3 : cX29_holds.data.toList.drop 72 = dktX29_holds_3 := dk_seg dksX29_holds_2 24 rfl rfl
theorem dX29_holds_0 : decode cX29_holds 0 = .ok (.aload_n 0, 1) := dk_42 (dk_at dksX29_holds_0 0 rfl rfl)
theorem dX29_holds_1 : decode cX29_holds 1 = .ok (.getfield 7, 3) := dk_180 0 7 (dk_at dksX29_holds_0 1 rfl rfl)
theorem dX29_holds_4 : decode cX29_holds 4 = .ok (.ifCond .ne 24, 3) := dk_154 0 24 (dk_at dksX29_holds_0 4 rfl rfl)
theorem dX29_holds_7 : decode cX29_holds 7 = .ok (.aload_n 1, 1) := dk_43 (dk_at dksX29_holds_0 7 rfl rfl)
theorem dX29_holds_8 : decode cX29_holds 8 = .ok (.getfield 16, 3) := dk_180 0 16 (dk_at dksX29_holds_0 8 rfl rfl)
theorem dX29_holds_11 : decode cX29_holds 11 = .ok (.iload_n 2, 1) := dk_28 (dk_at dksX29_holds_0 11 rfl rfl)
theorem dX29_holds_12 : decode cX29_holds 12 = .ok (.iaload, 1) := dk_46 (dk_at dksX29_holds_0 12 rfl rfl)
theorem dX29_holds_13 : decode cX29_holds 13 = .ok (.aload_n 0, 1) := dk_42 (dk_at dksX29_holds_0 13 rfl rfl)
theorem dX29_holds_14 : decode cX29_holds 14 = .ok (.getfield 13, 3) := dk_180 0 13 (dk_at dksX29_holds_0 14 rfl rfl)
theorem dX29_holds_17 : decode cX29_holds 17 = .ok (.if_icmp .ne 7, 3) := dk_160 0 7 (dk_at dksX29_holds_0 17 rfl rfl)
theorem dX29_holds_20 : decode cX29_holds 20 = .ok (.iconst 1, 1) := dk_4 (dk_at dksX29_holds_0 20 rfl rfl)
theorem dX29_holds_21 : decode cX29_holds 21 = .ok (.goto 58, 3) := dk_167 0 58 (dk_at dksX29_holds_0 21 rfl rfl)
theorem dX29_holds_24 : decode cX29_holds 24 = .ok (.iconst 0, 1) := dk_3 (dk_at dksX29_holds_1 0 rfl rfl)
theorem dX29_holds_25 : decode cX29_holds 25 = .ok (.goto 54, 3) := dk_167 0 54 (dk_at dksX29_holds_1 1 rfl rfl)
theorem dX29_holds_28 : decode cX29_holds 28 = .ok (.aload_n 0, 1) := dk_42 (dk_at dksX29_holds_1 4 rfl rfl)
theorem dX29_holds_29 : decode cX29_holds 29 = .ok (.getfield 7, 3) := dk_180 0 7 (dk_at dksX29_holds_1 5 rfl rfl)
theorem dX29_holds_32 : decode cX29_holds 32 = .ok (.iconst 1, 1) := dk_4 (dk_at dksX29_holds_1 8 rfl rfl)
theorem dX29_holds_33 : decode cX29_holds 33 = .ok (.if_icmp .ne 26, 3) := dk_160 0 26 (dk_at dksX29_holds_1 9 rfl rfl)
theorem dX29_holds_36 : decode cX29_holds 36 = .ok (.aload_n 1, 1) := dk_43 (dk_at dksX29_holds_1 12 rfl rfl)
theorem dX29_holds_37 : decode cX29_holds 37 = .ok (.getfield 22, 3) := dk_180 0 22 (dk_at dksX29_holds_1 13 rfl rfl)
theorem dX29_holds_40 : decode cX29_holds 40 = .ok (.iload_n 2, 1) := dk_28 (dk_at dksX29_holds_1 16 rfl rfl)
theorem dX29_holds_41 : decode cX29_holds 41 = .ok (.invokevirtual 26, 3) := dk_182 0 26 (dk_at dksX29_holds_1 17 rfl rfl)
theorem dX29_holds_44 : decode cX29_holds 44 = .ok (.aload_n 0, 1) := dk_42 (dk_at dksX29_holds_1 20 rfl rfl)
theorem dX29_holds_45 : decode cX29_holds 45 = .ok (.getfield 13, 3) := dk_180 0 13 (dk_at dksX29_holds_1 21 rfl rfl)
theorem dX29_holds_48 : decode cX29_holds 48 = .ok (.if_icmp .ne 7, 3) := dk_160 0 7 (dk_at dksX29_holds_2 0 rfl rfl)
theorem dX29_holds_51 : decode cX29_holds 51 = .ok (.iconst 1, 1) := dk_4 (dk_at dksX29_holds_2 3 rfl rfl)
theorem dX29_holds_52 : decode cX29_holds 52 = .ok (.goto 27, 3) := dk_167 0 27 (dk_at dksX29_holds_2 4 rfl rfl)
theorem dX29_holds_55 : decode cX29_holds 55 = .ok (.iconst 0, 1) := dk_3 (dk_at dksX29_holds_2 7 rfl rfl)
theorem dX29_holds_56 : decode cX29_holds 56 = .ok (.goto 23, 3) := dk_167 0 23 (dk_at dksX29_holds_2 8 rfl rfl)
theorem dX29_holds_59 : decode cX29_holds 59 = .ok (.aload_n 1, 1) := dk_43 (dk_at dksX29_holds_2 11 rfl rfl)
theorem dX29_holds_60 : decode cX29_holds 60 = .ok (.getfield 32, 3) := dk_180 0 32 (dk_at dksX29_holds_2 12 rfl rfl)
theorem dX29_holds_63 : decode cX29_holds 63 = .ok (.aload_n 1, 1) := dk_43 (dk_at dksX29_holds_2 15 rfl rfl)
theorem dX29_holds_64 : decode cX29_holds 64 = .ok (.getfield 22, 3) := dk_180 0 22 (dk_at dksX29_holds_2 16 rfl rfl)
theorem dX29_holds_67 : decode cX29_holds 67 = .ok (.iload_n 2, 1) := dk_28 (dk_at dksX29_holds_2 19 rfl rfl)
theorem dX29_holds_68 : decode cX29_holds 68 = .ok (.invokevirtual 26, 3) := dk_182 0 26 (dk_at dksX29_holds_2 20 rfl rfl)
theorem dX29_holds_71 : decode cX29_holds 71 = .ok (.iaload, 1) := dk_46 (dk_at dksX29_holds_2 23 rfl rfl)
theorem dX29_holds_72 : decode cX29_holds 72 = .ok (.aload_n 0, 1) := dk_42 (dk_at dksX29_holds_3 0 rfl rfl)
theorem dX29_holds_73 : decode cX29_holds 73 = .ok (.getfield 13, 3) := dk_180 0 13 (dk_at dksX29_holds_3 1 rfl rfl)
theorem dX29_holds_76 : decode cX29_holds 76 = .ok (.invokestatic 35, 3) := dk_184 0 35 (dk_at dksX29_holds_3 4 rfl rfl)
theorem dX29_holds_79 : decode cX29_holds 79 = .ok (.ireturn, 1) := dk_172 (dk_at dksX29_holds_3 7 rfl rfl)
theorem q160 : (Jvm.Cond.initialized "InchBorders$Of") ∈ lw_all := lw_g (lw_at lw_m1 49 rfl) rfl
theorem q240 : (Jvm.Cond.fieldLinkNest "InchBorders$Of" (22 : Nat) "InchBorders$Times" "a" "LInchBorders$Atlas;" "InchBorders") ∈ lw_tbl := lw_at lw_m1 129 rfl
theorem q256 : (Jvm.Cond.fieldLinkNest "InchBorders$Of" (32 : Nat) "InchBorders$Times" "spares" "[I" "InchBorders") ∈ lw_tbl := lw_at lw_m1 145 rfl
theorem q261 : (Jvm.Cond.fieldLinkNest "InchBorders$Of" (16 : Nat) "InchBorders$Times" "at" "[I" "InchBorders") ∈ lw_tbl := lw_at lw_m1 150 rfl
theorem q1003 : (Jvm.Cond.selects "InchBorders$Of" ({ cls := "java/lang/Object", name := "getClass", desc := "()Ljava/lang/Class;" } : Jvm.MethodName) ({ cls := "java/lang/Object", name := "getClass", desc := "()Ljava/lang/Class;" } : Jvm.MethodName)) ∈ lw_all := lw_g (lw_at lw_m4 172 rfl) rfl
theorem q1890 : (Jvm.Cond.instantiable "InchBorders$Of" (2 : Nat)) ∈ lw_all := lw_g (lw_at lw_m8 99 rfl) rfl
theorem q1895 : (Jvm.Cond.instanceMethod ({ cls := "InchBorders$Of", name := "<init>", desc := "(II)V" } : Jvm.MethodName)) ∈ lw_all := lw_g (lw_at lw_m8 104 rfl) rfl
theorem q1896 : (Jvm.Cond.code ({ cls := "InchBorders$Of", name := "<init>", desc := "(II)V" } : Jvm.MethodName) prog_19_method_1_code (3 : Nat) (Option.none : Option Jvm.ClassFile.FieldType)) ∈ lw_all := lw_g (lw_at lw_m8 105 rfl) rfl
theorem q1897 : (Jvm.Cond.methodLinkNest "InchBorders$Of" (1 : Nat) ({ cls := "InchBorders$Cond", name := "<init>", desc := "()V" } : Jvm.MethodName) "InchBorders") ∈ lw_tbl := lw_at lw_m8 106 rfl
theorem q1898 : (Jvm.Cond.fieldLink "InchBorders$Of" (7 : Nat) "InchBorders$Of" "what" "I") ∈ lw_all := lw_g (lw_at lw_m8 107 rfl) rfl
theorem q1899 : (Jvm.Cond.fieldLink "InchBorders$Of" (13 : Nat) "InchBorders$Of" "land" "I") ∈ lw_all := lw_g (lw_at lw_m8 108 rfl) rfl
theorem q1900 : (Jvm.Cond.laysFinal "InchBorders$Of" "InchBorders$Of" "what" "I") ∈ lw_all := lw_g (lw_at lw_m8 109 rfl) rfl
theorem q1901 : (Jvm.Cond.soleField "InchBorders$Of" "what") ∈ lw_all := lw_g (lw_at lw_m8 110 rfl) rfl
theorem q1902 : (Jvm.Cond.laysFinal "InchBorders$Of" "InchBorders$Of" "land" "I") ∈ lw_all := lw_g (lw_at lw_m8 111 rfl) rfl
theorem q1903 : (Jvm.Cond.soleField "InchBorders$Of" "land") ∈ lw_all := lw_g (lw_at lw_m8 112 rfl) rfl
theorem q1904 : (Jvm.Cond.superclass "InchBorders$Of" "InchBorders$Cond") ∈ lw_all := lw_g (lw_at lw_m8 113 rfl) rfl
theorem q1962 : (Jvm.Cond.instanceMethod ({ cls := "InchBorders$Of", name := "holds", desc := "(LInchBorders$Times;I)Z" } : Jvm.MethodName)) ∈ lw_all := lw_g (lw_at lw_m8 171 rfl) rfl
theorem q1963 : (Jvm.Cond.code ({ cls := "InchBorders$Of", name := "holds", desc := "(LInchBorders$Times;I)Z" } : Jvm.MethodName) prog_19_method_2_code (3 : Nat) (Option.some Jvm.ClassFile.FieldType.boolean)) ∈ lw_all := lw_g (lw_at lw_m8 172 rfl) rfl
theorem q1964 : (Jvm.Cond.methodLink "InchBorders$Of" (26 : Nat) ({ cls := "InchBorders$Atlas", name := "home", desc := "(I)I" } : Jvm.MethodName)) ∈ lw_all := lw_g (lw_at lw_m8 173 rfl) rfl
theorem q1965 : (Jvm.Cond.methodLinkNest "InchBorders$Of" (35 : Nat) ({ cls := "InchBorders", name := "isOf", desc := "(II)Z" } : Jvm.MethodName) "InchBorders") ∈ lw_tbl := lw_at lw_m8 174 rfl
theorem q1971 : (Jvm.Cond.selects "InchBorders$Of" ({ cls := "InchBorders$Cond", name := "holds", desc := "(LInchBorders$Times;I)Z" } : Jvm.MethodName) ({ cls := "InchBorders$Of", name := "holds", desc := "(LInchBorders$Times;I)Z" } : Jvm.MethodName)) ∈ lw_all := lw_g (lw_at lw_m8 180 rfl) rfl
theorem q2757 : (Jvm.Cond.castable "InchBorders$Of" "java/lang/Object") ∈ lw_tbl := lw_at lw_m12 6 rfl
theorem in_X29 : ∀ w ∈ wsX290, w ∈ lw_all := lw_in wsX290 [1900, 1902] (by decide +kernel) (by decide +kernel)

/-! InchBorders$Times -/
set_option maxRecDepth 100000
def RX3 : String := "InchBorders$Times"
def TX3 : u_T := fun k => match k with
  | 0 => ("InchBorders$Times", "a", "LInchBorders$Atlas;", false)
  | 1 => ("InchBorders$Times", "day", "I", false)
  | 2 => ("InchBorders$Times", "crossings", "I", false)
  | 3 => ("InchBorders$Times", "closed", "I", false)
  | 4 => ("InchBorders$Times", "store", "[I", true)
  | 5 => ("InchBorders$Times", "spares", "[I", true)
  | 6 => ("InchBorders$Times", "at", "[I", true)
  | 7 => ("InchBorders$Times", "tall", "[I", true)
  | 8 => ("InchBorders$Times", "taken", "[I", true)
  | 9 => ("InchBorders$Times", "given", "[I", true)
  | 10 => ("InchBorders$Times", "crossed", "[I", true)
  | _ => ("InchBorders$Times", "seed", "I", false)
def tyX3 : Nat → FieldType := fun k => match k with
  | 0 => .object "InchBorders$Atlas"
  | 1 => .int
  | 2 => .int
  | 3 => .int
  | 4 => .array .int
  | 5 => .array .int
  | 6 => .array .int
  | 7 => .array .int
  | 8 => .array .int
  | 9 => .array .int
  | 10 => .array .int
  | _ => .int
abbrev wsX30 : List Cond := u_ws RX3 TX3 12
theorem nmX3 : ∀ a, a < 12 → ∀ b, b < 12 → a ≠ b → (TX3 a).2.1 ≠ (TX3 b).2.1 := by decide +kernel
theorem tyX3_ok : ∀ k, k < 12 → parseFieldDescriptor (TX3 k).2.2.1 = some (tyX3 k) := by decide +kernel
abbrev cX3_init : ByteArray := prog_27_method_1_code
def yX3_init : MethodName := ⟨RX3, "<init>", "()V"⟩
def dkwX3_init_2 : List UInt8 := [188, 10, 181, 0, 27, 42, 16, 6, 188, 10, 181, 0, 30, 177]
abbrev dktX3_init_2 : List UInt8 := dkwX3_init_2 ++ []
def dkwX3_init_1 : List UInt8 := [188, 10, 181, 0, 18, 42, 16, 6, 188, 10, 181, 0, 21, 42, 16, 6, 188, 10, 181, 0, 24, 42, 16, 6]
abbrev dktX3_init_1 : List UInt8 := dkwX3_init_1 ++ dktX3_init_2
def dkwX3_init_0 : List UInt8 := [42, 183, 0, 3, 42, 16, 7, 188, 10, 181, 0, 9, 42, 16, 7, 188, 10, 181, 0, 15, 42, 16, 6]
abbrev dktX3_init_0 : List UInt8 := dkwX3_init_0 ++ dktX3_init_1
theorem dksX3_init_0 : cX3_init.data.toList.drop 0 = dktX3_init_0 := by decide +kernel
theorem dksX3_init_1 : cX3_init.data.toList.drop 23 = dktX3_init_1 := dk_seg dksX3_init_0 23 rfl rfl
theorem dksX3_init_2 : cX3_init.data.toList.drop 47 = dktX3_init_2 := dk_seg dksX3_init_1 24 rfl rfl
theorem dX3_init_0 : decode cX3_init 0 = .ok (.aload_n 0, 1) := dk_42 (dk_at dksX3_init_0 0 rfl rfl)
theorem dX3_init_1 : decode cX3_init 1 = .ok (.invokespecial 3, 3) := dk_183 0 3 (dk_at dksX3_init_0 1 rfl rfl)
theorem dX3_init_4 : decode cX3_init 4 = .ok (.aload_n 0, 1) := dk_42 (dk_at dksX3_init_0 4 rfl rfl)
theorem dX3_init_5 : decode cX3_init 5 = .ok (.bipush 7, 2) := dk_16 7 (dk_at dksX3_init_0 5 rfl rfl)
theorem dX3_init_7 : decode cX3_init 7 = .ok (.newarray .int, 2) := dk_188_10 (dk_at dksX3_init_0 7 rfl rfl)
theorem dX3_init_9 : decode cX3_init 9 = .ok (.putfield 9, 3) := dk_181 0 9 (dk_at dksX3_init_0 9 rfl rfl)
theorem dX3_init_12 : decode cX3_init 12 = .ok (.aload_n 0, 1) := dk_42 (dk_at dksX3_init_0 12 rfl rfl)
theorem dX3_init_13 : decode cX3_init 13 = .ok (.bipush 7, 2) := dk_16 7 (dk_at dksX3_init_0 13 rfl rfl)
theorem dX3_init_15 : decode cX3_init 15 = .ok (.newarray .int, 2) := dk_188_10 (dk_at dksX3_init_0 15 rfl rfl)
theorem dX3_init_17 : decode cX3_init 17 = .ok (.putfield 15, 3) := dk_181 0 15 (dk_at dksX3_init_0 17 rfl rfl)
theorem dX3_init_20 : decode cX3_init 20 = .ok (.aload_n 0, 1) := dk_42 (dk_at dksX3_init_0 20 rfl rfl)
theorem dX3_init_21 : decode cX3_init 21 = .ok (.bipush 6, 2) := dk_16 6 (dk_at dksX3_init_0 21 rfl rfl)
theorem dX3_init_23 : decode cX3_init 23 = .ok (.newarray .int, 2) := dk_188_10 (dk_at dksX3_init_1 0 rfl rfl)
theorem dX3_init_25 : decode cX3_init 25 = .ok (.putfield 18, 3) := dk_181 0 18 (dk_at dksX3_init_1 2 rfl rfl)
theorem dX3_init_28 : decode cX3_init 28 = .ok (.aload_n 0, 1) := dk_42 (dk_at dksX3_init_1 5 rfl rfl)
theorem dX3_init_29 : decode cX3_init 29 = .ok (.bipush 6, 2) := dk_16 6 (dk_at dksX3_init_1 6 rfl rfl)
theorem dX3_init_31 : decode cX3_init 31 = .ok (.newarray .int, 2) := dk_188_10 (dk_at dksX3_init_1 8 rfl rfl)
theorem dX3_init_33 : decode cX3_init 33 = .ok (.putfield 21, 3) := dk_181 0 21 (dk_at dksX3_init_1 10 rfl rfl)
theorem dX3_init_36 : decode cX3_init 36 = .ok (.aload_n 0, 1) := dk_42 (dk_at dksX3_init_1 13 rfl rfl)
theorem dX3_init_37 : decode cX3_init 37 = .ok (.bipush 6, 2) := dk_16 6 (dk_at dksX3_init_1 14 rfl rfl)
theorem dX3_init_39 : decode cX3_init 39 = .ok (.newarray .int, 2) := dk_188_10 (dk_at dksX3_init_1 16 rfl rfl)
theorem dX3_init_41 : decode cX3_init 41 = .ok (.putfield 24, 3) := dk_181 0 24 (dk_at dksX3_init_1 18 rfl rfl)
theorem dX3_init_44 : decode cX3_init 44 = .ok (.aload_n 0, 1) := dk_42 (dk_at dksX3_init_1 21 rfl rfl)
theorem dX3_init_45 : decode cX3_init 45 = .ok (.bipush 6, 2) := dk_16 6 (dk_at dksX3_init_1 22 rfl rfl)
theorem dX3_init_47 : decode cX3_init 47 = .ok (.newarray .int, 2) := dk_188_10 (dk_at dksX3_init_2 0 rfl rfl)
theorem dX3_init_49 : decode cX3_init 49 = .ok (.putfield 27, 3) := dk_181 0 27 (dk_at dksX3_init_2 2 rfl rfl)
theorem dX3_init_52 : decode cX3_init 52 = .ok (.aload_n 0, 1) := dk_42 (dk_at dksX3_init_2 5 rfl rfl)
theorem dX3_init_53 : decode cX3_init 53 = .ok (.bipush 6, 2) := dk_16 6 (dk_at dksX3_init_2 6 rfl rfl)
theorem dX3_init_55 : decode cX3_init 55 = .ok (.newarray .int, 2) := dk_188_10 (dk_at dksX3_init_2 8 rfl rfl)
theorem dX3_init_57 : decode cX3_init 57 = .ok (.putfield 30, 3) := dk_181 0 30 (dk_at dksX3_init_2 10 rfl rfl)
theorem dX3_init_60 : decode cX3_init 60 = .ok (.return_, 1) := dk_177 (dk_at dksX3_init_2 13 rfl rfl)
abbrev cX3_begin : ByteArray := prog_27_method_2_code
def yX3_begin : MethodName := ⟨RX3, "begin", "(LInchBorders$Atlas;)LInchBorders$Times;"⟩
def dkwX3_begin_7 : List UInt8 := [180, 0, 79, 28, 182, 0, 60, 192, 0, 81, 180, 0, 83, 79, 132, 2, 1, 167, 255, 208, 42, 176]
abbrev dktX3_begin_7 : List UInt8 := dkwX3_begin_7 ++ []
def dkwX3_begin_6 : List UInt8 := [180, 0, 18, 28, 42, 180, 0, 33, 28, 182, 0, 75, 79, 42, 180, 0, 21, 28, 42, 180, 0, 33]
abbrev dktX3_begin_6 : List UInt8 := dkwX3_begin_6 ++ dktX3_begin_7
def dkwX3_begin_5 : List UInt8 := [192, 0, 66, 180, 0, 70, 79, 132, 2, 1, 167, 255, 199, 3, 61, 28, 42, 182, 0, 72, 162, 0, 46, 42]
abbrev dktX3_begin_5 : List UInt8 := dkwX3_begin_5 ++ dktX3_begin_6
def dkwX3_begin_4 : List UInt8 := [192, 0, 66, 180, 0, 68, 79, 42, 180, 0, 15, 28, 42, 180, 0, 33, 180, 0, 55, 28, 182, 0, 60]
abbrev dktX3_begin_4 : List UInt8 := dkwX3_begin_4 ++ dktX3_begin_5
def dkwX3_begin_3 : List UInt8 := [42, 182, 0, 51, 162, 0, 55, 42, 180, 0, 9, 28, 42, 180, 0, 33, 180, 0, 55, 28, 182, 0, 60]
abbrev dktX3_begin_3 : List UInt8 := dkwX3_begin_3 ++ dktX3_begin_4
def dkwX3_begin_2 : List UInt8 := [42, 180, 0, 24, 184, 0, 47, 42, 180, 0, 27, 184, 0, 47, 42, 180, 0, 30, 184, 0, 47, 3, 61, 28]
abbrev dktX3_begin_2 : List UInt8 := dkwX3_begin_2 ++ dktX3_begin_3
def dkwX3_begin_1 : List UInt8 := [184, 0, 47, 42, 180, 0, 15, 184, 0, 47, 42, 180, 0, 18, 184, 0, 47, 42, 180, 0, 21, 184, 0, 47]
abbrev dktX3_begin_1 : List UInt8 := dkwX3_begin_1 ++ dktX3_begin_2
def dkwX3_begin_0 : List UInt8 := [42, 43, 181, 0, 33, 42, 3, 181, 0, 37, 42, 3, 181, 0, 41, 42, 3, 181, 0, 44, 42, 180, 0, 9]
abbrev dktX3_begin_0 : List UInt8 := dkwX3_begin_0 ++ dktX3_begin_1
theorem dksX3_begin_0 : cX3_begin.data.toList.drop 0 = dktX3_begin_0 := by decide +kernel
theorem dksX3_begin_1 : cX3_begin.data.toList.drop 24 = dktX3_begin_1 := dk_seg dksX3_begin_0 24 rfl rfl
theorem dksX3_begin_2 : cX3_begin.data.toList.drop 48 = dktX3_begin_2 := dk_seg dksX3_begin_1 24 rfl rfl
theorem dksX3_begin_3 : cX3_begin.data.toList.drop 72 = dktX3_begin_3 := dk_seg dksX3_begin_2 24 rfl rfl
theorem dksX3_begin_4 : cX3_begin.data.toList.drop 95 = dktX3_begin_4 := dk_seg dksX3_begin_3 23 rfl rfl
theorem dksX3_begin_5 : cX3_begin.data.toList.drop 118 = dktX3_begin_5 := dk_seg dksX3_begin_4 23 rfl rfl
theorem dksX3_begin_6 : cX3_begin.data.toList.drop 142 = dktX3_begin_6 := dk_seg dksX3_begin_5 24 rfl rfl
theorem dksX3_begin_7 : cX3_begin.data.toList.drop 164 = dktX3_begin_7 := dk_seg dksX3_begin_6 22 rfl rfl
theorem dX3_begin_0 : decode cX3_begin 0 = .ok (.aload_n 0, 1) := dk_42 (dk_at dksX3_begin_0 0 rfl rfl)
theorem dX3_begin_1 : decode cX3_begin 1 = .ok (.aload_n 1, 1) := dk_43 (dk_at dksX3_begin_0 1 rfl rfl)
theorem dX3_begin_2 : decode cX3_begin 2 = .ok (.putfield 33, 3) := dk_181 0 33 (dk_at dksX3_begin_0 2 rfl rfl)
theorem dX3_begin_5 : decode cX3_begin 5 = .ok (.aload_n 0, 1) := dk_42 (dk_at dksX3_begin_0 5 rfl rfl)
theorem dX3_begin_6 : decode cX3_begin 6 = .ok (.iconst 0, 1) := dk_3 (dk_at dksX3_begin_0 6 rfl rfl)
theorem dX3_begin_7 : decode cX3_begin 7 = .ok (.putfield 37, 3) := dk_181 0 37 (dk_at dksX3_begin_0 7 rfl rfl)
theorem dX3_begin_10 : decode cX3_begin 10 = .ok (.aload_n 0, 1) := dk_42 (dk_at dksX3_begin_0 10 rfl rfl)
theorem dX3_begin_11 : decode cX3_begin 11 = .ok (.iconst 0, 1) := dk_3 (dk_at dksX3_begin_0 11 rfl rfl)
theorem dX3_begin_12 : decode cX3_begin 12 = .ok (.putfield 41, 3) := dk_181 0 41 (dk_at dksX3_begin_0 12 rfl rfl)
theorem dX3_begin_15 : decode cX3_begin 15 = .ok (.aload_n 0, 1) := dk_42 (dk_at dksX3_begin_0 15 rfl rfl)
theorem dX3_begin_16 : decode cX3_begin 16 = .ok (.iconst 0, 1) := dk_3 (dk_at dksX3_begin_0 16 rfl rfl)
theorem dX3_begin_17 : decode cX3_begin 17 = .ok (.putfield 44, 3) := dk_181 0 44 (dk_at dksX3_begin_0 17 rfl rfl)
theorem dX3_begin_20 : decode cX3_begin 20 = .ok (.aload_n 0, 1) := dk_42 (dk_at dksX3_begin_0 20 rfl rfl)
theorem dX3_begin_21 : decode cX3_begin 21 = .ok (.getfield 9, 3) := dk_180 0 9 (dk_at dksX3_begin_0 21 rfl rfl)
theorem dX3_begin_24 : decode cX3_begin 24 = .ok (.invokestatic 47, 3) := dk_184 0 47 (dk_at dksX3_begin_1 0 rfl rfl)
theorem dX3_begin_27 : decode cX3_begin 27 = .ok (.aload_n 0, 1) := dk_42 (dk_at dksX3_begin_1 3 rfl rfl)
theorem dX3_begin_28 : decode cX3_begin 28 = .ok (.getfield 15, 3) := dk_180 0 15 (dk_at dksX3_begin_1 4 rfl rfl)
theorem dX3_begin_31 : decode cX3_begin 31 = .ok (.invokestatic 47, 3) := dk_184 0 47 (dk_at dksX3_begin_1 7 rfl rfl)
theorem dX3_begin_34 : decode cX3_begin 34 = .ok (.aload_n 0, 1) := dk_42 (dk_at dksX3_begin_1 10 rfl rfl)
theorem dX3_begin_35 : decode cX3_begin 35 = .ok (.getfield 18, 3) := dk_180 0 18 (dk_at dksX3_begin_1 11 rfl rfl)
theorem dX3_begin_38 : decode cX3_begin 38 = .ok (.invokestatic 47, 3) := dk_184 0 47 (dk_at dksX3_begin_1 14 rfl rfl)
theorem dX3_begin_41 : decode cX3_begin 41 = .ok (.aload_n 0, 1) := dk_42 (dk_at dksX3_begin_1 17 rfl rfl)
theorem dX3_begin_42 : decode cX3_begin 42 = .ok (.getfield 21, 3) := dk_180 0 21 (dk_at dksX3_begin_1 18 rfl rfl)
theorem dX3_begin_45 : decode cX3_begin 45 = .ok (.invokestatic 47, 3) := dk_184 0 47 (dk_at dksX3_begin_1 21 rfl rfl)
theorem dX3_begin_48 : decode cX3_begin 48 = .ok (.aload_n 0, 1) := dk_42 (dk_at dksX3_begin_2 0 rfl rfl)
theorem dX3_begin_49 : decode cX3_begin 49 = .ok (.getfield 24, 3) := dk_180 0 24 (dk_at dksX3_begin_2 1 rfl rfl)
theorem dX3_begin_52 : decode cX3_begin 52 = .ok (.invokestatic 47, 3) := dk_184 0 47 (dk_at dksX3_begin_2 4 rfl rfl)
theorem dX3_begin_55 : decode cX3_begin 55 = .ok (.aload_n 0, 1) := dk_42 (dk_at dksX3_begin_2 7 rfl rfl)
theorem dX3_begin_56 : decode cX3_begin 56 = .ok (.getfield 27, 3) := dk_180 0 27 (dk_at dksX3_begin_2 8 rfl rfl)
theorem dX3_begin_59 : decode cX3_begin 59 = .ok (.invokestatic 47, 3) := dk_184 0 47 (dk_at dksX3_begin_2 11 rfl rfl)
theorem dX3_begin_62 : decode cX3_begin 62 = .ok (.aload_n 0, 1) := dk_42 (dk_at dksX3_begin_2 14 rfl rfl)
theorem dX3_begin_63 : decode cX3_begin 63 = .ok (.getfield 30, 3) := dk_180 0 30 (dk_at dksX3_begin_2 15 rfl rfl)
theorem dX3_begin_66 : decode cX3_begin 66 = .ok (.invokestatic 47, 3) := dk_184 0 47 (dk_at dksX3_begin_2 18 rfl rfl)
theorem dX3_begin_69 : decode cX3_begin 69 = .ok (.iconst 0, 1) := dk_3 (dk_at dksX3_begin_2 21 rfl rfl)
theorem dX3_begin_70 : decode cX3_begin 70 = .ok (.istore_n 2, 1) := dk_61 (dk_at dksX3_begin_2 22 rfl rfl)
theorem dX3_begin_71 : decode cX3_begin 71 = .ok (.iload_n 2, 1) := dk_28 (dk_at dksX3_begin_2 23 rfl rfl)
theorem dX3_begin_72 : decode cX3_begin 72 = .ok (.aload_n 0, 1) := dk_42 (dk_at dksX3_begin_3 0 rfl rfl)
theorem dX3_begin_73 : decode cX3_begin 73 = .ok (.invokevirtual 51, 3) := dk_182 0 51 (dk_at dksX3_begin_3 1 rfl rfl)
theorem dX3_begin_76 : decode cX3_begin 76 = .ok (.if_icmp .ge 55, 3) := dk_162 0 55 (dk_at dksX3_begin_3 4 rfl rfl)
theorem dX3_begin_79 : decode cX3_begin 79 = .ok (.aload_n 0, 1) := dk_42 (dk_at dksX3_begin_3 7 rfl rfl)
theorem dX3_begin_80 : decode cX3_begin 80 = .ok (.getfield 9, 3) := dk_180 0 9 (dk_at dksX3_begin_3 8 rfl rfl)
theorem dX3_begin_83 : decode cX3_begin 83 = .ok (.iload_n 2, 1) := dk_28 (dk_at dksX3_begin_3 11 rfl rfl)
theorem dX3_begin_84 : decode cX3_begin 84 = .ok (.aload_n 0, 1) := dk_42 (dk_at dksX3_begin_3 12 rfl rfl)
theorem dX3_begin_85 : decode cX3_begin 85 = .ok (.getfield 33, 3) := dk_180 0 33 (dk_at dksX3_begin_3 13 rfl rfl)
theorem dX3_begin_88 : decode cX3_begin 88 = .ok (.getfield 55, 3) := dk_180 0 55 (dk_at dksX3_begin_3 16 rfl rfl)
theorem dX3_begin_91 : decode cX3_begin 91 = .ok (.iload_n 2, 1) := dk_28 (dk_at dksX3_begin_3 19 rfl rfl)
theorem dX3_begin_92 : decode cX3_begin 92 = .ok (.invokevirtual 60, 3) := dk_182 0 60 (dk_at dksX3_begin_3 20 rfl rfl)
theorem dX3_begin_95 : decode cX3_begin 95 = .ok (.checkcast 66, 3) := dk_192 0 66 (dk_at dksX3_begin_4 0 rfl rfl)
theorem dX3_begin_98 : decode cX3_begin 98 = .ok (.getfield 68, 3) := dk_180 0 68 (dk_at dksX3_begin_4 3 rfl rfl)
theorem dX3_begin_101 : decode cX3_begin 101 = .ok (.iastore, 1) := dk_79 (dk_at dksX3_begin_4 6 rfl rfl)
theorem dX3_begin_102 : decode cX3_begin 102 = .ok (.aload_n 0, 1) := dk_42 (dk_at dksX3_begin_4 7 rfl rfl)
theorem dX3_begin_103 : decode cX3_begin 103 = .ok (.getfield 15, 3) := dk_180 0 15 (dk_at dksX3_begin_4 8 rfl rfl)
theorem dX3_begin_106 : decode cX3_begin 106 = .ok (.iload_n 2, 1) := dk_28 (dk_at dksX3_begin_4 11 rfl rfl)
theorem dX3_begin_107 : decode cX3_begin 107 = .ok (.aload_n 0, 1) := dk_42 (dk_at dksX3_begin_4 12 rfl rfl)
theorem dX3_begin_108 : decode cX3_begin 108 = .ok (.getfield 33, 3) := dk_180 0 33 (dk_at dksX3_begin_4 13 rfl rfl)
theorem dX3_begin_111 : decode cX3_begin 111 = .ok (.getfield 55, 3) := dk_180 0 55 (dk_at dksX3_begin_4 16 rfl rfl)
theorem dX3_begin_114 : decode cX3_begin 114 = .ok (.iload_n 2, 1) := dk_28 (dk_at dksX3_begin_4 19 rfl rfl)
theorem dX3_begin_115 : decode cX3_begin 115 = .ok (.invokevirtual 60, 3) := dk_182 0 60 (dk_at dksX3_begin_4 20 rfl rfl)
theorem dX3_begin_118 : decode cX3_begin 118 = .ok (.checkcast 66, 3) := dk_192 0 66 (dk_at dksX3_begin_5 0 rfl rfl)
theorem dX3_begin_121 : decode cX3_begin 121 = .ok (.getfield 70, 3) := dk_180 0 70 (dk_at dksX3_begin_5 3 rfl rfl)
theorem dX3_begin_124 : decode cX3_begin 124 = .ok (.iastore, 1) := dk_79 (dk_at dksX3_begin_5 6 rfl rfl)
theorem dX3_begin_125 : decode cX3_begin 125 = .ok (.iinc 2 1, 3) := dk_132 2 1 (dk_at dksX3_begin_5 7 rfl rfl)
theorem dX3_begin_128 : decode cX3_begin 128 = .ok (.goto (-57), 3) := dk_167 255 199 (dk_at dksX3_begin_5 10 rfl rfl)
theorem dX3_begin_131 : decode cX3_begin 131 = .ok (.iconst 0, 1) := dk_3 (dk_at dksX3_begin_5 13 rfl rfl)
theorem dX3_begin_132 : decode cX3_begin 132 = .ok (.istore_n 2, 1) := dk_61 (dk_at dksX3_begin_5 14 rfl rfl)
theorem dX3_begin_133 : decode cX3_begin 133 = .ok (.iload_n 2, 1) := dk_28 (dk_at dksX3_begin_5 15 rfl rfl)
theorem dX3_begin_134 : decode cX3_begin 134 = .ok (.aload_n 0, 1) := dk_42 (dk_at dksX3_begin_5 16 rfl rfl)
theorem dX3_begin_135 : decode cX3_begin 135 = .ok (.invokevirtual 72, 3) := dk_182 0 72 (dk_at dksX3_begin_5 17 rfl rfl)
theorem dX3_begin_138 : decode cX3_begin 138 = .ok (.if_icmp .ge 46, 3) := dk_162 0 46 (dk_at dksX3_begin_5 20 rfl rfl)
theorem dX3_begin_141 : decode cX3_begin 141 = .ok (.aload_n 0, 1) := dk_42 (dk_at dksX3_begin_5 23 rfl rfl)
theorem dX3_begin_142 : decode cX3_begin 142 = .ok (.getfield 18, 3) := dk_180 0 18 (dk_at dksX3_begin_6 0 rfl rfl)
theorem dX3_begin_145 : decode cX3_begin 145 = .ok (.iload_n 2, 1) := dk_28 (dk_at dksX3_begin_6 3 rfl rfl)
theorem dX3_begin_146 : decode cX3_begin 146 = .ok (.aload_n 0, 1) := dk_42 (dk_at dksX3_begin_6 4 rfl rfl)
theorem dX3_begin_147 : decode cX3_begin 147 = .ok (.getfield 33, 3) := dk_180 0 33 (dk_at dksX3_begin_6 5 rfl rfl)
theorem dX3_begin_150 : decode cX3_begin 150 = .ok (.iload_n 2, 1) := dk_28 (dk_at dksX3_begin_6 8 rfl rfl)
theorem dX3_begin_151 : decode cX3_begin 151 = .ok (.invokevirtual 75, 3) := dk_182 0 75 (dk_at dksX3_begin_6 9 rfl rfl)
theorem dX3_begin_154 : decode cX3_begin 154 = .ok (.iastore, 1) := dk_79 (dk_at dksX3_begin_6 12 rfl rfl)
theorem dX3_begin_155 : decode cX3_begin 155 = .ok (.aload_n 0, 1) := dk_42 (dk_at dksX3_begin_6 13 rfl rfl)
theorem dX3_begin_156 : decode cX3_begin 156 = .ok (.getfield 21, 3) := dk_180 0 21 (dk_at dksX3_begin_6 14 rfl rfl)
theorem dX3_begin_159 : decode cX3_begin 159 = .ok (.iload_n 2, 1) := dk_28 (dk_at dksX3_begin_6 17 rfl rfl)
theorem dX3_begin_160 : decode cX3_begin 160 = .ok (.aload_n 0, 1) := dk_42 (dk_at dksX3_begin_6 18 rfl rfl)
theorem dX3_begin_161 : decode cX3_begin 161 = .ok (.getfield 33, 3) := dk_180 0 33 (dk_at dksX3_begin_6 19 rfl rfl)
theorem dX3_begin_164 : decode cX3_begin 164 = .ok (.getfield 79, 3) := dk_180 0 79 (dk_at dksX3_begin_7 0 rfl rfl)
theorem dX3_begin_167 : decode cX3_begin 167 = .ok (.iload_n 2, 1) := dk_28 (dk_at dksX3_begin_7 3 rfl rfl)
theorem dX3_begin_168 : decode cX3_begin 168 = .ok (.invokevirtual 60, 3) := dk_182 0 60 (dk_at dksX3_begin_7 4 rfl rfl)
theorem dX3_begin_171 : decode cX3_begin 171 = .ok (.checkcast 81, 3) := dk_192 0 81 (dk_at dksX3_begin_7 7 rfl rfl)
theorem dX3_begin_174 : decode cX3_begin 174 = .ok (.getfield 83, 3) := dk_180 0 83 (dk_at dksX3_begin_7 10 rfl rfl)
theorem dX3_begin_177 : decode cX3_begin 177 = .ok (.iastore, 1) := dk_79 (dk_at dksX3_begin_7 13 rfl rfl)
theorem dX3_begin_178 : decode cX3_begin 178 = .ok (.iinc 2 1, 3) := dk_132 2 1 (dk_at dksX3_begin_7 14 rfl rfl)
theorem dX3_begin_181 : decode cX3_begin 181 = .ok (.goto (-48), 3) := dk_167 255 208 (dk_at dksX3_begin_7 17 rfl rfl)
theorem dX3_begin_184 : decode cX3_begin 184 = .ok (.aload_n 0, 1) := dk_42 (dk_at dksX3_begin_7 20 rfl rfl)
theorem dX3_begin_185 : decode cX3_begin 185 = .ok (.areturn, 1) := dk_176 (dk_at dksX3_begin_7 21 rfl rfl)
abbrev cX3_clear : ByteArray := prog_27_method_3_code
def yX3_clear : MethodName := ⟨RX3, "clear", "([I)V"⟩
def dkwX3_clear_0 : List UInt8 := [42, 3, 184, 0, 85, 177]
abbrev dktX3_clear_0 : List UInt8 := dkwX3_clear_0 ++ []
theorem dksX3_clear_0 : cX3_clear.data.toList.drop 0 = dktX3_clear_0 := by decide +kernel
theorem dX3_clear_0 : decode cX3_clear 0 = .ok (.aload_n 0, 1) := dk_42 (dk_at dksX3_clear_0 0 rfl rfl)
theorem dX3_clear_1 : decode cX3_clear 1 = .ok (.iconst 0, 1) := dk_3 (dk_at dksX3_clear_0 1 rfl rfl)
theorem dX3_clear_2 : decode cX3_clear 2 = .ok (.invokestatic 85, 3) := dk_184 0 85 (dk_at dksX3_clear_0 2 rfl rfl)
theorem dX3_clear_5 : decode cX3_clear 5 = .ok (.return_, 1) := dk_177 (dk_at dksX3_clear_0 5 rfl rfl)
abbrev cX3_lands : ByteArray := prog_27_method_7_code
def yX3_lands : MethodName := ⟨RX3, "lands", "()I"⟩
def dkwX3_lands_0 : List UInt8 := [42, 180, 0, 33, 180, 0, 55, 182, 0, 101, 172]
abbrev dktX3_lands_0 : List UInt8 := dkwX3_lands_0 ++ []
theorem dksX3_lands_0 : cX3_lands.data.toList.drop 0 = dktX3_lands_0 := by decide +kernel
theorem dX3_lands_0 : decode cX3_lands 0 = .ok (.aload_n 0, 1) := dk_42 (dk_at dksX3_lands_0 0 rfl rfl)
theorem dX3_lands_1 : decode cX3_lands 1 = .ok (.getfield 33, 3) := dk_180 0 33 (dk_at dksX3_lands_0 1 rfl rfl)
theorem dX3_lands_4 : decode cX3_lands 4 = .ok (.getfield 55, 3) := dk_180 0 55 (dk_at dksX3_lands_0 4 rfl rfl)
theorem dX3_lands_7 : decode cX3_lands 7 = .ok (.invokevirtual 101, 3) := dk_182 0 101 (dk_at dksX3_lands_0 7 rfl rfl)
theorem dX3_lands_10 : decode cX3_lands 10 = .ok (.ireturn, 1) := dk_172 (dk_at dksX3_lands_0 10 rfl rfl)
abbrev cX3_persons : ByteArray := prog_27_method_8_code
def yX3_persons : MethodName := ⟨RX3, "persons", "()I"⟩
def dkwX3_persons_0 : List UInt8 := [42, 180, 0, 33, 180, 0, 79, 182, 0, 101, 172]
abbrev dktX3_persons_0 : List UInt8 := dkwX3_persons_0 ++ []
theorem dksX3_persons_0 : cX3_persons.data.toList.drop 0 = dktX3_persons_0 := by decide +kernel
theorem dX3_persons_0 : decode cX3_persons 0 = .ok (.aload_n 0, 1) := dk_42 (dk_at dksX3_persons_0 0 rfl rfl)
theorem dX3_persons_1 : decode cX3_persons 1 = .ok (.getfield 33, 3) := dk_180 0 33 (dk_at dksX3_persons_0 1 rfl rfl)
theorem dX3_persons_4 : decode cX3_persons 4 = .ok (.getfield 79, 3) := dk_180 0 79 (dk_at dksX3_persons_0 4 rfl rfl)
theorem dX3_persons_7 : decode cX3_persons 7 = .ok (.invokevirtual 101, 3) := dk_182 0 101 (dk_at dksX3_persons_0 7 rfl rfl)
theorem dX3_persons_10 : decode cX3_persons 10 = .ok (.ireturn, 1) := dk_172 (dk_at dksX3_persons_0 10 rfl rfl)
abbrev cX3_take : ByteArray := prog_27_method_10_code
def yX3_take : MethodName := ⟨RX3, "take", "(I)I"⟩
def dkwX3_take_0 : List UInt8 := [42, 180, 0, 33, 180, 0, 55, 27, 182, 0, 60, 192, 0, 66, 180, 0, 108, 172]
abbrev dktX3_take_0 : List UInt8 := dkwX3_take_0 ++ []
theorem dksX3_take_0 : cX3_take.data.toList.drop 0 = dktX3_take_0 := by decide +kernel
theorem dX3_take_0 : decode cX3_take 0 = .ok (.aload_n 0, 1) := dk_42 (dk_at dksX3_take_0 0 rfl rfl)
theorem dX3_take_1 : decode cX3_take 1 = .ok (.getfield 33, 3) := dk_180 0 33 (dk_at dksX3_take_0 1 rfl rfl)
theorem dX3_take_4 : decode cX3_take 4 = .ok (.getfield 55, 3) := dk_180 0 55 (dk_at dksX3_take_0 4 rfl rfl)
theorem dX3_take_7 : decode cX3_take 7 = .ok (.iload_n 1, 1) := dk_27 (dk_at dksX3_take_0 7 rfl rfl)
theorem dX3_take_8 : decode cX3_take 8 = .ok (.invokevirtual 60, 3) := dk_182 0 60 (dk_at dksX3_take_0 8 rfl rfl)
theorem dX3_take_11 : decode cX3_take 11 = .ok (.checkcast 66, 3) := dk_192 0 66 (dk_at dksX3_take_0 11 rfl rfl)
theorem dX3_take_14 : decode cX3_take 14 = .ok (.getfield 108, 3) := dk_180 0 108 (dk_at dksX3_take_0 14 rfl rfl)
theorem dX3_take_17 : decode cX3_take 17 = .ok (.ireturn, 1) := dk_172 (dk_at dksX3_take_0 17 rfl rfl)
abbrev cX3_lengths : ByteArray := prog_27_method_20_code
def yX3_lengths : MethodName := ⟨RX3, "lengths", "()I"⟩
def dkwX3_lengths_1 : List UInt8 := [54, 5, 27, 21, 5, 96, 60, 132, 4, 1, 167, 255, 236, 27, 172]
abbrev dktX3_lengths_1 : List UInt8 := dkwX3_lengths_1 ++ []
def dkwX3_lengths_0 : List UInt8 := [3, 60, 42, 180, 0, 21, 77, 44, 190, 62, 3, 54, 4, 21, 4, 29, 162, 0, 20, 44, 21, 4, 46]
abbrev dktX3_lengths_0 : List UInt8 := dkwX3_lengths_0 ++ dktX3_lengths_1
theorem dksX3_lengths_0 : cX3_lengths.data.toList.drop 0 = dktX3_lengths_0 := by decide +kernel
theorem dksX3_lengths_1 : cX3_lengths.data.toList.drop 23 = dktX3_lengths_1 := dk_seg dksX3_lengths_0 23 rfl rfl
theorem dX3_lengths_0 : decode cX3_lengths 0 = .ok (.iconst 0, 1) := dk_3 (dk_at dksX3_lengths_0 0 rfl rfl)
theorem dX3_lengths_1 : decode cX3_lengths 1 = .ok (.istore_n 1, 1) := dk_60 (dk_at dksX3_lengths_0 1 rfl rfl)
theorem dX3_lengths_2 : decode cX3_lengths 2 = .ok (.aload_n 0, 1) := dk_42 (dk_at dksX3_lengths_0 2 rfl rfl)
theorem dX3_lengths_3 : decode cX3_lengths 3 = .ok (.getfield 21, 3) := dk_180 0 21 (dk_at dksX3_lengths_0 3 rfl rfl)
theorem dX3_lengths_6 : decode cX3_lengths 6 = .ok (.astore_n 2, 1) := dk_77 (dk_at dksX3_lengths_0 6 rfl rfl)
theorem dX3_lengths_7 : decode cX3_lengths 7 = .ok (.aload_n 2, 1) := dk_44 (dk_at dksX3_lengths_0 7 rfl rfl)
theorem dX3_lengths_8 : decode cX3_lengths 8 = .ok (.arraylength, 1) := dk_190 (dk_at dksX3_lengths_0 8 rfl rfl)
theorem dX3_lengths_9 : decode cX3_lengths 9 = .ok (.istore_n 3, 1) := dk_62 (dk_at dksX3_lengths_0 9 rfl rfl)
theorem dX3_lengths_10 : decode cX3_lengths 10 = .ok (.iconst 0, 1) := dk_3 (dk_at dksX3_lengths_0 10 rfl rfl)
theorem dX3_lengths_11 : decode cX3_lengths 11 = .ok (.istore 4, 2) := dk_54 4 (dk_at dksX3_lengths_0 11 rfl rfl)
theorem dX3_lengths_13 : decode cX3_lengths 13 = .ok (.iload 4, 2) := dk_21 4 (dk_at dksX3_lengths_0 13 rfl rfl)
theorem dX3_lengths_15 : decode cX3_lengths 15 = .ok (.iload_n 3, 1) := dk_29 (dk_at dksX3_lengths_0 15 rfl rfl)
theorem dX3_lengths_16 : decode cX3_lengths 16 = .ok (.if_icmp .ge 20, 3) := dk_162 0 20 (dk_at dksX3_lengths_0 16 rfl rfl)
theorem dX3_lengths_19 : decode cX3_lengths 19 = .ok (.aload_n 2, 1) := dk_44 (dk_at dksX3_lengths_0 19 rfl rfl)
theorem dX3_lengths_20 : decode cX3_lengths 20 = .ok (.iload 4, 2) := dk_21 4 (dk_at dksX3_lengths_0 20 rfl rfl)
theorem dX3_lengths_22 : decode cX3_lengths 22 = .ok (.iaload, 1) := dk_46 (dk_at dksX3_lengths_0 22 rfl rfl)
theorem dX3_lengths_23 : decode cX3_lengths 23 = .ok (.istore 5, 2) := dk_54 5 (dk_at dksX3_lengths_1 0 rfl rfl)
theorem dX3_lengths_25 : decode cX3_lengths 25 = .ok (.iload_n 1, 1) := dk_27 (dk_at dksX3_lengths_1 2 rfl rfl)
theorem dX3_lengths_26 : decode cX3_lengths 26 = .ok (.iload 5, 2) := dk_21 5 (dk_at dksX3_lengths_1 3 rfl rfl)
theorem dX3_lengths_28 : decode cX3_lengths 28 = .ok (.iadd, 1) := dk_96 (dk_at dksX3_lengths_1 5 rfl rfl)
theorem dX3_lengths_29 : decode cX3_lengths 29 = .ok (.istore_n 1, 1) := dk_60 (dk_at dksX3_lengths_1 6 rfl rfl)
theorem dX3_lengths_30 : decode cX3_lengths 30 = .ok (.iinc 4 1, 3) := dk_132 4 1 (dk_at dksX3_lengths_1 7 rfl rfl)
theorem dX3_lengths_33 : decode cX3_lengths 33 = .ok (.goto (-20), 3) := dk_167 255 236 (dk_at dksX3_lengths_1 10 rfl rfl)
theorem dX3_lengths_36 : decode cX3_lengths 36 = .ok (.iload_n 1, 1) := dk_27 (dk_at dksX3_lengths_1 13 rfl rfl)
theorem dX3_lengths_37 : decode cX3_lengths 37 = .ok (.ireturn, 1) := dk_172 (dk_at dksX3_lengths_1 14 rfl rfl)
abbrev cX3_canCross : ByteArray := prog_27_method_13_code
def yX3_canCross : MethodName := ⟨RX3, "canCross", "(I)I"⟩
def dkwX3_canCross_1 : List UInt8 := [120, 128, 61, 132, 3, 1, 167, 255, 230, 28, 172]
abbrev dktX3_canCross_1 : List UInt8 := dkwX3_canCross_1 ++ []
def dkwX3_canCross_0 : List UInt8 := [3, 61, 3, 62, 29, 42, 182, 0, 51, 162, 0, 24, 42, 27, 29, 182, 0, 135, 154, 0, 9, 28, 4, 29]
abbrev dktX3_canCross_0 : List UInt8 := dkwX3_canCross_0 ++ dktX3_canCross_1
theorem dksX3_canCross_0 : cX3_canCross.data.toList.drop 0 = dktX3_canCross_0 := by decide +kernel
theorem dksX3_canCross_1 : cX3_canCross.data.toList.drop 24 = dktX3_canCross_1 := dk_seg dksX3_canCross_0 24 rfl rfl
theorem dX3_canCross_0 : decode cX3_canCross 0 = .ok (.iconst 0, 1) := dk_3 (dk_at dksX3_canCross_0 0 rfl rfl)
theorem dX3_canCross_1 : decode cX3_canCross 1 = .ok (.istore_n 2, 1) := dk_61 (dk_at dksX3_canCross_0 1 rfl rfl)
theorem dX3_canCross_2 : decode cX3_canCross 2 = .ok (.iconst 0, 1) := dk_3 (dk_at dksX3_canCross_0 2 rfl rfl)
theorem dX3_canCross_3 : decode cX3_canCross 3 = .ok (.istore_n 3, 1) := dk_62 (dk_at dksX3_canCross_0 3 rfl rfl)
theorem dX3_canCross_4 : decode cX3_canCross 4 = .ok (.iload_n 3, 1) := dk_29 (dk_at dksX3_canCross_0 4 rfl rfl)
theorem dX3_canCross_5 : decode cX3_canCross 5 = .ok (.aload_n 0, 1) := dk_42 (dk_at dksX3_canCross_0 5 rfl rfl)
theorem dX3_canCross_6 : decode cX3_canCross 6 = .ok (.invokevirtual 51, 3) := dk_182 0 51 (dk_at dksX3_canCross_0 6 rfl rfl)
theorem dX3_canCross_9 : decode cX3_canCross 9 = .ok (.if_icmp .ge 24, 3) := dk_162 0 24 (dk_at dksX3_canCross_0 9 rfl rfl)
theorem dX3_canCross_12 : decode cX3_canCross 12 = .ok (.aload_n 0, 1) := dk_42 (dk_at dksX3_canCross_0 12 rfl rfl)
theorem dX3_canCross_13 : decode cX3_canCross 13 = .ok (.iload_n 1, 1) := dk_27 (dk_at dksX3_canCross_0 13 rfl rfl)
theorem dX3_canCross_14 : decode cX3_canCross 14 = .ok (.iload_n 3, 1) := dk_29 (dk_at dksX3_canCross_0 14 rfl rfl)
theorem dX3_canCross_15 : decode cX3_canCross 15 = .ok (.invokevirtual 135, 3) := dk_182 0 135 (dk_at dksX3_canCross_0 15 rfl rfl)
theorem dX3_canCross_18 : decode cX3_canCross 18 = .ok (.ifCond .ne 9, 3) := dk_154 0 9 (dk_at dksX3_canCross_0 18 rfl rfl)
theorem dX3_canCross_21 : decode cX3_canCross 21 = .ok (.iload_n 2, 1) := dk_28 (dk_at dksX3_canCross_0 21 rfl rfl)
theorem dX3_canCross_22 : decode cX3_canCross 22 = .ok (.iconst 1, 1) := dk_4 (dk_at dksX3_canCross_0 22 rfl rfl)
theorem dX3_canCross_23 : decode cX3_canCross 23 = .ok (.iload_n 3, 1) := dk_29 (dk_at dksX3_canCross_0 23 rfl rfl)
theorem dX3_canCross_24 : decode cX3_canCross 24 = .ok (.ishl, 1) := dk_120 (dk_at dksX3_canCross_1 0 rfl rfl)
theorem dX3_canCross_25 : decode cX3_canCross 25 = .ok (.ior, 1) := dk_128 (dk_at dksX3_canCross_1 1 rfl rfl)
theorem dX3_canCross_26 : decode cX3_canCross 26 = .ok (.istore_n 2, 1) := dk_61 (dk_at dksX3_canCross_1 2 rfl rfl)
theorem dX3_canCross_27 : decode cX3_canCross 27 = .ok (.iinc 3 1, 3) := dk_132 3 1 (dk_at dksX3_canCross_1 3 rfl rfl)
theorem dX3_canCross_30 : decode cX3_canCross 30 = .ok (.goto (-26), 3) := dk_167 255 230 (dk_at dksX3_canCross_1 6 rfl rfl)
theorem dX3_canCross_33 : decode cX3_canCross 33 = .ok (.iload_n 2, 1) := dk_28 (dk_at dksX3_canCross_1 9 rfl rfl)
theorem dX3_canCross_34 : decode cX3_canCross 34 = .ok (.ireturn, 1) := dk_172 (dk_at dksX3_canCross_1 10 rfl rfl)
abbrev cX3_whyCross : ByteArray := prog_27_method_12_code
def yX3_whyCross : MethodName := ⟨RX3, "whyCross", "(II)I"⟩
def dkwX3_whyCross_1 : List UInt8 := [182, 0, 128, 182, 0, 131, 172]
abbrev dktX3_whyCross_1 : List UInt8 := dkwX3_whyCross_1 ++ []
def dkwX3_whyCross_0 : List UInt8 := [42, 42, 180, 0, 18, 27, 46, 28, 42, 180, 0, 21, 27, 46, 42, 42, 180, 0, 33, 27, 182, 0, 75, 28]
abbrev dktX3_whyCross_0 : List UInt8 := dkwX3_whyCross_0 ++ dktX3_whyCross_1
theorem dksX3_whyCross_0 : cX3_whyCross.data.toList.drop 0 = dktX3_whyCross_0 := by decide +kernel
theorem dksX3_whyCross_1 : cX3_whyCross.data.toList.drop 24 = dktX3_whyCross_1 := dk_seg dksX3_whyCross_0 24 rfl rfl
theorem dX3_whyCross_0 : decode cX3_whyCross 0 = .ok (.aload_n 0, 1) := dk_42 (dk_at dksX3_whyCross_0 0 rfl rfl)
theorem dX3_whyCross_1 : decode cX3_whyCross 1 = .ok (.aload_n 0, 1) := dk_42 (dk_at dksX3_whyCross_0 1 rfl rfl)
theorem dX3_whyCross_2 : decode cX3_whyCross 2 = .ok (.getfield 18, 3) := dk_180 0 18 (dk_at dksX3_whyCross_0 2 rfl rfl)
theorem dX3_whyCross_5 : decode cX3_whyCross 5 = .ok (.iload_n 1, 1) := dk_27 (dk_at dksX3_whyCross_0 5 rfl rfl)
theorem dX3_whyCross_6 : decode cX3_whyCross 6 = .ok (.iaload, 1) := dk_46 (dk_at dksX3_whyCross_0 6 rfl rfl)
theorem dX3_whyCross_7 : decode cX3_whyCross 7 = .ok (.iload_n 2, 1) := dk_28 (dk_at dksX3_whyCross_0 7 rfl rfl)
theorem dX3_whyCross_8 : decode cX3_whyCross 8 = .ok (.aload_n 0, 1) := dk_42 (dk_at dksX3_whyCross_0 8 rfl rfl)
theorem dX3_whyCross_9 : decode cX3_whyCross 9 = .ok (.getfield 21, 3) := dk_180 0 21 (dk_at dksX3_whyCross_0 9 rfl rfl)
theorem dX3_whyCross_12 : decode cX3_whyCross 12 = .ok (.iload_n 1, 1) := dk_27 (dk_at dksX3_whyCross_0 12 rfl rfl)
theorem dX3_whyCross_13 : decode cX3_whyCross 13 = .ok (.iaload, 1) := dk_46 (dk_at dksX3_whyCross_0 13 rfl rfl)
theorem dX3_whyCross_14 : decode cX3_whyCross 14 = .ok (.aload_n 0, 1) := dk_42 (dk_at dksX3_whyCross_0 14 rfl rfl)
theorem dX3_whyCross_15 : decode cX3_whyCross 15 = .ok (.aload_n 0, 1) := dk_42 (dk_at dksX3_whyCross_0 15 rfl rfl)
theorem dX3_whyCross_16 : decode cX3_whyCross 16 = .ok (.getfield 33, 3) := dk_180 0 33 (dk_at dksX3_whyCross_0 16 rfl rfl)
theorem dX3_whyCross_19 : decode cX3_whyCross 19 = .ok (.iload_n 1, 1) := dk_27 (dk_at dksX3_whyCross_0 19 rfl rfl)
theorem dX3_whyCross_20 : decode cX3_whyCross 20 = .ok (.invokevirtual 75, 3) := dk_182 0 75 (dk_at dksX3_whyCross_0 20 rfl rfl)
theorem dX3_whyCross_23 : decode cX3_whyCross 23 = .ok (.iload_n 2, 1) := dk_28 (dk_at dksX3_whyCross_0 23 rfl rfl)
theorem dX3_whyCross_24 : decode cX3_whyCross 24 = .ok (.invokevirtual 128, 3) := dk_182 0 128 (dk_at dksX3_whyCross_1 0 rfl rfl)
theorem dX3_whyCross_27 : decode cX3_whyCross 27 = .ok (.invokevirtual 131, 3) := dk_182 0 131 (dk_at dksX3_whyCross_1 3 rfl rfl)
theorem dX3_whyCross_30 : decode cX3_whyCross 30 = .ok (.ireturn, 1) := dk_172 (dk_at dksX3_whyCross_1 6 rfl rfl)
abbrev cX3_isSpared : ByteArray := prog_27_method_9_code
def yX3_isSpared : MethodName := ⟨RX3, "isSpared", "(II)Z"⟩
def dkwX3_isSpared_0 : List UInt8 := [27, 28, 159, 0, 16, 42, 180, 0, 15, 27, 46, 28, 184, 0, 104, 153, 0, 7, 4, 167, 0, 4, 3, 172]
abbrev dktX3_isSpared_0 : List UInt8 := dkwX3_isSpared_0 ++ []
theorem dksX3_isSpared_0 : cX3_isSpared.data.toList.drop 0 = dktX3_isSpared_0 := by decide +kernel
theorem dX3_isSpared_0 : decode cX3_isSpared 0 = .ok (.iload_n 1, 1) := dk_27 (dk_at dksX3_isSpared_0 0 rfl rfl)
theorem dX3_isSpared_1 : decode cX3_isSpared 1 = .ok (.iload_n 2, 1) := dk_28 (dk_at dksX3_isSpared_0 1 rfl rfl)
theorem dX3_isSpared_2 : decode cX3_isSpared 2 = .ok (.if_icmp .eq 16, 3) := dk_159 0 16 (dk_at dksX3_isSpared_0 2 rfl rfl)
theorem dX3_isSpared_5 : decode cX3_isSpared 5 = .ok (.aload_n 0, 1) := dk_42 (dk_at dksX3_isSpared_0 5 rfl rfl)
theorem dX3_isSpared_6 : decode cX3_isSpared 6 = .ok (.getfield 15, 3) := dk_180 0 15 (dk_at dksX3_isSpared_0 6 rfl rfl)
theorem dX3_isSpared_9 : decode cX3_isSpared 9 = .ok (.iload_n 1, 1) := dk_27 (dk_at dksX3_isSpared_0 9 rfl rfl)
theorem dX3_isSpared_10 : decode cX3_isSpared 10 = .ok (.iaload, 1) := dk_46 (dk_at dksX3_isSpared_0 10 rfl rfl)
theorem dX3_isSpared_11 : decode cX3_isSpared 11 = .ok (.iload_n 2, 1) := dk_28 (dk_at dksX3_isSpared_0 11 rfl rfl)
theorem dX3_isSpared_12 : decode cX3_isSpared 12 = .ok (.invokestatic 104, 3) := dk_184 0 104 (dk_at dksX3_isSpared_0 12 rfl rfl)
theorem dX3_isSpared_15 : decode cX3_isSpared 15 = .ok (.ifCond .eq 7, 3) := dk_153 0 7 (dk_at dksX3_isSpared_0 15 rfl rfl)
theorem dX3_isSpared_18 : decode cX3_isSpared 18 = .ok (.iconst 1, 1) := dk_4 (dk_at dksX3_isSpared_0 18 rfl rfl)
theorem dX3_isSpared_19 : decode cX3_isSpared 19 = .ok (.goto 4, 3) := dk_167 0 4 (dk_at dksX3_isSpared_0 19 rfl rfl)
theorem dX3_isSpared_22 : decode cX3_isSpared 22 = .ok (.iconst 0, 1) := dk_3 (dk_at dksX3_isSpared_0 22 rfl rfl)
theorem dX3_isSpared_23 : decode cX3_isSpared 23 = .ok (.ireturn, 1) := dk_172 (dk_at dksX3_isSpared_0 23 rfl rfl)
abbrev cX3_why : ByteArray := prog_27_method_11_code
def yX3_why : MethodName := ⟨RX3, "why", "(IIIZ)I"⟩
def dkwX3_why_4 : List UInt8 := [167, 0, 4, 3, 172]
abbrev dktX3_why_4 : List UInt8 := dkwX3_why_4 ++ []
def dkwX3_why_3 : List UInt8 := [164, 0, 7, 7, 167, 0, 22, 21, 4, 154, 0, 16, 42, 28, 182, 0, 126, 29, 161, 0, 7, 8]
abbrev dktX3_why_3 : List UInt8 := dkwX3_why_3 ++ dktX3_why_4
def dkwX3_why_2 : List UInt8 := [192, 0, 118, 58, 6, 29, 25, 6, 180, 0, 120, 162, 0, 7, 6, 167, 0, 35, 29, 25, 6, 180, 0, 123]
abbrev dktX3_why_2 : List UInt8 := dkwX3_why_2 ++ dktX3_why_3
def dkwX3_why_1 : List UInt8 := [21, 5, 184, 0, 104, 153, 0, 5, 5, 172, 42, 180, 0, 33, 180, 0, 115, 21, 5, 182, 0, 60]
abbrev dktX3_why_1 : List UInt8 := dkwX3_why_1 ++ dktX3_why_2
def dkwX3_why_0 : List UInt8 := [42, 180, 0, 33, 27, 28, 182, 0, 111, 54, 5, 21, 5, 2, 160, 0, 5, 4, 172, 42, 180, 0, 44]
abbrev dktX3_why_0 : List UInt8 := dkwX3_why_0 ++ dktX3_why_1
theorem dksX3_why_0 : cX3_why.data.toList.drop 0 = dktX3_why_0 := by decide +kernel
theorem dksX3_why_1 : cX3_why.data.toList.drop 23 = dktX3_why_1 := dk_seg dksX3_why_0 23 rfl rfl
theorem dksX3_why_2 : cX3_why.data.toList.drop 45 = dktX3_why_2 := dk_seg dksX3_why_1 22 rfl rfl
theorem dksX3_why_3 : cX3_why.data.toList.drop 69 = dktX3_why_3 := dk_seg dksX3_why_2 24 rfl rfl
theorem dksX3_why_4 : cX3_why.data.toList.drop 91 = dktX3_why_4 := dk_seg dksX3_why_3 22 rfl rfl
theorem dX3_why_0 : decode cX3_why 0 = .ok (.aload_n 0, 1) := dk_42 (dk_at dksX3_why_0 0 rfl rfl)
theorem dX3_why_1 : decode cX3_why 1 = .ok (.getfield 33, 3) := dk_180 0 33 (dk_at dksX3_why_0 1 rfl rfl)
theorem dX3_why_4 : decode cX3_why 4 = .ok (.iload_n 1, 1) := dk_27 (dk_at dksX3_why_0 4 rfl rfl)
theorem dX3_why_5 : decode cX3_why 5 = .ok (.iload_n 2, 1) := dk_28 (dk_at dksX3_why_0 5 rfl rfl)
theorem dX3_why_6 : decode cX3_why 6 = .ok (.invokevirtual 111, 3) := dk_182 0 111 (dk_at dksX3_why_0 6 rfl rfl)
theorem dX3_why_9 : decode cX3_why 9 = .ok (.istore 5, 2) := dk_54 5 (dk_at dksX3_why_0 9 rfl rfl)
theorem dX3_why_11 : decode cX3_why 11 = .ok (.iload 5, 2) := dk_21 5 (dk_at dksX3_why_0 11 rfl rfl)
theorem dX3_why_13 : decode cX3_why 13 = .ok (.iconst (-1), 1) := dk_2 (dk_at dksX3_why_0 13 rfl rfl)
theorem dX3_why_14 : decode cX3_why 14 = .ok (.if_icmp .ne 5, 3) := dk_160 0 5 (dk_at dksX3_why_0 14 rfl rfl)
theorem dX3_why_17 : decode cX3_why 17 = .ok (.iconst 1, 1) := dk_4 (dk_at dksX3_why_0 17 rfl rfl)
theorem dX3_why_18 : decode cX3_why 18 = .ok (.ireturn, 1) := dk_172 (dk_at dksX3_why_0 18 rfl rfl)
theorem dX3_why_19 : decode cX3_why 19 = .ok (.aload_n 0, 1) := dk_42 (dk_at dksX3_why_0 19 rfl rfl)
theorem dX3_why_20 : decode cX3_why 20 = .ok (.getfield 44, 3) := dk_180 0 44 (dk_at dksX3_why_0 20 rfl rfl)
theorem dX3_why_23 : decode cX3_why 23 = .ok (.iload 5, 2) := dk_21 5 (dk_at dksX3_why_1 0 rfl rfl)
theorem dX3_why_25 : decode cX3_why 25 = .ok (.invokestatic 104, 3) := dk_184 0 104 (dk_at dksX3_why_1 2 rfl rfl)
theorem dX3_why_28 : decode cX3_why 28 = .ok (.ifCond .eq 5, 3) := dk_153 0 5 (dk_at dksX3_why_1 5 rfl rfl)
theorem dX3_why_31 : decode cX3_why 31 = .ok (.iconst 2, 1) := dk_5 (dk_at dksX3_why_1 8 rfl rfl)
theorem dX3_why_32 : decode cX3_why 32 = .ok (.ireturn, 1) := dk_172 (dk_at dksX3_why_1 9 rfl rfl)
theorem dX3_why_33 : decode cX3_why 33 = .ok (.aload_n 0, 1) := dk_42 (dk_at dksX3_why_1 10 rfl rfl)
theorem dX3_why_34 : decode cX3_why 34 = .ok (.getfield 33, 3) := dk_180 0 33 (dk_at dksX3_why_1 11 rfl rfl)
theorem dX3_why_37 : decode cX3_why 37 = .ok (.getfield 115, 3) := dk_180 0 115 (dk_at dksX3_why_1 14 rfl rfl)
theorem dX3_why_40 : decode cX3_why 40 = .ok (.iload 5, 2) := dk_21 5 (dk_at dksX3_why_1 17 rfl rfl)
theorem dX3_why_42 : decode cX3_why 42 = .ok (.invokevirtual 60, 3) := dk_182 0 60 (dk_at dksX3_why_1 19 rfl rfl)
theorem dX3_why_45 : decode cX3_why 45 = .ok (.checkcast 118, 3) := dk_192 0 118 (dk_at dksX3_why_2 0 rfl rfl)
theorem dX3_why_48 : decode cX3_why 48 = .ok (.astore 6, 2) := dk_58 6 (dk_at dksX3_why_2 3 rfl rfl)
theorem dX3_why_50 : decode cX3_why 50 = .ok (.iload_n 3, 1) := dk_29 (dk_at dksX3_why_2 5 rfl rfl)
theorem dX3_why_51 : decode cX3_why 51 = .ok (.aload 6, 2) := dk_25 6 (dk_at dksX3_why_2 6 rfl rfl)
theorem dX3_why_53 : decode cX3_why 53 = .ok (.getfield 120, 3) := dk_180 0 120 (dk_at dksX3_why_2 8 rfl rfl)
theorem dX3_why_56 : decode cX3_why 56 = .ok (.if_icmp .ge 7, 3) := dk_162 0 7 (dk_at dksX3_why_2 11 rfl rfl)
theorem dX3_why_59 : decode cX3_why 59 = .ok (.iconst 3, 1) := dk_6 (dk_at dksX3_why_2 14 rfl rfl)
theorem dX3_why_60 : decode cX3_why 60 = .ok (.goto 35, 3) := dk_167 0 35 (dk_at dksX3_why_2 15 rfl rfl)
theorem dX3_why_63 : decode cX3_why 63 = .ok (.iload_n 3, 1) := dk_29 (dk_at dksX3_why_2 18 rfl rfl)
theorem dX3_why_64 : decode cX3_why 64 = .ok (.aload 6, 2) := dk_25 6 (dk_at dksX3_why_2 19 rfl rfl)
theorem dX3_why_66 : decode cX3_why 66 = .ok (.getfield 123, 3) := dk_180 0 123 (dk_at dksX3_why_2 21 rfl rfl)
theorem dX3_why_69 : decode cX3_why 69 = .ok (.if_icmp .le 7, 3) := dk_164 0 7 (dk_at dksX3_why_3 0 rfl rfl)
theorem dX3_why_72 : decode cX3_why 72 = .ok (.iconst 4, 1) := dk_7 (dk_at dksX3_why_3 3 rfl rfl)
theorem dX3_why_73 : decode cX3_why 73 = .ok (.goto 22, 3) := dk_167 0 22 (dk_at dksX3_why_3 4 rfl rfl)
theorem dX3_why_76 : decode cX3_why 76 = .ok (.iload 4, 2) := dk_21 4 (dk_at dksX3_why_3 7 rfl rfl)
theorem dX3_why_78 : decode cX3_why 78 = .ok (.ifCond .ne 16, 3) := dk_154 0 16 (dk_at dksX3_why_3 9 rfl rfl)
theorem dX3_why_81 : decode cX3_why 81 = .ok (.aload_n 0, 1) := dk_42 (dk_at dksX3_why_3 12 rfl rfl)
theorem dX3_why_82 : decode cX3_why 82 = .ok (.iload_n 2, 1) := dk_28 (dk_at dksX3_why_3 13 rfl rfl)
theorem dX3_why_83 : decode cX3_why 83 = .ok (.invokevirtual 126, 3) := dk_182 0 126 (dk_at dksX3_why_3 14 rfl rfl)
theorem dX3_why_86 : decode cX3_why 86 = .ok (.iload_n 3, 1) := dk_29 (dk_at dksX3_why_3 17 rfl rfl)
theorem dX3_why_87 : decode cX3_why 87 = .ok (.if_icmp .lt 7, 3) := dk_161 0 7 (dk_at dksX3_why_3 18 rfl rfl)
theorem dX3_why_90 : decode cX3_why 90 = .ok (.iconst 5, 1) := dk_8 (dk_at dksX3_why_3 21 rfl rfl)
theorem dX3_why_91 : decode cX3_why 91 = .ok (.goto 4, 3) := dk_167 0 4 (dk_at dksX3_why_4 0 rfl rfl)
theorem dX3_why_94 : decode cX3_why 94 = .ok (.iconst 0, 1) := dk_3 (dk_at dksX3_why_4 3 rfl rfl)
theorem dX3_why_95 : decode cX3_why 95 = .ok (.ireturn, 1) := dk_172 (dk_at dksX3_why_4 4 rfl rfl)
abbrev cX3_as : ByteArray := prog_27_method_4_code
def yX3_as : MethodName := ⟨RX3, "as", "(LInchBorders$Times;)LInchBorders$Times;"⟩
def dkwX3_as_4 : List UInt8 := [180, 0, 27, 184, 0, 91, 43, 180, 0, 30, 42, 180, 0, 30, 184, 0, 91, 42, 176]
abbrev dktX3_as_4 : List UInt8 := dkwX3_as_4 ++ []
def dkwX3_as_3 : List UInt8 := [180, 0, 21, 184, 0, 91, 43, 180, 0, 24, 42, 180, 0, 24, 184, 0, 91, 43, 180, 0, 27, 42]
abbrev dktX3_as_3 : List UInt8 := dkwX3_as_3 ++ dktX3_as_4
def dkwX3_as_2 : List UInt8 := [180, 0, 15, 184, 0, 91, 43, 180, 0, 18, 42, 180, 0, 18, 184, 0, 91, 43, 180, 0, 21, 42]
abbrev dktX3_as_2 : List UInt8 := dkwX3_as_2 ++ dktX3_as_3
def dkwX3_as_1 : List UInt8 := [42, 43, 180, 0, 44, 181, 0, 44, 43, 180, 0, 9, 42, 180, 0, 9, 184, 0, 91, 43, 180, 0, 15, 42]
abbrev dktX3_as_1 : List UInt8 := dkwX3_as_1 ++ dktX3_as_2
def dkwX3_as_0 : List UInt8 := [42, 43, 180, 0, 33, 181, 0, 33, 42, 43, 180, 0, 37, 181, 0, 37, 42, 43, 180, 0, 41, 181, 0, 41]
abbrev dktX3_as_0 : List UInt8 := dkwX3_as_0 ++ dktX3_as_1
theorem dksX3_as_0 : cX3_as.data.toList.drop 0 = dktX3_as_0 := by decide +kernel
theorem dksX3_as_1 : cX3_as.data.toList.drop 24 = dktX3_as_1 := dk_seg dksX3_as_0 24 rfl rfl
theorem dksX3_as_2 : cX3_as.data.toList.drop 48 = dktX3_as_2 := dk_seg dksX3_as_1 24 rfl rfl
theorem dksX3_as_3 : cX3_as.data.toList.drop 70 = dktX3_as_3 := dk_seg dksX3_as_2 22 rfl rfl
theorem dksX3_as_4 : cX3_as.data.toList.drop 92 = dktX3_as_4 := dk_seg dksX3_as_3 22 rfl rfl
theorem dX3_as_0 : decode cX3_as 0 = .ok (.aload_n 0, 1) := dk_42 (dk_at dksX3_as_0 0 rfl rfl)
theorem dX3_as_1 : decode cX3_as 1 = .ok (.aload_n 1, 1) := dk_43 (dk_at dksX3_as_0 1 rfl rfl)
theorem dX3_as_2 : decode cX3_as 2 = .ok (.getfield 33, 3) := dk_180 0 33 (dk_at dksX3_as_0 2 rfl rfl)
theorem dX3_as_5 : decode cX3_as 5 = .ok (.putfield 33, 3) := dk_181 0 33 (dk_at dksX3_as_0 5 rfl rfl)
theorem dX3_as_8 : decode cX3_as 8 = .ok (.aload_n 0, 1) := dk_42 (dk_at dksX3_as_0 8 rfl rfl)
theorem dX3_as_9 : decode cX3_as 9 = .ok (.aload_n 1, 1) := dk_43 (dk_at dksX3_as_0 9 rfl rfl)
theorem dX3_as_10 : decode cX3_as 10 = .ok (.getfield 37, 3) := dk_180 0 37 (dk_at dksX3_as_0 10 rfl rfl)
theorem dX3_as_13 : decode cX3_as 13 = .ok (.putfield 37, 3) := dk_181 0 37 (dk_at dksX3_as_0 13 rfl rfl)
theorem dX3_as_16 : decode cX3_as 16 = .ok (.aload_n 0, 1) := dk_42 (dk_at dksX3_as_0 16 rfl rfl)
theorem dX3_as_17 : decode cX3_as 17 = .ok (.aload_n 1, 1) := dk_43 (dk_at dksX3_as_0 17 rfl rfl)
theorem dX3_as_18 : decode cX3_as 18 = .ok (.getfield 41, 3) := dk_180 0 41 (dk_at dksX3_as_0 18 rfl rfl)
theorem dX3_as_21 : decode cX3_as 21 = .ok (.putfield 41, 3) := dk_181 0 41 (dk_at dksX3_as_0 21 rfl rfl)
theorem dX3_as_24 : decode cX3_as 24 = .ok (.aload_n 0, 1) := dk_42 (dk_at dksX3_as_1 0 rfl rfl)
theorem dX3_as_25 : decode cX3_as 25 = .ok (.aload_n 1, 1) := dk_43 (dk_at dksX3_as_1 1 rfl rfl)
theorem dX3_as_26 : decode cX3_as 26 = .ok (.getfield 44, 3) := dk_180 0 44 (dk_at dksX3_as_1 2 rfl rfl)
theorem dX3_as_29 : decode cX3_as 29 = .ok (.putfield 44, 3) := dk_181 0 44 (dk_at dksX3_as_1 5 rfl rfl)
theorem dX3_as_32 : decode cX3_as 32 = .ok (.aload_n 1, 1) := dk_43 (dk_at dksX3_as_1 8 rfl rfl)
theorem dX3_as_33 : decode cX3_as 33 = .ok (.getfield 9, 3) := dk_180 0 9 (dk_at dksX3_as_1 9 rfl rfl)
theorem dX3_as_36 : decode cX3_as 36 = .ok (.aload_n 0, 1) := dk_42 (dk_at dksX3_as_1 12 rfl rfl)
theorem dX3_as_37 : decode cX3_as 37 = .ok (.getfield 9, 3) := dk_180 0 9 (dk_at dksX3_as_1 13 rfl rfl)
theorem dX3_as_40 : decode cX3_as 40 = .ok (.invokestatic 91, 3) := dk_184 0 91 (dk_at dksX3_as_1 16 rfl rfl)
theorem dX3_as_43 : decode cX3_as 43 = .ok (.aload_n 1, 1) := dk_43 (dk_at dksX3_as_1 19 rfl rfl)
theorem dX3_as_44 : decode cX3_as 44 = .ok (.getfield 15, 3) := dk_180 0 15 (dk_at dksX3_as_1 20 rfl rfl)
theorem dX3_as_47 : decode cX3_as 47 = .ok (.aload_n 0, 1) := dk_42 (dk_at dksX3_as_1 23 rfl rfl)
theorem dX3_as_48 : decode cX3_as 48 = .ok (.getfield 15, 3) := dk_180 0 15 (dk_at dksX3_as_2 0 rfl rfl)
theorem dX3_as_51 : decode cX3_as 51 = .ok (.invokestatic 91, 3) := dk_184 0 91 (dk_at dksX3_as_2 3 rfl rfl)
theorem dX3_as_54 : decode cX3_as 54 = .ok (.aload_n 1, 1) := dk_43 (dk_at dksX3_as_2 6 rfl rfl)
theorem dX3_as_55 : decode cX3_as 55 = .ok (.getfield 18, 3) := dk_180 0 18 (dk_at dksX3_as_2 7 rfl rfl)
theorem dX3_as_58 : decode cX3_as 58 = .ok (.aload_n 0, 1) := dk_42 (dk_at dksX3_as_2 10 rfl rfl)
theorem dX3_as_59 : decode cX3_as 59 = .ok (.getfield 18, 3) := dk_180 0 18 (dk_at dksX3_as_2 11 rfl rfl)
theorem dX3_as_62 : decode cX3_as 62 = .ok (.invokestatic 91, 3) := dk_184 0 91 (dk_at dksX3_as_2 14 rfl rfl)
theorem dX3_as_65 : decode cX3_as 65 = .ok (.aload_n 1, 1) := dk_43 (dk_at dksX3_as_2 17 rfl rfl)
theorem dX3_as_66 : decode cX3_as 66 = .ok (.getfield 21, 3) := dk_180 0 21 (dk_at dksX3_as_2 18 rfl rfl)
theorem dX3_as_69 : decode cX3_as 69 = .ok (.aload_n 0, 1) := dk_42 (dk_at dksX3_as_2 21 rfl rfl)
theorem dX3_as_70 : decode cX3_as 70 = .ok (.getfield 21, 3) := dk_180 0 21 (dk_at dksX3_as_3 0 rfl rfl)
theorem dX3_as_73 : decode cX3_as 73 = .ok (.invokestatic 91, 3) := dk_184 0 91 (dk_at dksX3_as_3 3 rfl rfl)
theorem dX3_as_76 : decode cX3_as 76 = .ok (.aload_n 1, 1) := dk_43 (dk_at dksX3_as_3 6 rfl rfl)
theorem dX3_as_77 : decode cX3_as 77 = .ok (.getfield 24, 3) := dk_180 0 24 (dk_at dksX3_as_3 7 rfl rfl)
theorem dX3_as_80 : decode cX3_as 80 = .ok (.aload_n 0, 1) := dk_42 (dk_at dksX3_as_3 10 rfl rfl)
theorem dX3_as_81 : decode cX3_as 81 = .ok (.getfield 24, 3) := dk_180 0 24 (dk_at dksX3_as_3 11 rfl rfl)
theorem dX3_as_84 : decode cX3_as 84 = .ok (.invokestatic 91, 3) := dk_184 0 91 (dk_at dksX3_as_3 14 rfl rfl)
theorem dX3_as_87 : decode cX3_as 87 = .ok (.aload_n 1, 1) := dk_43 (dk_at dksX3_as_3 17 rfl rfl)
theorem dX3_as_88 : decode cX3_as 88 = .ok (.getfield 27, 3) := dk_180 0 27 (dk_at dksX3_as_3 18 rfl rfl)
theorem dX3_as_91 : decode cX3_as 91 = .ok (.aload_n 0, 1) := dk_42 (dk_at dksX3_as_3 21 rfl rfl)
theorem dX3_as_92 : decode cX3_as 92 = .ok (.getfield 27, 3) := dk_180 0 27 (dk_at dksX3_as_4 0 rfl rfl)
theorem dX3_as_95 : decode cX3_as 95 = .ok (.invokestatic 91, 3) := dk_184 0 91 (dk_at dksX3_as_4 3 rfl rfl)
theorem dX3_as_98 : decode cX3_as 98 = .ok (.aload_n 1, 1) := dk_43 (dk_at dksX3_as_4 6 rfl rfl)
theorem dX3_as_99 : decode cX3_as 99 = .ok (.getfield 30, 3) := dk_180 0 30 (dk_at dksX3_as_4 7 rfl rfl)
theorem dX3_as_102 : decode cX3_as 102 = .ok (.aload_n 0, 1) := dk_42 (dk_at dksX3_as_4 10 rfl rfl)
theorem dX3_as_103 : decode cX3_as 103 = .ok (.getfield 30, 3) := dk_180 0 30 (dk_at dksX3_as_4 11 rfl rfl)
theorem dX3_as_106 : decode cX3_as 106 = .ok (.invokestatic 91, 3) := dk_184 0 91 (dk_at dksX3_as_4 14 rfl rfl)
theorem dX3_as_109 : decode cX3_as 109 = .ok (.aload_n 0, 1) := dk_42 (dk_at dksX3_as_4 17 rfl rfl)
theorem dX3_as_110 : decode cX3_as 110 = .ok (.areturn, 1) := dk_176 (dk_at dksX3_as_4 18 rfl rfl)
abbrev cX3_copy : ByteArray := prog_27_method_5_code
def yX3_copy : MethodName := ⟨RX3, "copy", "([I[I)V"⟩
def dkwX3_copy_0 : List UInt8 := [42, 3, 43, 3, 43, 190, 184, 0, 95, 177]
abbrev dktX3_copy_0 : List UInt8 := dkwX3_copy_0 ++ []
theorem dksX3_copy_0 : cX3_copy.data.toList.drop 0 = dktX3_copy_0 := by decide +kernel
theorem dX3_copy_0 : decode cX3_copy 0 = .ok (.aload_n 0, 1) := dk_42 (dk_at dksX3_copy_0 0 rfl rfl)
theorem dX3_copy_1 : decode cX3_copy 1 = .ok (.iconst 0, 1) := dk_3 (dk_at dksX3_copy_0 1 rfl rfl)
theorem dX3_copy_2 : decode cX3_copy 2 = .ok (.aload_n 1, 1) := dk_43 (dk_at dksX3_copy_0 2 rfl rfl)
theorem dX3_copy_3 : decode cX3_copy 3 = .ok (.iconst 0, 1) := dk_3 (dk_at dksX3_copy_0 3 rfl rfl)
theorem dX3_copy_4 : decode cX3_copy 4 = .ok (.aload_n 1, 1) := dk_43 (dk_at dksX3_copy_0 4 rfl rfl)
theorem dX3_copy_5 : decode cX3_copy 5 = .ok (.arraylength, 1) := dk_190 (dk_at dksX3_copy_0 5 rfl rfl)
theorem dX3_copy_6 : decode cX3_copy 6 = .ok (.invokestatic 95, 3) := dk_184 0 95 (dk_at dksX3_copy_0 6 rfl rfl)
theorem dX3_copy_9 : decode cX3_copy 9 = .ok (.return_, 1) := dk_177 (dk_at dksX3_copy_0 9 rfl rfl)
abbrev cX3_cross : ByteArray := prog_27_method_15_code
def yX3_cross : MethodName := ⟨RX3, "cross", "(II)V"⟩
def dkwX3_cross_6 : List UInt8 := [180, 0, 41, 4, 96, 181, 0, 41, 177]
abbrev dktX3_cross_6 : List UInt8 := dkwX3_cross_6 ++ []
def dkwX3_cross_5 : List UInt8 := [182, 0, 126, 96, 79, 42, 180, 0, 18, 27, 28, 79, 42, 180, 0, 30, 27, 92, 46, 4, 96, 79, 42, 89]
abbrev dktX3_cross_5 : List UInt8 := dkwX3_cross_5 ++ dktX3_cross_6
def dkwX3_cross_4 : List UInt8 := [180, 0, 21, 27, 92, 46, 42, 28, 182, 0, 126, 100, 79, 42, 180, 0, 24, 27, 92, 46, 42, 28]
abbrev dktX3_cross_4 : List UInt8 := dkwX3_cross_4 ++ dktX3_cross_5
def dkwX3_cross_3 : List UInt8 := [42, 29, 28, 182, 0, 128, 154, 0, 45, 42, 180, 0, 9, 28, 92, 46, 42, 28, 182, 0, 126, 96, 79, 42]
abbrev dktX3_cross_3 : List UInt8 := dkwX3_cross_3 ++ dktX3_cross_4
def dkwX3_cross_2 : List UInt8 := [180, 0, 21, 27, 92, 46, 21, 4, 96, 79, 42, 180, 0, 27, 27, 92, 46, 21, 4, 96, 79, 167, 0, 54]
abbrev dktX3_cross_2 : List UInt8 := dkwX3_cross_2 ++ dktX3_cross_3
def dkwX3_cross_1 : List UInt8 := [180, 0, 9, 29, 46, 182, 0, 146, 54, 4, 42, 180, 0, 9, 29, 92, 46, 21, 4, 100, 79, 42]
abbrev dktX3_cross_1 : List UInt8 := dkwX3_cross_1 ++ dktX3_cross_2
def dkwX3_cross_0 : List UInt8 := [42, 180, 0, 33, 27, 182, 0, 75, 62, 28, 29, 160, 0, 58, 42, 29, 42, 180, 0, 21, 27, 46, 42]
abbrev dktX3_cross_0 : List UInt8 := dkwX3_cross_0 ++ dktX3_cross_1
theorem dksX3_cross_0 : cX3_cross.data.toList.drop 0 = dktX3_cross_0 := by decide +kernel
theorem dksX3_cross_1 : cX3_cross.data.toList.drop 23 = dktX3_cross_1 := dk_seg dksX3_cross_0 23 rfl rfl
theorem dksX3_cross_2 : cX3_cross.data.toList.drop 45 = dktX3_cross_2 := dk_seg dksX3_cross_1 22 rfl rfl
theorem dksX3_cross_3 : cX3_cross.data.toList.drop 69 = dktX3_cross_3 := dk_seg dksX3_cross_2 24 rfl rfl
theorem dksX3_cross_4 : cX3_cross.data.toList.drop 93 = dktX3_cross_4 := dk_seg dksX3_cross_3 24 rfl rfl
theorem dksX3_cross_5 : cX3_cross.data.toList.drop 115 = dktX3_cross_5 := dk_seg dksX3_cross_4 22 rfl rfl
theorem dksX3_cross_6 : cX3_cross.data.toList.drop 139 = dktX3_cross_6 := dk_seg dksX3_cross_5 24 rfl rfl
theorem dX3_cross_0 : decode cX3_cross 0 = .ok (.aload_n 0, 1) := dk_42 (dk_at dksX3_cross_0 0 rfl rfl)
theorem dX3_cross_1 : decode cX3_cross 1 = .ok (.getfield 33, 3) := dk_180 0 33 (dk_at dksX3_cross_0 1 rfl rfl)
theorem dX3_cross_4 : decode cX3_cross 4 = .ok (.iload_n 1, 1) := dk_27 (dk_at dksX3_cross_0 4 rfl rfl)
theorem dX3_cross_5 : decode cX3_cross 5 = .ok (.invokevirtual 75, 3) := dk_182 0 75 (dk_at dksX3_cross_0 5 rfl rfl)
theorem dX3_cross_8 : decode cX3_cross 8 = .ok (.istore_n 3, 1) := dk_62 (dk_at dksX3_cross_0 8 rfl rfl)
theorem dX3_cross_9 : decode cX3_cross 9 = .ok (.iload_n 2, 1) := dk_28 (dk_at dksX3_cross_0 9 rfl rfl)
theorem dX3_cross_10 : decode cX3_cross 10 = .ok (.iload_n 3, 1) := dk_29 (dk_at dksX3_cross_0 10 rfl rfl)
theorem dX3_cross_11 : decode cX3_cross 11 = .ok (.if_icmp .ne 58, 3) := dk_160 0 58 (dk_at dksX3_cross_0 11 rfl rfl)
theorem dX3_cross_14 : decode cX3_cross 14 = .ok (.aload_n 0, 1) := dk_42 (dk_at dksX3_cross_0 14 rfl rfl)
theorem dX3_cross_15 : decode cX3_cross 15 = .ok (.iload_n 3, 1) := dk_29 (dk_at dksX3_cross_0 15 rfl rfl)
theorem dX3_cross_16 : decode cX3_cross 16 = .ok (.aload_n 0, 1) := dk_42 (dk_at dksX3_cross_0 16 rfl rfl)
theorem dX3_cross_17 : decode cX3_cross 17 = .ok (.getfield 21, 3) := dk_180 0 21 (dk_at dksX3_cross_0 17 rfl rfl)
theorem dX3_cross_20 : decode cX3_cross 20 = .ok (.iload_n 1, 1) := dk_27 (dk_at dksX3_cross_0 20 rfl rfl)
theorem dX3_cross_21 : decode cX3_cross 21 = .ok (.iaload, 1) := dk_46 (dk_at dksX3_cross_0 21 rfl rfl)
theorem dX3_cross_22 : decode cX3_cross 22 = .ok (.aload_n 0, 1) := dk_42 (dk_at dksX3_cross_0 22 rfl rfl)
theorem dX3_cross_23 : decode cX3_cross 23 = .ok (.getfield 9, 3) := dk_180 0 9 (dk_at dksX3_cross_1 0 rfl rfl)
theorem dX3_cross_26 : decode cX3_cross 26 = .ok (.iload_n 3, 1) := dk_29 (dk_at dksX3_cross_1 3 rfl rfl)
theorem dX3_cross_27 : decode cX3_cross 27 = .ok (.iaload, 1) := dk_46 (dk_at dksX3_cross_1 4 rfl rfl)
theorem dX3_cross_28 : decode cX3_cross 28 = .ok (.invokevirtual 146, 3) := dk_182 0 146 (dk_at dksX3_cross_1 5 rfl rfl)
theorem dX3_cross_31 : decode cX3_cross 31 = .ok (.istore 4, 2) := dk_54 4 (dk_at dksX3_cross_1 8 rfl rfl)
theorem dX3_cross_33 : decode cX3_cross 33 = .ok (.aload_n 0, 1) := dk_42 (dk_at dksX3_cross_1 10 rfl rfl)
theorem dX3_cross_34 : decode cX3_cross 34 = .ok (.getfield 9, 3) := dk_180 0 9 (dk_at dksX3_cross_1 11 rfl rfl)
theorem dX3_cross_37 : decode cX3_cross 37 = .ok (.iload_n 3, 1) := dk_29 (dk_at dksX3_cross_1 14 rfl rfl)
theorem dX3_cross_38 : decode cX3_cross 38 = .ok (.dup2, 1) := dk_92 (dk_at dksX3_cross_1 15 rfl rfl)
theorem dX3_cross_39 : decode cX3_cross 39 = .ok (.iaload, 1) := dk_46 (dk_at dksX3_cross_1 16 rfl rfl)
theorem dX3_cross_40 : decode cX3_cross 40 = .ok (.iload 4, 2) := dk_21 4 (dk_at dksX3_cross_1 17 rfl rfl)
theorem dX3_cross_42 : decode cX3_cross 42 = .ok (.isub, 1) := dk_100 (dk_at dksX3_cross_1 19 rfl rfl)
theorem dX3_cross_43 : decode cX3_cross 43 = .ok (.iastore, 1) := dk_79 (dk_at dksX3_cross_1 20 rfl rfl)
theorem dX3_cross_44 : decode cX3_cross 44 = .ok (.aload_n 0, 1) := dk_42 (dk_at dksX3_cross_1 21 rfl rfl)
theorem dX3_cross_45 : decode cX3_cross 45 = .ok (.getfield 21, 3) := dk_180 0 21 (dk_at dksX3_cross_2 0 rfl rfl)
theorem dX3_cross_48 : decode cX3_cross 48 = .ok (.iload_n 1, 1) := dk_27 (dk_at dksX3_cross_2 3 rfl rfl)
theorem dX3_cross_49 : decode cX3_cross 49 = .ok (.dup2, 1) := dk_92 (dk_at dksX3_cross_2 4 rfl rfl)
theorem dX3_cross_50 : decode cX3_cross 50 = .ok (.iaload, 1) := dk_46 (dk_at dksX3_cross_2 5 rfl rfl)
theorem dX3_cross_51 : decode cX3_cross 51 = .ok (.iload 4, 2) := dk_21 4 (dk_at dksX3_cross_2 6 rfl rfl)
theorem dX3_cross_53 : decode cX3_cross 53 = .ok (.iadd, 1) := dk_96 (dk_at dksX3_cross_2 8 rfl rfl)
theorem dX3_cross_54 : decode cX3_cross 54 = .ok (.iastore, 1) := dk_79 (dk_at dksX3_cross_2 9 rfl rfl)
theorem dX3_cross_55 : decode cX3_cross 55 = .ok (.aload_n 0, 1) := dk_42 (dk_at dksX3_cross_2 10 rfl rfl)
theorem dX3_cross_56 : decode cX3_cross 56 = .ok (.getfield 27, 3) := dk_180 0 27 (dk_at dksX3_cross_2 11 rfl rfl)
theorem dX3_cross_59 : decode cX3_cross 59 = .ok (.iload_n 1, 1) := dk_27 (dk_at dksX3_cross_2 14 rfl rfl)
theorem dX3_cross_60 : decode cX3_cross 60 = .ok (.dup2, 1) := dk_92 (dk_at dksX3_cross_2 15 rfl rfl)
theorem dX3_cross_61 : decode cX3_cross 61 = .ok (.iaload, 1) := dk_46 (dk_at dksX3_cross_2 16 rfl rfl)
theorem dX3_cross_62 : decode cX3_cross 62 = .ok (.iload 4, 2) := dk_21 4 (dk_at dksX3_cross_2 17 rfl rfl)
theorem dX3_cross_64 : decode cX3_cross 64 = .ok (.iadd, 1) := dk_96 (dk_at dksX3_cross_2 19 rfl rfl)
theorem dX3_cross_65 : decode cX3_cross 65 = .ok (.iastore, 1) := dk_79 (dk_at dksX3_cross_2 20 rfl rfl)
theorem dX3_cross_66 : decode cX3_cross 66 = .ok (.goto 54, 3) := dk_167 0 54 (dk_at dksX3_cross_2 21 rfl rfl)
theorem dX3_cross_69 : decode cX3_cross 69 = .ok (.aload_n 0, 1) := dk_42 (dk_at dksX3_cross_3 0 rfl rfl)
theorem dX3_cross_70 : decode cX3_cross 70 = .ok (.iload_n 3, 1) := dk_29 (dk_at dksX3_cross_3 1 rfl rfl)
theorem dX3_cross_71 : decode cX3_cross 71 = .ok (.iload_n 2, 1) := dk_28 (dk_at dksX3_cross_3 2 rfl rfl)
theorem dX3_cross_72 : decode cX3_cross 72 = .ok (.invokevirtual 128, 3) := dk_182 0 128 (dk_at dksX3_cross_3 3 rfl rfl)
theorem dX3_cross_75 : decode cX3_cross 75 = .ok (.ifCond .ne 45, 3) := dk_154 0 45 (dk_at dksX3_cross_3 6 rfl rfl)
theorem dX3_cross_78 : decode cX3_cross 78 = .ok (.aload_n 0, 1) := dk_42 (dk_at dksX3_cross_3 9 rfl rfl)
theorem dX3_cross_79 : decode cX3_cross 79 = .ok (.getfield 9, 3) := dk_180 0 9 (dk_at dksX3_cross_3 10 rfl rfl)
theorem dX3_cross_82 : decode cX3_cross 82 = .ok (.iload_n 2, 1) := dk_28 (dk_at dksX3_cross_3 13 rfl rfl)
theorem dX3_cross_83 : decode cX3_cross 83 = .ok (.dup2, 1) := dk_92 (dk_at dksX3_cross_3 14 rfl rfl)
theorem dX3_cross_84 : decode cX3_cross 84 = .ok (.iaload, 1) := dk_46 (dk_at dksX3_cross_3 15 rfl rfl)
theorem dX3_cross_85 : decode cX3_cross 85 = .ok (.aload_n 0, 1) := dk_42 (dk_at dksX3_cross_3 16 rfl rfl)
theorem dX3_cross_86 : decode cX3_cross 86 = .ok (.iload_n 2, 1) := dk_28 (dk_at dksX3_cross_3 17 rfl rfl)
theorem dX3_cross_87 : decode cX3_cross 87 = .ok (.invokevirtual 126, 3) := dk_182 0 126 (dk_at dksX3_cross_3 18 rfl rfl)
theorem dX3_cross_90 : decode cX3_cross 90 = .ok (.iadd, 1) := dk_96 (dk_at dksX3_cross_3 21 rfl rfl)
theorem dX3_cross_91 : decode cX3_cross 91 = .ok (.iastore, 1) := dk_79 (dk_at dksX3_cross_3 22 rfl rfl)
theorem dX3_cross_92 : decode cX3_cross 92 = .ok (.aload_n 0, 1) := dk_42 (dk_at dksX3_cross_3 23 rfl rfl)
theorem dX3_cross_93 : decode cX3_cross 93 = .ok (.getfield 21, 3) := dk_180 0 21 (dk_at dksX3_cross_4 0 rfl rfl)
theorem dX3_cross_96 : decode cX3_cross 96 = .ok (.iload_n 1, 1) := dk_27 (dk_at dksX3_cross_4 3 rfl rfl)
theorem dX3_cross_97 : decode cX3_cross 97 = .ok (.dup2, 1) := dk_92 (dk_at dksX3_cross_4 4 rfl rfl)
theorem dX3_cross_98 : decode cX3_cross 98 = .ok (.iaload, 1) := dk_46 (dk_at dksX3_cross_4 5 rfl rfl)
theorem dX3_cross_99 : decode cX3_cross 99 = .ok (.aload_n 0, 1) := dk_42 (dk_at dksX3_cross_4 6 rfl rfl)
theorem dX3_cross_100 : decode cX3_cross 100 = .ok (.iload_n 2, 1) := dk_28 (dk_at dksX3_cross_4 7 rfl rfl)
theorem dX3_cross_101 : decode cX3_cross 101 = .ok (.invokevirtual 126, 3) := dk_182 0 126 (dk_at dksX3_cross_4 8 rfl rfl)
theorem dX3_cross_104 : decode cX3_cross 104 = .ok (.isub, 1) := dk_100 (dk_at dksX3_cross_4 11 rfl rfl)
theorem dX3_cross_105 : decode cX3_cross 105 = .ok (.iastore, 1) := dk_79 (dk_at dksX3_cross_4 12 rfl rfl)
theorem dX3_cross_106 : decode cX3_cross 106 = .ok (.aload_n 0, 1) := dk_42 (dk_at dksX3_cross_4 13 rfl rfl)
theorem dX3_cross_107 : decode cX3_cross 107 = .ok (.getfield 24, 3) := dk_180 0 24 (dk_at dksX3_cross_4 14 rfl rfl)
theorem dX3_cross_110 : decode cX3_cross 110 = .ok (.iload_n 1, 1) := dk_27 (dk_at dksX3_cross_4 17 rfl rfl)
theorem dX3_cross_111 : decode cX3_cross 111 = .ok (.dup2, 1) := dk_92 (dk_at dksX3_cross_4 18 rfl rfl)
theorem dX3_cross_112 : decode cX3_cross 112 = .ok (.iaload, 1) := dk_46 (dk_at dksX3_cross_4 19 rfl rfl)
theorem dX3_cross_113 : decode cX3_cross 113 = .ok (.aload_n 0, 1) := dk_42 (dk_at dksX3_cross_4 20 rfl rfl)
theorem dX3_cross_114 : decode cX3_cross 114 = .ok (.iload_n 2, 1) := dk_28 (dk_at dksX3_cross_4 21 rfl rfl)
theorem dX3_cross_115 : decode cX3_cross 115 = .ok (.invokevirtual 126, 3) := dk_182 0 126 (dk_at dksX3_cross_5 0 rfl rfl)
theorem dX3_cross_118 : decode cX3_cross 118 = .ok (.iadd, 1) := dk_96 (dk_at dksX3_cross_5 3 rfl rfl)
theorem dX3_cross_119 : decode cX3_cross 119 = .ok (.iastore, 1) := dk_79 (dk_at dksX3_cross_5 4 rfl rfl)
theorem dX3_cross_120 : decode cX3_cross 120 = .ok (.aload_n 0, 1) := dk_42 (dk_at dksX3_cross_5 5 rfl rfl)
theorem dX3_cross_121 : decode cX3_cross 121 = .ok (.getfield 18, 3) := dk_180 0 18 (dk_at dksX3_cross_5 6 rfl rfl)
theorem dX3_cross_124 : decode cX3_cross 124 = .ok (.iload_n 1, 1) := dk_27 (dk_at dksX3_cross_5 9 rfl rfl)
theorem dX3_cross_125 : decode cX3_cross 125 = .ok (.iload_n 2, 1) := dk_28 (dk_at dksX3_cross_5 10 rfl rfl)
theorem dX3_cross_126 : decode cX3_cross 126 = .ok (.iastore, 1) := dk_79 (dk_at dksX3_cross_5 11 rfl rfl)
theorem dX3_cross_127 : decode cX3_cross 127 = .ok (.aload_n 0, 1) := dk_42 (dk_at dksX3_cross_5 12 rfl rfl)
theorem dX3_cross_128 : decode cX3_cross 128 = .ok (.getfield 30, 3) := dk_180 0 30 (dk_at dksX3_cross_5 13 rfl rfl)
theorem dX3_cross_131 : decode cX3_cross 131 = .ok (.iload_n 1, 1) := dk_27 (dk_at dksX3_cross_5 16 rfl rfl)
theorem dX3_cross_132 : decode cX3_cross 132 = .ok (.dup2, 1) := dk_92 (dk_at dksX3_cross_5 17 rfl rfl)
theorem dX3_cross_133 : decode cX3_cross 133 = .ok (.iaload, 1) := dk_46 (dk_at dksX3_cross_5 18 rfl rfl)
theorem dX3_cross_134 : decode cX3_cross 134 = .ok (.iconst 1, 1) := dk_4 (dk_at dksX3_cross_5 19 rfl rfl)
theorem dX3_cross_135 : decode cX3_cross 135 = .ok (.iadd, 1) := dk_96 (dk_at dksX3_cross_5 20 rfl rfl)
theorem dX3_cross_136 : decode cX3_cross 136 = .ok (.iastore, 1) := dk_79 (dk_at dksX3_cross_5 21 rfl rfl)
theorem dX3_cross_137 : decode cX3_cross 137 = .ok (.aload_n 0, 1) := dk_42 (dk_at dksX3_cross_5 22 rfl rfl)
theorem dX3_cross_138 : decode cX3_cross 138 = .ok (.dup, 1) := dk_89 (dk_at dksX3_cross_5 23 rfl rfl)
theorem dX3_cross_139 : decode cX3_cross 139 = .ok (.getfield 41, 3) := dk_180 0 41 (dk_at dksX3_cross_6 0 rfl rfl)
theorem dX3_cross_142 : decode cX3_cross 142 = .ok (.iconst 1, 1) := dk_4 (dk_at dksX3_cross_6 3 rfl rfl)
theorem dX3_cross_143 : decode cX3_cross 143 = .ok (.iadd, 1) := dk_96 (dk_at dksX3_cross_6 4 rfl rfl)
theorem dX3_cross_144 : decode cX3_cross 144 = .ok (.putfield 41, 3) := dk_181 0 41 (dk_at dksX3_cross_6 5 rfl rfl)
theorem dX3_cross_147 : decode cX3_cross 147 = .ok (.return_, 1) := dk_177 (dk_at dksX3_cross_6 8 rfl rfl)
abbrev cX3_gives : ByteArray := prog_27_method_14_code
def yX3_gives : MethodName := ⟨RX3, "gives", "(III)I"⟩
def dkwX3_gives_1 : List UInt8 := [184, 0, 141, 184, 0, 141, 172]
abbrev dktX3_gives_1 : List UInt8 := dkwX3_gives_1 ++ []
def dkwX3_gives_0 : List UInt8 := [42, 180, 0, 33, 180, 0, 55, 27, 182, 0, 60, 192, 0, 66, 180, 0, 138, 29, 17, 0, 240, 28, 100]
abbrev dktX3_gives_0 : List UInt8 := dkwX3_gives_0 ++ dktX3_gives_1
theorem dksX3_gives_0 : cX3_gives.data.toList.drop 0 = dktX3_gives_0 := by decide +kernel
theorem dksX3_gives_1 : cX3_gives.data.toList.drop 23 = dktX3_gives_1 := dk_seg dksX3_gives_0 23 rfl rfl
theorem dX3_gives_0 : decode cX3_gives 0 = .ok (.aload_n 0, 1) := dk_42 (dk_at dksX3_gives_0 0 rfl rfl)
theorem dX3_gives_1 : decode cX3_gives 1 = .ok (.getfield 33, 3) := dk_180 0 33 (dk_at dksX3_gives_0 1 rfl rfl)
theorem dX3_gives_4 : decode cX3_gives 4 = .ok (.getfield 55, 3) := dk_180 0 55 (dk_at dksX3_gives_0 4 rfl rfl)
theorem dX3_gives_7 : decode cX3_gives 7 = .ok (.iload_n 1, 1) := dk_27 (dk_at dksX3_gives_0 7 rfl rfl)
theorem dX3_gives_8 : decode cX3_gives 8 = .ok (.invokevirtual 60, 3) := dk_182 0 60 (dk_at dksX3_gives_0 8 rfl rfl)
theorem dX3_gives_11 : decode cX3_gives 11 = .ok (.checkcast 66, 3) := dk_192 0 66 (dk_at dksX3_gives_0 11 rfl rfl)
theorem dX3_gives_14 : decode cX3_gives 14 = .ok (.getfield 138, 3) := dk_180 0 138 (dk_at dksX3_gives_0 14 rfl rfl)
theorem dX3_gives_17 : decode cX3_gives 17 = .ok (.iload_n 3, 1) := dk_29 (dk_at dksX3_gives_0 17 rfl rfl)
theorem dX3_gives_18 : decode cX3_gives 18 = .ok (.sipush 240, 3) := dk_17 0 240 (dk_at dksX3_gives_0 18 rfl rfl)
theorem dX3_gives_21 : decode cX3_gives 21 = .ok (.iload_n 2, 1) := dk_28 (dk_at dksX3_gives_0 21 rfl rfl)
theorem dX3_gives_22 : decode cX3_gives 22 = .ok (.isub, 1) := dk_100 (dk_at dksX3_gives_0 22 rfl rfl)
theorem dX3_gives_23 : decode cX3_gives 23 = .ok (.invokestatic 141, 3) := dk_184 0 141 (dk_at dksX3_gives_1 0 rfl rfl)
theorem dX3_gives_26 : decode cX3_gives 26 = .ok (.invokestatic 141, 3) := dk_184 0 141 (dk_at dksX3_gives_1 3 rfl rfl)
theorem dX3_gives_29 : decode cX3_gives 29 = .ok (.ireturn, 1) := dk_172 (dk_at dksX3_gives_1 6 rfl rfl)
abbrev cX3_passAll : ByteArray := prog_27_method_19_code
def yX3_passAll : MethodName := ⟨RX3, "passAll", "(I)I"⟩
def dkwX3_passAll_1 : List UInt8 := [28, 172]
abbrev dktX3_passAll_1 : List UInt8 := dkwX3_passAll_1 ++ []
def dkwX3_passAll_0 : List UInt8 := [3, 61, 28, 27, 162, 0, 20, 42, 182, 0, 154, 154, 0, 13, 42, 182, 0, 158, 132, 2, 1, 167, 255, 237]
abbrev dktX3_passAll_0 : List UInt8 := dkwX3_passAll_0 ++ dktX3_passAll_1
theorem dksX3_passAll_0 : cX3_passAll.data.toList.drop 0 = dktX3_passAll_0 := by decide +kernel
theorem dksX3_passAll_1 : cX3_passAll.data.toList.drop 24 = dktX3_passAll_1 := dk_seg dksX3_passAll_0 24 rfl rfl
theorem dX3_passAll_0 : decode cX3_passAll 0 = .ok (.iconst 0, 1) := dk_3 (dk_at dksX3_passAll_0 0 rfl rfl)
theorem dX3_passAll_1 : decode cX3_passAll 1 = .ok (.istore_n 2, 1) := dk_61 (dk_at dksX3_passAll_0 1 rfl rfl)
theorem dX3_passAll_2 : decode cX3_passAll 2 = .ok (.iload_n 2, 1) := dk_28 (dk_at dksX3_passAll_0 2 rfl rfl)
theorem dX3_passAll_3 : decode cX3_passAll 3 = .ok (.iload_n 1, 1) := dk_27 (dk_at dksX3_passAll_0 3 rfl rfl)
theorem dX3_passAll_4 : decode cX3_passAll 4 = .ok (.if_icmp .ge 20, 3) := dk_162 0 20 (dk_at dksX3_passAll_0 4 rfl rfl)
theorem dX3_passAll_7 : decode cX3_passAll 7 = .ok (.aload_n 0, 1) := dk_42 (dk_at dksX3_passAll_0 7 rfl rfl)
theorem dX3_passAll_8 : decode cX3_passAll 8 = .ok (.invokevirtual 154, 3) := dk_182 0 154 (dk_at dksX3_passAll_0 8 rfl rfl)
theorem dX3_passAll_11 : decode cX3_passAll 11 = .ok (.ifCond .ne 13, 3) := dk_154 0 13 (dk_at dksX3_passAll_0 11 rfl rfl)
theorem dX3_passAll_14 : decode cX3_passAll 14 = .ok (.aload_n 0, 1) := dk_42 (dk_at dksX3_passAll_0 14 rfl rfl)
theorem dX3_passAll_15 : decode cX3_passAll 15 = .ok (.invokevirtual 158, 3) := dk_182 0 158 (dk_at dksX3_passAll_0 15 rfl rfl)
theorem dX3_passAll_18 : decode cX3_passAll 18 = .ok (.iinc 2 1, 3) := dk_132 2 1 (dk_at dksX3_passAll_0 18 rfl rfl)
theorem dX3_passAll_21 : decode cX3_passAll 21 = .ok (.goto (-19), 3) := dk_167 255 237 (dk_at dksX3_passAll_0 21 rfl rfl)
theorem dX3_passAll_24 : decode cX3_passAll 24 = .ok (.iload_n 2, 1) := dk_28 (dk_at dksX3_passAll_1 0 rfl rfl)
theorem dX3_passAll_25 : decode cX3_passAll 25 = .ok (.ireturn, 1) := dk_172 (dk_at dksX3_passAll_1 1 rfl rfl)
abbrev cX3_isOver : ByteArray := prog_27_method_6_code
def yX3_isOver : MethodName := ⟨RX3, "isOver", "()Z"⟩
def dkwX3_isOver_0 : List UInt8 := [42, 180, 0, 37, 17, 1, 144, 160, 0, 7, 4, 167, 0, 4, 3, 172]
abbrev dktX3_isOver_0 : List UInt8 := dkwX3_isOver_0 ++ []
theorem dksX3_isOver_0 : cX3_isOver.data.toList.drop 0 = dktX3_isOver_0 := by decide +kernel
theorem dX3_isOver_0 : decode cX3_isOver 0 = .ok (.aload_n 0, 1) := dk_42 (dk_at dksX3_isOver_0 0 rfl rfl)
theorem dX3_isOver_1 : decode cX3_isOver 1 = .ok (.getfield 37, 3) := dk_180 0 37 (dk_at dksX3_isOver_0 1 rfl rfl)
theorem dX3_isOver_4 : decode cX3_isOver 4 = .ok (.sipush 400, 3) := dk_17 1 144 (dk_at dksX3_isOver_0 4 rfl rfl)
theorem dX3_isOver_7 : decode cX3_isOver 7 = .ok (.if_icmp .ne 7, 3) := dk_160 0 7 (dk_at dksX3_isOver_0 7 rfl rfl)
theorem dX3_isOver_10 : decode cX3_isOver 10 = .ok (.iconst 1, 1) := dk_4 (dk_at dksX3_isOver_0 10 rfl rfl)
theorem dX3_isOver_11 : decode cX3_isOver 11 = .ok (.goto 4, 3) := dk_167 0 4 (dk_at dksX3_isOver_0 11 rfl rfl)
theorem dX3_isOver_14 : decode cX3_isOver 14 = .ok (.iconst 0, 1) := dk_3 (dk_at dksX3_isOver_0 14 rfl rfl)
theorem dX3_isOver_15 : decode cX3_isOver 15 = .ok (.ireturn, 1) := dk_172 (dk_at dksX3_isOver_0 15 rfl rfl)
abbrev cX3_pass : ByteArray := prog_27_method_18_code
def yX3_pass : MethodName := ⟨RX3, "pass", "()V"⟩
def dkwX3_pass_2 : List UInt8 := [132, 1, 1, 167, 255, 209, 42, 89, 180, 0, 37, 4, 96, 181, 0, 37, 177]
abbrev dktX3_pass_2 : List UInt8 := dkwX3_pass_2 ++ []
def dkwX3_pass_1 : List UInt8 := [180, 0, 9, 42, 180, 0, 18, 27, 46, 92, 46, 4, 100, 79, 42, 180, 0, 21, 27, 92, 46, 4, 96, 79]
abbrev dktX3_pass_1 : List UInt8 := dkwX3_pass_1 ++ dktX3_pass_2
def dkwX3_pass_0 : List UInt8 := [3, 60, 27, 42, 182, 0, 72, 162, 0, 45, 42, 27, 182, 0, 150, 154, 0, 6, 167, 0, 28, 42]
abbrev dktX3_pass_0 : List UInt8 := dkwX3_pass_0 ++ dktX3_pass_1
theorem dksX3_pass_0 : cX3_pass.data.toList.drop 0 = dktX3_pass_0 := by decide +kernel
theorem dksX3_pass_1 : cX3_pass.data.toList.drop 22 = dktX3_pass_1 := dk_seg dksX3_pass_0 22 rfl rfl
theorem dksX3_pass_2 : cX3_pass.data.toList.drop 46 = dktX3_pass_2 := dk_seg dksX3_pass_1 24 rfl rfl
theorem dX3_pass_0 : decode cX3_pass 0 = .ok (.iconst 0, 1) := dk_3 (dk_at dksX3_pass_0 0 rfl rfl)
theorem dX3_pass_1 : decode cX3_pass 1 = .ok (.istore_n 1, 1) := dk_60 (dk_at dksX3_pass_0 1 rfl rfl)
theorem dX3_pass_2 : decode cX3_pass 2 = .ok (.iload_n 1, 1) := dk_27 (dk_at dksX3_pass_0 2 rfl rfl)
theorem dX3_pass_3 : decode cX3_pass 3 = .ok (.aload_n 0, 1) := dk_42 (dk_at dksX3_pass_0 3 rfl rfl)
theorem dX3_pass_4 : decode cX3_pass 4 = .ok (.invokevirtual 72, 3) := dk_182 0 72 (dk_at dksX3_pass_0 4 rfl rfl)
theorem dX3_pass_7 : decode cX3_pass 7 = .ok (.if_icmp .ge 45, 3) := dk_162 0 45 (dk_at dksX3_pass_0 7 rfl rfl)
theorem dX3_pass_10 : decode cX3_pass 10 = .ok (.aload_n 0, 1) := dk_42 (dk_at dksX3_pass_0 10 rfl rfl)
theorem dX3_pass_11 : decode cX3_pass 11 = .ok (.iload_n 1, 1) := dk_27 (dk_at dksX3_pass_0 11 rfl rfl)
theorem dX3_pass_12 : decode cX3_pass 12 = .ok (.invokevirtual 150, 3) := dk_182 0 150 (dk_at dksX3_pass_0 12 rfl rfl)
theorem dX3_pass_15 : decode cX3_pass 15 = .ok (.ifCond .ne 6, 3) := dk_154 0 6 (dk_at dksX3_pass_0 15 rfl rfl)
theorem dX3_pass_18 : decode cX3_pass 18 = .ok (.goto 28, 3) := dk_167 0 28 (dk_at dksX3_pass_0 18 rfl rfl)
theorem dX3_pass_21 : decode cX3_pass 21 = .ok (.aload_n 0, 1) := dk_42 (dk_at dksX3_pass_0 21 rfl rfl)
theorem dX3_pass_22 : decode cX3_pass 22 = .ok (.getfield 9, 3) := dk_180 0 9 (dk_at dksX3_pass_1 0 rfl rfl)
theorem dX3_pass_25 : decode cX3_pass 25 = .ok (.aload_n 0, 1) := dk_42 (dk_at dksX3_pass_1 3 rfl rfl)
theorem dX3_pass_26 : decode cX3_pass 26 = .ok (.getfield 18, 3) := dk_180 0 18 (dk_at dksX3_pass_1 4 rfl rfl)
theorem dX3_pass_29 : decode cX3_pass 29 = .ok (.iload_n 1, 1) := dk_27 (dk_at dksX3_pass_1 7 rfl rfl)
theorem dX3_pass_30 : decode cX3_pass 30 = .ok (.iaload, 1) := dk_46 (dk_at dksX3_pass_1 8 rfl rfl)
theorem dX3_pass_31 : decode cX3_pass 31 = .ok (.dup2, 1) := dk_92 (dk_at dksX3_pass_1 9 rfl rfl)
theorem dX3_pass_32 : decode cX3_pass 32 = .ok (.iaload, 1) := dk_46 (dk_at dksX3_pass_1 10 rfl rfl)
theorem dX3_pass_33 : decode cX3_pass 33 = .ok (.iconst 1, 1) := dk_4 (dk_at dksX3_pass_1 11 rfl rfl)
theorem dX3_pass_34 : decode cX3_pass 34 = .ok (.isub, 1) := dk_100 (dk_at dksX3_pass_1 12 rfl rfl)
theorem dX3_pass_35 : decode cX3_pass 35 = .ok (.iastore, 1) := dk_79 (dk_at dksX3_pass_1 13 rfl rfl)
theorem dX3_pass_36 : decode cX3_pass 36 = .ok (.aload_n 0, 1) := dk_42 (dk_at dksX3_pass_1 14 rfl rfl)
theorem dX3_pass_37 : decode cX3_pass 37 = .ok (.getfield 21, 3) := dk_180 0 21 (dk_at dksX3_pass_1 15 rfl rfl)
theorem dX3_pass_40 : decode cX3_pass 40 = .ok (.iload_n 1, 1) := dk_27 (dk_at dksX3_pass_1 18 rfl rfl)
theorem dX3_pass_41 : decode cX3_pass 41 = .ok (.dup2, 1) := dk_92 (dk_at dksX3_pass_1 19 rfl rfl)
theorem dX3_pass_42 : decode cX3_pass 42 = .ok (.iaload, 1) := dk_46 (dk_at dksX3_pass_1 20 rfl rfl)
theorem dX3_pass_43 : decode cX3_pass 43 = .ok (.iconst 1, 1) := dk_4 (dk_at dksX3_pass_1 21 rfl rfl)
theorem dX3_pass_44 : decode cX3_pass 44 = .ok (.iadd, 1) := dk_96 (dk_at dksX3_pass_1 22 rfl rfl)
theorem dX3_pass_45 : decode cX3_pass 45 = .ok (.iastore, 1) := dk_79 (dk_at dksX3_pass_1 23 rfl rfl)
theorem dX3_pass_46 : decode cX3_pass 46 = .ok (.iinc 1 1, 3) := dk_132 1 1 (dk_at dksX3_pass_2 0 rfl rfl)
theorem dX3_pass_49 : decode cX3_pass 49 = .ok (.goto (-47), 3) := dk_167 255 209 (dk_at dksX3_pass_2 3 rfl rfl)
theorem dX3_pass_52 : decode cX3_pass 52 = .ok (.aload_n 0, 1) := dk_42 (dk_at dksX3_pass_2 6 rfl rfl)
theorem dX3_pass_53 : decode cX3_pass 53 = .ok (.dup, 1) := dk_89 (dk_at dksX3_pass_2 7 rfl rfl)
theorem dX3_pass_54 : decode cX3_pass 54 = .ok (.getfield 37, 3) := dk_180 0 37 (dk_at dksX3_pass_2 8 rfl rfl)
theorem dX3_pass_57 : decode cX3_pass 57 = .ok (.iconst 1, 1) := dk_4 (dk_at dksX3_pass_2 11 rfl rfl)
theorem dX3_pass_58 : decode cX3_pass 58 = .ok (.iadd, 1) := dk_96 (dk_at dksX3_pass_2 12 rfl rfl)
theorem dX3_pass_59 : decode cX3_pass 59 = .ok (.putfield 37, 3) := dk_181 0 37 (dk_at dksX3_pass_2 13 rfl rfl)
theorem dX3_pass_62 : decode cX3_pass 62 = .ok (.return_, 1) := dk_177 (dk_at dksX3_pass_2 16 rfl rfl)
abbrev cX3_grows : ByteArray := prog_27_method_16_code
def yX3_grows : MethodName := ⟨RX3, "grows", "(I)Z"⟩
def dkwX3_grows_2 : List UInt8 := [3, 172]
abbrev dktX3_grows_2 : List UInt8 := dkwX3_grows_2 ++ []
def dkwX3_grows_1 : List UInt8 := [17, 0, 240, 162, 0, 21, 42, 180, 0, 9, 42, 180, 0, 18, 27, 46, 46, 158, 0, 7, 4, 167, 0, 4]
abbrev dktX3_grows_1 : List UInt8 := dkwX3_grows_1 ++ dktX3_grows_2
def dkwX3_grows_0 : List UInt8 := [42, 180, 0, 18, 27, 46, 42, 180, 0, 33, 27, 182, 0, 75, 160, 0, 33, 42, 180, 0, 21, 27, 46]
abbrev dktX3_grows_0 : List UInt8 := dkwX3_grows_0 ++ dktX3_grows_1
theorem dksX3_grows_0 : cX3_grows.data.toList.drop 0 = dktX3_grows_0 := by decide +kernel
theorem dksX3_grows_1 : cX3_grows.data.toList.drop 23 = dktX3_grows_1 := dk_seg dksX3_grows_0 23 rfl rfl
theorem dksX3_grows_2 : cX3_grows.data.toList.drop 47 = dktX3_grows_2 := dk_seg dksX3_grows_1 24 rfl rfl
theorem dX3_grows_0 : decode cX3_grows 0 = .ok (.aload_n 0, 1) := dk_42 (dk_at dksX3_grows_0 0 rfl rfl)
theorem dX3_grows_1 : decode cX3_grows 1 = .ok (.getfield 18, 3) := dk_180 0 18 (dk_at dksX3_grows_0 1 rfl rfl)
theorem dX3_grows_4 : decode cX3_grows 4 = .ok (.iload_n 1, 1) := dk_27 (dk_at dksX3_grows_0 4 rfl rfl)
theorem dX3_grows_5 : decode cX3_grows 5 = .ok (.iaload, 1) := dk_46 (dk_at dksX3_grows_0 5 rfl rfl)
theorem dX3_grows_6 : decode cX3_grows 6 = .ok (.aload_n 0, 1) := dk_42 (dk_at dksX3_grows_0 6 rfl rfl)
theorem dX3_grows_7 : decode cX3_grows 7 = .ok (.getfield 33, 3) := dk_180 0 33 (dk_at dksX3_grows_0 7 rfl rfl)
theorem dX3_grows_10 : decode cX3_grows 10 = .ok (.iload_n 1, 1) := dk_27 (dk_at dksX3_grows_0 10 rfl rfl)
theorem dX3_grows_11 : decode cX3_grows 11 = .ok (.invokevirtual 75, 3) := dk_182 0 75 (dk_at dksX3_grows_0 11 rfl rfl)
theorem dX3_grows_14 : decode cX3_grows 14 = .ok (.if_icmp .ne 33, 3) := dk_160 0 33 (dk_at dksX3_grows_0 14 rfl rfl)
theorem dX3_grows_17 : decode cX3_grows 17 = .ok (.aload_n 0, 1) := dk_42 (dk_at dksX3_grows_0 17 rfl rfl)
theorem dX3_grows_18 : decode cX3_grows 18 = .ok (.getfield 21, 3) := dk_180 0 21 (dk_at dksX3_grows_0 18 rfl rfl)
theorem dX3_grows_21 : decode cX3_grows 21 = .ok (.iload_n 1, 1) := dk_27 (dk_at dksX3_grows_0 21 rfl rfl)
theorem dX3_grows_22 : decode cX3_grows 22 = .ok (.iaload, 1) := dk_46 (dk_at dksX3_grows_0 22 rfl rfl)
theorem dX3_grows_23 : decode cX3_grows 23 = .ok (.sipush 240, 3) := dk_17 0 240 (dk_at dksX3_grows_1 0 rfl rfl)
theorem dX3_grows_26 : decode cX3_grows 26 = .ok (.if_icmp .ge 21, 3) := dk_162 0 21 (dk_at dksX3_grows_1 3 rfl rfl)
theorem dX3_grows_29 : decode cX3_grows 29 = .ok (.aload_n 0, 1) := dk_42 (dk_at dksX3_grows_1 6 rfl rfl)
theorem dX3_grows_30 : decode cX3_grows 30 = .ok (.getfield 9, 3) := dk_180 0 9 (dk_at dksX3_grows_1 7 rfl rfl)
theorem dX3_grows_33 : decode cX3_grows 33 = .ok (.aload_n 0, 1) := dk_42 (dk_at dksX3_grows_1 10 rfl rfl)
theorem dX3_grows_34 : decode cX3_grows 34 = .ok (.getfield 18, 3) := dk_180 0 18 (dk_at dksX3_grows_1 11 rfl rfl)
theorem dX3_grows_37 : decode cX3_grows 37 = .ok (.iload_n 1, 1) := dk_27 (dk_at dksX3_grows_1 14 rfl rfl)
theorem dX3_grows_38 : decode cX3_grows 38 = .ok (.iaload, 1) := dk_46 (dk_at dksX3_grows_1 15 rfl rfl)
theorem dX3_grows_39 : decode cX3_grows 39 = .ok (.iaload, 1) := dk_46 (dk_at dksX3_grows_1 16 rfl rfl)
theorem dX3_grows_40 : decode cX3_grows 40 = .ok (.ifCond .le 7, 3) := dk_158 0 7 (dk_at dksX3_grows_1 17 rfl rfl)
theorem dX3_grows_43 : decode cX3_grows 43 = .ok (.iconst 1, 1) := dk_4 (dk_at dksX3_grows_1 20 rfl rfl)
theorem dX3_grows_44 : decode cX3_grows 44 = .ok (.goto 4, 3) := dk_167 0 4 (dk_at dksX3_grows_1 21 rfl rfl)
theorem dX3_grows_47 : decode cX3_grows 47 = .ok (.iconst 0, 1) := dk_3 (dk_at dksX3_grows_2 0 rfl rfl)
theorem dX3_grows_48 : decode cX3_grows 48 = .ok (.ireturn, 1) := dk_172 (dk_at dksX3_grows_2 1 rfl rfl)
abbrev cX3_anyGrows : ByteArray := prog_27_method_17_code
def yX3_anyGrows : MethodName := ⟨RX3, "anyGrows", "()Z"⟩
def dkwX3_anyGrows_1 : List UInt8 := [167, 255, 235, 3, 172]
abbrev dktX3_anyGrows_1 : List UInt8 := dkwX3_anyGrows_1 ++ []
def dkwX3_anyGrows_0 : List UInt8 := [3, 60, 27, 42, 182, 0, 72, 162, 0, 19, 42, 27, 182, 0, 150, 153, 0, 5, 4, 172, 132, 1, 1]
abbrev dktX3_anyGrows_0 : List UInt8 := dkwX3_anyGrows_0 ++ dktX3_anyGrows_1
theorem dksX3_anyGrows_0 : cX3_anyGrows.data.toList.drop 0 = dktX3_anyGrows_0 := by decide +kernel
theorem dksX3_anyGrows_1 : cX3_anyGrows.data.toList.drop 23 = dktX3_anyGrows_1 := dk_seg dksX3_anyGrows_0 23 rfl rfl
theorem dX3_anyGrows_0 : decode cX3_anyGrows 0 = .ok (.iconst 0, 1) := dk_3 (dk_at dksX3_anyGrows_0 0 rfl rfl)
theorem dX3_anyGrows_1 : decode cX3_anyGrows 1 = .ok (.istore_n 1, 1) := dk_60 (dk_at dksX3_anyGrows_0 1 rfl rfl)
theorem dX3_anyGrows_2 : decode cX3_anyGrows 2 = .ok (.iload_n 1, 1) := dk_27 (dk_at dksX3_anyGrows_0 2 rfl rfl)
theorem dX3_anyGrows_3 : decode cX3_anyGrows 3 = .ok (.aload_n 0, 1) := dk_42 (dk_at dksX3_anyGrows_0 3 rfl rfl)
theorem dX3_anyGrows_4 : decode cX3_anyGrows 4 = .ok (.invokevirtual 72, 3) := dk_182 0 72 (dk_at dksX3_anyGrows_0 4 rfl rfl)
theorem dX3_anyGrows_7 : decode cX3_anyGrows 7 = .ok (.if_icmp .ge 19, 3) := dk_162 0 19 (dk_at dksX3_anyGrows_0 7 rfl rfl)
theorem dX3_anyGrows_10 : decode cX3_anyGrows 10 = .ok (.aload_n 0, 1) := dk_42 (dk_at dksX3_anyGrows_0 10 rfl rfl)
theorem dX3_anyGrows_11 : decode cX3_anyGrows 11 = .ok (.iload_n 1, 1) := dk_27 (dk_at dksX3_anyGrows_0 11 rfl rfl)
theorem dX3_anyGrows_12 : decode cX3_anyGrows 12 = .ok (.invokevirtual 150, 3) := dk_182 0 150 (dk_at dksX3_anyGrows_0 12 rfl rfl)
theorem dX3_anyGrows_15 : decode cX3_anyGrows 15 = .ok (.ifCond .eq 5, 3) := dk_153 0 5 (dk_at dksX3_anyGrows_0 15 rfl rfl)
theorem dX3_anyGrows_18 : decode cX3_anyGrows 18 = .ok (.iconst 1, 1) := dk_4 (dk_at dksX3_anyGrows_0 18 rfl rfl)
theorem dX3_anyGrows_19 : decode cX3_anyGrows 19 = .ok (.ireturn, 1) := dk_172 (dk_at dksX3_anyGrows_0 19 rfl rfl)
theorem dX3_anyGrows_20 : decode cX3_anyGrows 20 = .ok (.iinc 1 1, 3) := dk_132 1 1 (dk_at dksX3_anyGrows_0 20 rfl rfl)
theorem dX3_anyGrows_23 : decode cX3_anyGrows 23 = .ok (.goto (-21), 3) := dk_167 255 235 (dk_at dksX3_anyGrows_1 0 rfl rfl)
theorem dX3_anyGrows_26 : decode cX3_anyGrows 26 = .ok (.iconst 0, 1) := dk_3 (dk_at dksX3_anyGrows_1 3 rfl rfl)
theorem dX3_anyGrows_27 : decode cX3_anyGrows 27 = .ok (.ireturn, 1) := dk_172 (dk_at dksX3_anyGrows_1 4 rfl rfl)
abbrev cX3_drawn : ByteArray := prog_27_method_22_code
def yX3_drawn : MethodName := ⟨RX3, "drawn", "(II)I"⟩
def dkwX3_drawn_5 : List UInt8 := [167, 255, 144, 29, 172]
abbrev dktX3_drawn_5 : List UInt8 := dkwX3_drawn_5 ++ []
def dkwX3_drawn_4 : List UInt8 := [154, 0, 11, 42, 21, 4, 21, 5, 182, 0, 171, 132, 4, 1, 167, 255, 215, 42, 182, 0, 158, 132, 3, 1]
abbrev dktX3_drawn_4 : List UInt8 := dkwX3_drawn_4 ++ dktX3_drawn_5
def dkwX3_drawn_3 : List UInt8 := [182, 0, 72, 162, 0, 38, 42, 42, 182, 0, 51, 182, 0, 165, 54, 5, 42, 21, 4, 21, 5, 182, 0, 135]
abbrev dktX3_drawn_3 : List UInt8 := dkwX3_drawn_3 ++ dktX3_drawn_4
def dkwX3_drawn_2 : List UInt8 := [180, 0, 33, 180, 0, 115, 182, 0, 101, 182, 0, 165, 120, 130, 181, 0, 44, 3, 54, 4, 21, 4, 42]
abbrev dktX3_drawn_2 : List UInt8 := dkwX3_drawn_2 ++ dktX3_drawn_3
def dkwX3_drawn_1 : List UInt8 := [154, 0, 41, 42, 180, 0, 33, 180, 0, 115, 182, 0, 168, 154, 0, 28, 42, 89, 180, 0, 44, 4, 42, 42]
abbrev dktX3_drawn_1 : List UInt8 := dkwX3_drawn_1 ++ dktX3_drawn_2
def dkwX3_drawn_0 : List UInt8 := [42, 28, 181, 0, 161, 3, 62, 29, 27, 162, 0, 113, 42, 182, 0, 154, 154, 0, 106, 42, 7, 182, 0, 165]
abbrev dktX3_drawn_0 : List UInt8 := dkwX3_drawn_0 ++ dktX3_drawn_1
theorem dksX3_drawn_0 : cX3_drawn.data.toList.drop 0 = dktX3_drawn_0 := by decide +kernel
theorem dksX3_drawn_1 : cX3_drawn.data.toList.drop 24 = dktX3_drawn_1 := dk_seg dksX3_drawn_0 24 rfl rfl
theorem dksX3_drawn_2 : cX3_drawn.data.toList.drop 48 = dktX3_drawn_2 := dk_seg dksX3_drawn_1 24 rfl rfl
theorem dksX3_drawn_3 : cX3_drawn.data.toList.drop 71 = dktX3_drawn_3 := dk_seg dksX3_drawn_2 23 rfl rfl
theorem dksX3_drawn_4 : cX3_drawn.data.toList.drop 95 = dktX3_drawn_4 := dk_seg dksX3_drawn_3 24 rfl rfl
theorem dksX3_drawn_5 : cX3_drawn.data.toList.drop 119 = dktX3_drawn_5 := dk_seg dksX3_drawn_4 24 rfl rfl
theorem dX3_drawn_0 : decode cX3_drawn 0 = .ok (.aload_n 0, 1) := dk_42 (dk_at dksX3_drawn_0 0 rfl rfl)
theorem dX3_drawn_1 : decode cX3_drawn 1 = .ok (.iload_n 2, 1) := dk_28 (dk_at dksX3_drawn_0 1 rfl rfl)
theorem dX3_drawn_2 : decode cX3_drawn 2 = .ok (.putfield 161, 3) := dk_181 0 161 (dk_at dksX3_drawn_0 2 rfl rfl)
theorem dX3_drawn_5 : decode cX3_drawn 5 = .ok (.iconst 0, 1) := dk_3 (dk_at dksX3_drawn_0 5 rfl rfl)
theorem dX3_drawn_6 : decode cX3_drawn 6 = .ok (.istore_n 3, 1) := dk_62 (dk_at dksX3_drawn_0 6 rfl rfl)
theorem dX3_drawn_7 : decode cX3_drawn 7 = .ok (.iload_n 3, 1) := dk_29 (dk_at dksX3_drawn_0 7 rfl rfl)
theorem dX3_drawn_8 : decode cX3_drawn 8 = .ok (.iload_n 1, 1) := dk_27 (dk_at dksX3_drawn_0 8 rfl rfl)
theorem dX3_drawn_9 : decode cX3_drawn 9 = .ok (.if_icmp .ge 113, 3) := dk_162 0 113 (dk_at dksX3_drawn_0 9 rfl rfl)
theorem dX3_drawn_12 : decode cX3_drawn 12 = .ok (.aload_n 0, 1) := dk_42 (dk_at dksX3_drawn_0 12 rfl rfl)
theorem dX3_drawn_13 : decode cX3_drawn 13 = .ok (.invokevirtual 154, 3) := dk_182 0 154 (dk_at dksX3_drawn_0 13 rfl rfl)
theorem dX3_drawn_16 : decode cX3_drawn 16 = .ok (.ifCond .ne 106, 3) := dk_154 0 106 (dk_at dksX3_drawn_0 16 rfl rfl)
theorem dX3_drawn_19 : decode cX3_drawn 19 = .ok (.aload_n 0, 1) := dk_42 (dk_at dksX3_drawn_0 19 rfl rfl)
theorem dX3_drawn_20 : decode cX3_drawn 20 = .ok (.iconst 4, 1) := dk_7 (dk_at dksX3_drawn_0 20 rfl rfl)
theorem dX3_drawn_21 : decode cX3_drawn 21 = .ok (.invokevirtual 165, 3) := dk_182 0 165 (dk_at dksX3_drawn_0 21 rfl rfl)
theorem dX3_drawn_24 : decode cX3_drawn 24 = .ok (.ifCond .ne 41, 3) := dk_154 0 41 (dk_at dksX3_drawn_1 0 rfl rfl)
theorem dX3_drawn_27 : decode cX3_drawn 27 = .ok (.aload_n 0, 1) := dk_42 (dk_at dksX3_drawn_1 3 rfl rfl)
theorem dX3_drawn_28 : decode cX3_drawn 28 = .ok (.getfield 33, 3) := dk_180 0 33 (dk_at dksX3_drawn_1 4 rfl rfl)
theorem dX3_drawn_31 : decode cX3_drawn 31 = .ok (.getfield 115, 3) := dk_180 0 115 (dk_at dksX3_drawn_1 7 rfl rfl)
theorem dX3_drawn_34 : decode cX3_drawn 34 = .ok (.invokevirtual 168, 3) := dk_182 0 168 (dk_at dksX3_drawn_1 10 rfl rfl)
theorem dX3_drawn_37 : decode cX3_drawn 37 = .ok (.ifCond .ne 28, 3) := dk_154 0 28 (dk_at dksX3_drawn_1 13 rfl rfl)
theorem dX3_drawn_40 : decode cX3_drawn 40 = .ok (.aload_n 0, 1) := dk_42 (dk_at dksX3_drawn_1 16 rfl rfl)
theorem dX3_drawn_41 : decode cX3_drawn 41 = .ok (.dup, 1) := dk_89 (dk_at dksX3_drawn_1 17 rfl rfl)
theorem dX3_drawn_42 : decode cX3_drawn 42 = .ok (.getfield 44, 3) := dk_180 0 44 (dk_at dksX3_drawn_1 18 rfl rfl)
theorem dX3_drawn_45 : decode cX3_drawn 45 = .ok (.iconst 1, 1) := dk_4 (dk_at dksX3_drawn_1 21 rfl rfl)
theorem dX3_drawn_46 : decode cX3_drawn 46 = .ok (.aload_n 0, 1) := dk_42 (dk_at dksX3_drawn_1 22 rfl rfl)
theorem dX3_drawn_47 : decode cX3_drawn 47 = .ok (.aload_n 0, 1) := dk_42 (dk_at dksX3_drawn_1 23 rfl rfl)
theorem dX3_drawn_48 : decode cX3_drawn 48 = .ok (.getfield 33, 3) := dk_180 0 33 (dk_at dksX3_drawn_2 0 rfl rfl)
theorem dX3_drawn_51 : decode cX3_drawn 51 = .ok (.getfield 115, 3) := dk_180 0 115 (dk_at dksX3_drawn_2 3 rfl rfl)
theorem dX3_drawn_54 : decode cX3_drawn 54 = .ok (.invokevirtual 101, 3) := dk_182 0 101 (dk_at dksX3_drawn_2 6 rfl rfl)
theorem dX3_drawn_57 : decode cX3_drawn 57 = .ok (.invokevirtual 165, 3) := dk_182 0 165 (dk_at dksX3_drawn_2 9 rfl rfl)
theorem dX3_drawn_60 : decode cX3_drawn 60 = .ok (.ishl, 1) := dk_120 (dk_at dksX3_drawn_2 12 rfl rfl)
theorem dX3_drawn_61 : decode cX3_drawn 61 = .ok (.ixor, 1) := dk_130 (dk_at dksX3_drawn_2 13 rfl rfl)
theorem dX3_drawn_62 : decode cX3_drawn 62 = .ok (.putfield 44, 3) := dk_181 0 44 (dk_at dksX3_drawn_2 14 rfl rfl)
theorem dX3_drawn_65 : decode cX3_drawn 65 = .ok (.iconst 0, 1) := dk_3 (dk_at dksX3_drawn_2 17 rfl rfl)
theorem dX3_drawn_66 : decode cX3_drawn 66 = .ok (.istore 4, 2) := dk_54 4 (dk_at dksX3_drawn_2 18 rfl rfl)
theorem dX3_drawn_68 : decode cX3_drawn 68 = .ok (.iload 4, 2) := dk_21 4 (dk_at dksX3_drawn_2 20 rfl rfl)
theorem dX3_drawn_70 : decode cX3_drawn 70 = .ok (.aload_n 0, 1) := dk_42 (dk_at dksX3_drawn_2 22 rfl rfl)
theorem dX3_drawn_71 : decode cX3_drawn 71 = .ok (.invokevirtual 72, 3) := dk_182 0 72 (dk_at dksX3_drawn_3 0 rfl rfl)
theorem dX3_drawn_74 : decode cX3_drawn 74 = .ok (.if_icmp .ge 38, 3) := dk_162 0 38 (dk_at dksX3_drawn_3 3 rfl rfl)
theorem dX3_drawn_77 : decode cX3_drawn 77 = .ok (.aload_n 0, 1) := dk_42 (dk_at dksX3_drawn_3 6 rfl rfl)
theorem dX3_drawn_78 : decode cX3_drawn 78 = .ok (.aload_n 0, 1) := dk_42 (dk_at dksX3_drawn_3 7 rfl rfl)
theorem dX3_drawn_79 : decode cX3_drawn 79 = .ok (.invokevirtual 51, 3) := dk_182 0 51 (dk_at dksX3_drawn_3 8 rfl rfl)
theorem dX3_drawn_82 : decode cX3_drawn 82 = .ok (.invokevirtual 165, 3) := dk_182 0 165 (dk_at dksX3_drawn_3 11 rfl rfl)
theorem dX3_drawn_85 : decode cX3_drawn 85 = .ok (.istore 5, 2) := dk_54 5 (dk_at dksX3_drawn_3 14 rfl rfl)
theorem dX3_drawn_87 : decode cX3_drawn 87 = .ok (.aload_n 0, 1) := dk_42 (dk_at dksX3_drawn_3 16 rfl rfl)
theorem dX3_drawn_88 : decode cX3_drawn 88 = .ok (.iload 4, 2) := dk_21 4 (dk_at dksX3_drawn_3 17 rfl rfl)
theorem dX3_drawn_90 : decode cX3_drawn 90 = .ok (.iload 5, 2) := dk_21 5 (dk_at dksX3_drawn_3 19 rfl rfl)
theorem dX3_drawn_92 : decode cX3_drawn 92 = .ok (.invokevirtual 135, 3) := dk_182 0 135 (dk_at dksX3_drawn_3 21 rfl rfl)
theorem dX3_drawn_95 : decode cX3_drawn 95 = .ok (.ifCond .ne 11, 3) := dk_154 0 11 (dk_at dksX3_drawn_4 0 rfl rfl)
theorem dX3_drawn_98 : decode cX3_drawn 98 = .ok (.aload_n 0, 1) := dk_42 (dk_at dksX3_drawn_4 3 rfl rfl)
theorem dX3_drawn_99 : decode cX3_drawn 99 = .ok (.iload 4, 2) := dk_21 4 (dk_at dksX3_drawn_4 4 rfl rfl)
theorem dX3_drawn_101 : decode cX3_drawn 101 = .ok (.iload 5, 2) := dk_21 5 (dk_at dksX3_drawn_4 6 rfl rfl)
theorem dX3_drawn_103 : decode cX3_drawn 103 = .ok (.invokevirtual 171, 3) := dk_182 0 171 (dk_at dksX3_drawn_4 8 rfl rfl)
theorem dX3_drawn_106 : decode cX3_drawn 106 = .ok (.iinc 4 1, 3) := dk_132 4 1 (dk_at dksX3_drawn_4 11 rfl rfl)
theorem dX3_drawn_109 : decode cX3_drawn 109 = .ok (.goto (-41), 3) := dk_167 255 215 (dk_at dksX3_drawn_4 14 rfl rfl)
theorem dX3_drawn_112 : decode cX3_drawn 112 = .ok (.aload_n 0, 1) := dk_42 (dk_at dksX3_drawn_4 17 rfl rfl)
theorem dX3_drawn_113 : decode cX3_drawn 113 = .ok (.invokevirtual 158, 3) := dk_182 0 158 (dk_at dksX3_drawn_4 18 rfl rfl)
theorem dX3_drawn_116 : decode cX3_drawn 116 = .ok (.iinc 3 1, 3) := dk_132 3 1 (dk_at dksX3_drawn_4 21 rfl rfl)
theorem dX3_drawn_119 : decode cX3_drawn 119 = .ok (.goto (-112), 3) := dk_167 255 144 (dk_at dksX3_drawn_5 0 rfl rfl)
theorem dX3_drawn_122 : decode cX3_drawn 122 = .ok (.iload_n 3, 1) := dk_29 (dk_at dksX3_drawn_5 3 rfl rfl)
theorem dX3_drawn_123 : decode cX3_drawn 123 = .ok (.ireturn, 1) := dk_172 (dk_at dksX3_drawn_5 4 rfl rfl)
abbrev cX3_draw : ByteArray := prog_27_method_21_code
def yX3_draw : MethodName := ⟨RX3, "draw", "(I)I"⟩
def dkwX3_draw_1 : List UInt8 := [172]
abbrev dktX3_draw_1 : List UInt8 := dkwX3_draw_1 ++ []
def dkwX3_draw_0 : List UInt8 := [42, 42, 180, 0, 161, 18, 164, 104, 17, 48, 57, 96, 181, 0, 161, 42, 180, 0, 161, 16, 8, 124, 27, 112]
abbrev dktX3_draw_0 : List UInt8 := dkwX3_draw_0 ++ dktX3_draw_1
theorem dksX3_draw_0 : cX3_draw.data.toList.drop 0 = dktX3_draw_0 := by decide +kernel
theorem dksX3_draw_1 : cX3_draw.data.toList.drop 24 = dktX3_draw_1 := dk_seg dksX3_draw_0 24 rfl rfl
theorem dX3_draw_0 : decode cX3_draw 0 = .ok (.aload_n 0, 1) := dk_42 (dk_at dksX3_draw_0 0 rfl rfl)
theorem dX3_draw_1 : decode cX3_draw 1 = .ok (.aload_n 0, 1) := dk_42 (dk_at dksX3_draw_0 1 rfl rfl)
theorem dX3_draw_2 : decode cX3_draw 2 = .ok (.getfield 161, 3) := dk_180 0 161 (dk_at dksX3_draw_0 2 rfl rfl)
theorem dX3_draw_5 : decode cX3_draw 5 = .ok (.ldc 164, 2) := dk_18 164 (dk_at dksX3_draw_0 5 rfl rfl)
theorem dX3_draw_7 : decode cX3_draw 7 = .ok (.imul, 1) := dk_104 (dk_at dksX3_draw_0 7 rfl rfl)
theorem dX3_draw_8 : decode cX3_draw 8 = .ok (.sipush 12345, 3) := dk_17 48 57 (dk_at dksX3_draw_0 8 rfl rfl)
theorem dX3_draw_11 : decode cX3_draw 11 = .ok (.iadd, 1) := dk_96 (dk_at dksX3_draw_0 11 rfl rfl)
theorem dX3_draw_12 : decode cX3_draw 12 = .ok (.putfield 161, 3) := dk_181 0 161 (dk_at dksX3_draw_0 12 rfl rfl)
theorem dX3_draw_15 : decode cX3_draw 15 = .ok (.aload_n 0, 1) := dk_42 (dk_at dksX3_draw_0 15 rfl rfl)
theorem dX3_draw_16 : decode cX3_draw 16 = .ok (.getfield 161, 3) := dk_180 0 161 (dk_at dksX3_draw_0 16 rfl rfl)
theorem dX3_draw_19 : decode cX3_draw 19 = .ok (.bipush 8, 2) := dk_16 8 (dk_at dksX3_draw_0 19 rfl rfl)
theorem dX3_draw_21 : decode cX3_draw 21 = .ok (.iushr, 1) := dk_124 (dk_at dksX3_draw_0 21 rfl rfl)
theorem dX3_draw_22 : decode cX3_draw 22 = .ok (.iload_n 1, 1) := dk_27 (dk_at dksX3_draw_0 22 rfl rfl)
theorem dX3_draw_23 : decode cX3_draw 23 = .ok (.irem, 1) := dk_112 (dk_at dksX3_draw_0 23 rfl rfl)
theorem dX3_draw_24 : decode cX3_draw 24 = .ok (.ireturn, 1) := dk_172 (dk_at dksX3_draw_1 0 rfl rfl)
theorem q117 : (Jvm.Cond.initialized "InchBorders$Times") ∈ lw_all := lw_g (lw_at lw_m1 6 rfl) rfl
theorem q207 : (Jvm.Cond.fieldLinkNest "InchBorders$Times" (55 : Nat) "InchBorders$Atlas" "lands" "Ljava/util/ArrayList;" "InchBorders") ∈ lw_tbl := lw_at lw_m1 96 rfl
theorem q214 : (Jvm.Cond.fieldLinkNest "InchBorders$Times" (115 : Nat) "InchBorders$Atlas" "roads" "Ljava/util/ArrayList;" "InchBorders") ∈ lw_tbl := lw_at lw_m1 103 rfl
theorem q217 : (Jvm.Cond.fieldLinkNest "InchBorders$Times" (79 : Nat) "InchBorders$Atlas" "persons" "Ljava/util/ArrayList;" "InchBorders") ∈ lw_tbl := lw_at lw_m1 106 rfl
theorem q231 : (Jvm.Cond.instantiable "InchBorders$Times" (12 : Nat)) ∈ lw_all := lw_g (lw_at lw_m1 120 rfl) rfl
theorem q233 : (Jvm.Cond.instanceMethod ({ cls := "InchBorders$Times", name := "<init>", desc := "()V" } : Jvm.MethodName)) ∈ lw_all := lw_g (lw_at lw_m1 122 rfl) rfl
theorem q234 : (Jvm.Cond.code ({ cls := "InchBorders$Times", name := "<init>", desc := "()V" } : Jvm.MethodName) prog_27_method_1_code (1 : Nat) (Option.none : Option Jvm.ClassFile.FieldType)) ∈ lw_all := lw_g (lw_at lw_m1 123 rfl) rfl
theorem q235 : (Jvm.Cond.methodLink "InchBorders$Times" (3 : Nat) ({ cls := "java/lang/Object", name := "<init>", desc := "()V" } : Jvm.MethodName)) ∈ lw_all := lw_g (lw_at lw_m1 124 rfl) rfl
theorem q238 : (Jvm.Cond.fieldLink "InchBorders$Times" (33 : Nat) "InchBorders$Times" "a" "LInchBorders$Atlas;") ∈ lw_all := lw_g (lw_at lw_m1 127 rfl) rfl
theorem q242 : (Jvm.Cond.fieldLink "InchBorders$Times" (37 : Nat) "InchBorders$Times" "day" "I") ∈ lw_all := lw_g (lw_at lw_m1 131 rfl) rfl
theorem q244 : (Jvm.Cond.fieldLink "InchBorders$Times" (41 : Nat) "InchBorders$Times" "crossings" "I") ∈ lw_all := lw_g (lw_at lw_m1 133 rfl) rfl
theorem q246 : (Jvm.Cond.fieldLink "InchBorders$Times" (44 : Nat) "InchBorders$Times" "closed" "I") ∈ lw_all := lw_g (lw_at lw_m1 135 rfl) rfl
theorem q249 : (Jvm.Cond.fieldLink "InchBorders$Times" (9 : Nat) "InchBorders$Times" "store" "[I") ∈ lw_all := lw_g (lw_at lw_m1 138 rfl) rfl
theorem q253 : (Jvm.Cond.fieldLink "InchBorders$Times" (15 : Nat) "InchBorders$Times" "spares" "[I") ∈ lw_all := lw_g (lw_at lw_m1 142 rfl) rfl
theorem q259 : (Jvm.Cond.fieldLink "InchBorders$Times" (18 : Nat) "InchBorders$Times" "at" "[I") ∈ lw_all := lw_g (lw_at lw_m1 148 rfl) rfl
theorem q264 : (Jvm.Cond.fieldLink "InchBorders$Times" (21 : Nat) "InchBorders$Times" "tall" "[I") ∈ lw_all := lw_g (lw_at lw_m1 153 rfl) rfl
theorem q268 : (Jvm.Cond.fieldLink "InchBorders$Times" (24 : Nat) "InchBorders$Times" "taken" "[I") ∈ lw_all := lw_g (lw_at lw_m1 157 rfl) rfl
theorem q271 : (Jvm.Cond.fieldLink "InchBorders$Times" (27 : Nat) "InchBorders$Times" "given" "[I") ∈ lw_all := lw_g (lw_at lw_m1 160 rfl) rfl
theorem q273 : (Jvm.Cond.fieldLink "InchBorders$Times" (30 : Nat) "InchBorders$Times" "crossed" "[I") ∈ lw_all := lw_g (lw_at lw_m1 162 rfl) rfl
theorem q276 : (Jvm.Cond.fieldLink "InchBorders$Times" (161 : Nat) "InchBorders$Times" "seed" "I") ∈ lw_all := lw_g (lw_at lw_m1 165 rfl) rfl
theorem q277 : (Jvm.Cond.lays "InchBorders$Times" "InchBorders$Times" "a" "LInchBorders$Atlas;") ∈ lw_all := lw_g (lw_at lw_m1 166 rfl) rfl
theorem q278 : (Jvm.Cond.soleField "InchBorders$Times" "a") ∈ lw_all := lw_g (lw_at lw_m1 167 rfl) rfl
theorem q279 : (Jvm.Cond.lays "InchBorders$Times" "InchBorders$Times" "day" "I") ∈ lw_all := lw_g (lw_at lw_m1 168 rfl) rfl
theorem q280 : (Jvm.Cond.soleField "InchBorders$Times" "day") ∈ lw_all := lw_g (lw_at lw_m1 169 rfl) rfl
theorem q281 : (Jvm.Cond.lays "InchBorders$Times" "InchBorders$Times" "crossings" "I") ∈ lw_all := lw_g (lw_at lw_m1 170 rfl) rfl
theorem q282 : (Jvm.Cond.soleField "InchBorders$Times" "crossings") ∈ lw_all := lw_g (lw_at lw_m1 171 rfl) rfl
theorem q283 : (Jvm.Cond.lays "InchBorders$Times" "InchBorders$Times" "closed" "I") ∈ lw_all := lw_g (lw_at lw_m1 172 rfl) rfl
theorem q284 : (Jvm.Cond.soleField "InchBorders$Times" "closed") ∈ lw_all := lw_g (lw_at lw_m1 173 rfl) rfl
theorem q285 : (Jvm.Cond.laysFinal "InchBorders$Times" "InchBorders$Times" "store" "[I") ∈ lw_all := lw_g (lw_at lw_m1 174 rfl) rfl
theorem q286 : (Jvm.Cond.soleField "InchBorders$Times" "store") ∈ lw_all := lw_g (lw_at lw_m1 175 rfl) rfl
theorem q287 : (Jvm.Cond.laysFinal "InchBorders$Times" "InchBorders$Times" "spares" "[I") ∈ lw_all := lw_g (lw_at lw_m1 176 rfl) rfl
theorem q288 : (Jvm.Cond.soleField "InchBorders$Times" "spares") ∈ lw_all := lw_g (lw_at lw_m1 177 rfl) rfl
theorem q289 : (Jvm.Cond.laysFinal "InchBorders$Times" "InchBorders$Times" "at" "[I") ∈ lw_all := lw_g (lw_at lw_m1 178 rfl) rfl
theorem q290 : (Jvm.Cond.soleField "InchBorders$Times" "at") ∈ lw_all := lw_g (lw_at lw_m1 179 rfl) rfl
theorem q291 : (Jvm.Cond.laysFinal "InchBorders$Times" "InchBorders$Times" "tall" "[I") ∈ lw_all := lw_g (lw_at lw_m1 180 rfl) rfl
theorem q292 : (Jvm.Cond.soleField "InchBorders$Times" "tall") ∈ lw_all := lw_g (lw_at lw_m1 181 rfl) rfl
theorem q293 : (Jvm.Cond.laysFinal "InchBorders$Times" "InchBorders$Times" "taken" "[I") ∈ lw_all := lw_g (lw_at lw_m1 182 rfl) rfl
theorem q294 : (Jvm.Cond.soleField "InchBorders$Times" "taken") ∈ lw_all := lw_g (lw_at lw_m1 183 rfl) rfl
theorem q295 : (Jvm.Cond.laysFinal "InchBorders$Times" "InchBorders$Times" "given" "[I") ∈ lw_all := lw_g (lw_at lw_m1 184 rfl) rfl
theorem q296 : (Jvm.Cond.soleField "InchBorders$Times" "given") ∈ lw_all := lw_g (lw_at lw_m1 185 rfl) rfl
theorem q297 : (Jvm.Cond.laysFinal "InchBorders$Times" "InchBorders$Times" "crossed" "[I") ∈ lw_all := lw_g (lw_at lw_m1 186 rfl) rfl
theorem q298 : (Jvm.Cond.soleField "InchBorders$Times" "crossed") ∈ lw_all := lw_g (lw_at lw_m1 187 rfl) rfl
theorem q299 : (Jvm.Cond.lays "InchBorders$Times" "InchBorders$Times" "seed" "I") ∈ lw_all := lw_g (lw_at lw_m1 188 rfl) rfl
theorem q300 : (Jvm.Cond.soleField "InchBorders$Times" "seed") ∈ lw_all := lw_g (lw_at lw_m1 189 rfl) rfl
theorem q301 : (Jvm.Cond.superclass "InchBorders$Times" "java/lang/Object") ∈ lw_all := lw_g (lw_at lw_m1 190 rfl) rfl
theorem q304 : (Jvm.Cond.instanceMethod ({ cls := "InchBorders$Times", name := "begin", desc := "(LInchBorders$Atlas;)LInchBorders$Times;" } : Jvm.MethodName)) ∈ lw_all := lw_g (lw_at lw_m1 193 rfl) rfl
theorem q305 : (Jvm.Cond.selects "InchBorders$Times" ({ cls := "InchBorders$Times", name := "begin", desc := "(LInchBorders$Atlas;)LInchBorders$Times;" } : Jvm.MethodName) ({ cls := "InchBorders$Times", name := "begin", desc := "(LInchBorders$Atlas;)LInchBorders$Times;" } : Jvm.MethodName)) ∈ lw_all := lw_g (lw_at lw_m1 194 rfl) rfl
theorem q306 : (Jvm.Cond.code ({ cls := "InchBorders$Times", name := "begin", desc := "(LInchBorders$Atlas;)LInchBorders$Times;" } : Jvm.MethodName) prog_27_method_2_code (3 : Nat) (Option.some (Jvm.ClassFile.FieldType.object "InchBorders$Times"))) ∈ lw_all := lw_g (lw_at lw_m1 195 rfl) rfl
theorem q307 : (Jvm.Cond.methodLink "InchBorders$Times" (47 : Nat) ({ cls := "InchBorders$Times", name := "clear", desc := "([I)V" } : Jvm.MethodName)) ∈ lw_all := lw_g (lw_at lw_m1 196 rfl) rfl
theorem q308 : (Jvm.Cond.static ({ cls := "InchBorders$Times", name := "clear", desc := "([I)V" } : Jvm.MethodName)) ∈ lw_all := lw_g (lw_at lw_m1 197 rfl) rfl
theorem q309 : (Jvm.Cond.code ({ cls := "InchBorders$Times", name := "clear", desc := "([I)V" } : Jvm.MethodName) prog_27_method_3_code (1 : Nat) (Option.none : Option Jvm.ClassFile.FieldType)) ∈ lw_all := lw_g (lw_at lw_m1 198 rfl) rfl
theorem q310 : (Jvm.Cond.methodLink "InchBorders$Times" (85 : Nat) ({ cls := "java/util/Arrays", name := "fill", desc := "([II)V" } : Jvm.MethodName)) ∈ lw_all := lw_g (lw_at lw_m1 199 rfl) rfl
theorem q313 : (Jvm.Cond.methodLink "InchBorders$Times" (51 : Nat) ({ cls := "InchBorders$Times", name := "lands", desc := "()I" } : Jvm.MethodName)) ∈ lw_all := lw_g (lw_at lw_m1 202 rfl) rfl
theorem q314 : (Jvm.Cond.instanceMethod ({ cls := "InchBorders$Times", name := "lands", desc := "()I" } : Jvm.MethodName)) ∈ lw_all := lw_g (lw_at lw_m1 203 rfl) rfl
theorem q315 : (Jvm.Cond.selects "InchBorders$Times" ({ cls := "InchBorders$Times", name := "lands", desc := "()I" } : Jvm.MethodName) ({ cls := "InchBorders$Times", name := "lands", desc := "()I" } : Jvm.MethodName)) ∈ lw_all := lw_g (lw_at lw_m1 204 rfl) rfl
theorem q316 : (Jvm.Cond.code ({ cls := "InchBorders$Times", name := "lands", desc := "()I" } : Jvm.MethodName) prog_27_method_7_code (1 : Nat) (Option.some Jvm.ClassFile.FieldType.int)) ∈ lw_all := lw_g (lw_at lw_m1 205 rfl) rfl
theorem q317 : (Jvm.Cond.methodLink "InchBorders$Times" (101 : Nat) ({ cls := "java/util/ArrayList", name := "size", desc := "()I" } : Jvm.MethodName)) ∈ lw_all := lw_g (lw_at lw_m1 206 rfl) rfl
theorem q321 : (Jvm.Cond.methodLink "InchBorders$Times" (60 : Nat) ({ cls := "java/util/ArrayList", name := "get", desc := "(I)Ljava/lang/Object;" } : Jvm.MethodName)) ∈ lw_all := lw_g (lw_at lw_m1 210 rfl) rfl
theorem q335 : (Jvm.Cond.classLink "InchBorders$Times" (66 : Nat) "InchBorders$Land") ∈ lw_all := lw_g (lw_at lw_m1 224 rfl) rfl
theorem q336 : (Jvm.Cond.methodLink "InchBorders$Times" (72 : Nat) ({ cls := "InchBorders$Times", name := "persons", desc := "()I" } : Jvm.MethodName)) ∈ lw_all := lw_g (lw_at lw_m1 225 rfl) rfl
theorem q337 : (Jvm.Cond.instanceMethod ({ cls := "InchBorders$Times", name := "persons", desc := "()I" } : Jvm.MethodName)) ∈ lw_all := lw_g (lw_at lw_m1 226 rfl) rfl
theorem q338 : (Jvm.Cond.selects "InchBorders$Times" ({ cls := "InchBorders$Times", name := "persons", desc := "()I" } : Jvm.MethodName) ({ cls := "InchBorders$Times", name := "persons", desc := "()I" } : Jvm.MethodName)) ∈ lw_all := lw_g (lw_at lw_m1 227 rfl) rfl
theorem q339 : (Jvm.Cond.code ({ cls := "InchBorders$Times", name := "persons", desc := "()I" } : Jvm.MethodName) prog_27_method_8_code (1 : Nat) (Option.some Jvm.ClassFile.FieldType.int)) ∈ lw_all := lw_g (lw_at lw_m1 228 rfl) rfl
theorem q340 : (Jvm.Cond.methodLink "InchBorders$Times" (75 : Nat) ({ cls := "InchBorders$Atlas", name := "home", desc := "(I)I" } : Jvm.MethodName)) ∈ lw_all := lw_g (lw_at lw_m1 229 rfl) rfl
theorem q346 : (Jvm.Cond.classLink "InchBorders$Times" (81 : Nat) "InchBorders$Person") ∈ lw_all := lw_g (lw_at lw_m1 235 rfl) rfl
theorem q937 : (Jvm.Cond.fieldLinkNest "InchBorders$Times" (108 : Nat) "InchBorders$Land" "take" "I" "InchBorders") ∈ lw_tbl := lw_at lw_m4 106 rfl
theorem q939 : (Jvm.Cond.fieldLinkNest "InchBorders$Times" (138 : Nat) "InchBorders$Land" "give" "I" "InchBorders") ∈ lw_tbl := lw_at lw_m4 108 rfl
theorem q941 : (Jvm.Cond.fieldLinkNest "InchBorders$Times" (68 : Nat) "InchBorders$Land" "store" "I" "InchBorders") ∈ lw_tbl := lw_at lw_m4 110 rfl
theorem q943 : (Jvm.Cond.fieldLinkNest "InchBorders$Times" (70 : Nat) "InchBorders$Land" "spares" "I" "InchBorders") ∈ lw_tbl := lw_at lw_m4 112 rfl
theorem q1009 : (Jvm.Cond.selects "InchBorders$Times" ({ cls := "java/lang/Object", name := "getClass", desc := "()Ljava/lang/Class;" } : Jvm.MethodName) ({ cls := "java/lang/Object", name := "getClass", desc := "()Ljava/lang/Class;" } : Jvm.MethodName)) ∈ lw_all := lw_g (lw_at lw_m4 178 rfl) rfl
theorem q1073 : (Jvm.Cond.fieldLinkNest "InchBorders$Times" (120 : Nat) "InchBorders$Road" "low" "I" "InchBorders") ∈ lw_tbl := lw_at lw_m5 2 rfl
theorem q1076 : (Jvm.Cond.fieldLinkNest "InchBorders$Times" (123 : Nat) "InchBorders$Road" "high" "I" "InchBorders") ∈ lw_tbl := lw_at lw_m5 5 rfl
theorem q1109 : (Jvm.Cond.fieldLinkNest "InchBorders$Times" (83 : Nat) "InchBorders$Person" "tall" "I" "InchBorders") ∈ lw_tbl := lw_at lw_m5 38 rfl
theorem q1140 : (Jvm.Cond.instanceMethod ({ cls := "InchBorders$Times", name := "take", desc := "(I)I" } : Jvm.MethodName)) ∈ lw_all := lw_g (lw_at lw_m5 69 rfl) rfl
theorem q1141 : (Jvm.Cond.selects "InchBorders$Times" ({ cls := "InchBorders$Times", name := "take", desc := "(I)I" } : Jvm.MethodName) ({ cls := "InchBorders$Times", name := "take", desc := "(I)I" } : Jvm.MethodName)) ∈ lw_all := lw_g (lw_at lw_m5 70 rfl) rfl
theorem q1142 : (Jvm.Cond.code ({ cls := "InchBorders$Times", name := "take", desc := "(I)I" } : Jvm.MethodName) prog_27_method_10_code (2 : Nat) (Option.some Jvm.ClassFile.FieldType.int)) ∈ lw_all := lw_g (lw_at lw_m5 71 rfl) rfl
theorem q1164 : (Jvm.Cond.instanceMethod ({ cls := "InchBorders$Times", name := "lengths", desc := "()I" } : Jvm.MethodName)) ∈ lw_all := lw_g (lw_at lw_m5 93 rfl) rfl
theorem q1165 : (Jvm.Cond.selects "InchBorders$Times" ({ cls := "InchBorders$Times", name := "lengths", desc := "()I" } : Jvm.MethodName) ({ cls := "InchBorders$Times", name := "lengths", desc := "()I" } : Jvm.MethodName)) ∈ lw_all := lw_g (lw_at lw_m5 94 rfl) rfl
theorem q1166 : (Jvm.Cond.code ({ cls := "InchBorders$Times", name := "lengths", desc := "()I" } : Jvm.MethodName) prog_27_method_20_code (6 : Nat) (Option.some Jvm.ClassFile.FieldType.int)) ∈ lw_all := lw_g (lw_at lw_m5 95 rfl) rfl
theorem q1176 : (Jvm.Cond.instanceMethod ({ cls := "InchBorders$Times", name := "canCross", desc := "(I)I" } : Jvm.MethodName)) ∈ lw_all := lw_g (lw_at lw_m5 105 rfl) rfl
theorem q1177 : (Jvm.Cond.selects "InchBorders$Times" ({ cls := "InchBorders$Times", name := "canCross", desc := "(I)I" } : Jvm.MethodName) ({ cls := "InchBorders$Times", name := "canCross", desc := "(I)I" } : Jvm.MethodName)) ∈ lw_all := lw_g (lw_at lw_m5 106 rfl) rfl
theorem q1178 : (Jvm.Cond.code ({ cls := "InchBorders$Times", name := "canCross", desc := "(I)I" } : Jvm.MethodName) prog_27_method_13_code (4 : Nat) (Option.some Jvm.ClassFile.FieldType.int)) ∈ lw_all := lw_g (lw_at lw_m5 107 rfl) rfl
theorem q1179 : (Jvm.Cond.methodLink "InchBorders$Times" (135 : Nat) ({ cls := "InchBorders$Times", name := "whyCross", desc := "(II)I" } : Jvm.MethodName)) ∈ lw_all := lw_g (lw_at lw_m5 108 rfl) rfl
theorem q1180 : (Jvm.Cond.instanceMethod ({ cls := "InchBorders$Times", name := "whyCross", desc := "(II)I" } : Jvm.MethodName)) ∈ lw_all := lw_g (lw_at lw_m5 109 rfl) rfl
theorem q1181 : (Jvm.Cond.selects "InchBorders$Times" ({ cls := "InchBorders$Times", name := "whyCross", desc := "(II)I" } : Jvm.MethodName) ({ cls := "InchBorders$Times", name := "whyCross", desc := "(II)I" } : Jvm.MethodName)) ∈ lw_all := lw_g (lw_at lw_m5 110 rfl) rfl
theorem q1182 : (Jvm.Cond.code ({ cls := "InchBorders$Times", name := "whyCross", desc := "(II)I" } : Jvm.MethodName) prog_27_method_12_code (3 : Nat) (Option.some Jvm.ClassFile.FieldType.int)) ∈ lw_all := lw_g (lw_at lw_m5 111 rfl) rfl
theorem q1183 : (Jvm.Cond.methodLink "InchBorders$Times" (128 : Nat) ({ cls := "InchBorders$Times", name := "isSpared", desc := "(II)Z" } : Jvm.MethodName)) ∈ lw_all := lw_g (lw_at lw_m5 112 rfl) rfl
theorem q1184 : (Jvm.Cond.instanceMethod ({ cls := "InchBorders$Times", name := "isSpared", desc := "(II)Z" } : Jvm.MethodName)) ∈ lw_all := lw_g (lw_at lw_m5 113 rfl) rfl
theorem q1185 : (Jvm.Cond.selects "InchBorders$Times" ({ cls := "InchBorders$Times", name := "isSpared", desc := "(II)Z" } : Jvm.MethodName) ({ cls := "InchBorders$Times", name := "isSpared", desc := "(II)Z" } : Jvm.MethodName)) ∈ lw_all := lw_g (lw_at lw_m5 114 rfl) rfl
theorem q1186 : (Jvm.Cond.code ({ cls := "InchBorders$Times", name := "isSpared", desc := "(II)Z" } : Jvm.MethodName) prog_27_method_9_code (3 : Nat) (Option.some Jvm.ClassFile.FieldType.boolean)) ∈ lw_all := lw_g (lw_at lw_m5 115 rfl) rfl
theorem q1187 : (Jvm.Cond.methodLinkNest "InchBorders$Times" (104 : Nat) ({ cls := "InchBorders", name := "isOf", desc := "(II)Z" } : Jvm.MethodName) "InchBorders") ∈ lw_tbl := lw_at lw_m5 116 rfl
theorem q1188 : (Jvm.Cond.methodLink "InchBorders$Times" (131 : Nat) ({ cls := "InchBorders$Times", name := "why", desc := "(IIIZ)I" } : Jvm.MethodName)) ∈ lw_all := lw_g (lw_at lw_m5 117 rfl) rfl
theorem q1189 : (Jvm.Cond.instanceMethod ({ cls := "InchBorders$Times", name := "why", desc := "(IIIZ)I" } : Jvm.MethodName)) ∈ lw_all := lw_g (lw_at lw_m5 118 rfl) rfl
theorem q1190 : (Jvm.Cond.selects "InchBorders$Times" ({ cls := "InchBorders$Times", name := "why", desc := "(IIIZ)I" } : Jvm.MethodName) ({ cls := "InchBorders$Times", name := "why", desc := "(IIIZ)I" } : Jvm.MethodName)) ∈ lw_all := lw_g (lw_at lw_m5 119 rfl) rfl
theorem q1191 : (Jvm.Cond.code ({ cls := "InchBorders$Times", name := "why", desc := "(IIIZ)I" } : Jvm.MethodName) prog_27_method_11_code (7 : Nat) (Option.some Jvm.ClassFile.FieldType.int)) ∈ lw_all := lw_g (lw_at lw_m5 120 rfl) rfl
theorem q1192 : (Jvm.Cond.methodLink "InchBorders$Times" (111 : Nat) ({ cls := "InchBorders$Atlas", name := "road", desc := "(II)I" } : Jvm.MethodName)) ∈ lw_all := lw_g (lw_at lw_m5 121 rfl) rfl
theorem q1193 : (Jvm.Cond.classLink "InchBorders$Times" (118 : Nat) "InchBorders$Road") ∈ lw_all := lw_g (lw_at lw_m5 122 rfl) rfl
theorem q1194 : (Jvm.Cond.methodLink "InchBorders$Times" (126 : Nat) ({ cls := "InchBorders$Times", name := "take", desc := "(I)I" } : Jvm.MethodName)) ∈ lw_all := lw_g (lw_at lw_m5 123 rfl) rfl
theorem q1237 : (Jvm.Cond.instanceMethod ({ cls := "InchBorders$Times", name := "as", desc := "(LInchBorders$Times;)LInchBorders$Times;" } : Jvm.MethodName)) ∈ lw_all := lw_g (lw_at lw_m5 166 rfl) rfl
theorem q1238 : (Jvm.Cond.selects "InchBorders$Times" ({ cls := "InchBorders$Times", name := "as", desc := "(LInchBorders$Times;)LInchBorders$Times;" } : Jvm.MethodName) ({ cls := "InchBorders$Times", name := "as", desc := "(LInchBorders$Times;)LInchBorders$Times;" } : Jvm.MethodName)) ∈ lw_all := lw_g (lw_at lw_m5 167 rfl) rfl
theorem q1239 : (Jvm.Cond.code ({ cls := "InchBorders$Times", name := "as", desc := "(LInchBorders$Times;)LInchBorders$Times;" } : Jvm.MethodName) prog_27_method_4_code (2 : Nat) (Option.some (Jvm.ClassFile.FieldType.object "InchBorders$Times"))) ∈ lw_all := lw_g (lw_at lw_m5 168 rfl) rfl
theorem q1240 : (Jvm.Cond.methodLink "InchBorders$Times" (91 : Nat) ({ cls := "InchBorders$Times", name := "copy", desc := "([I[I)V" } : Jvm.MethodName)) ∈ lw_all := lw_g (lw_at lw_m5 169 rfl) rfl
theorem q1241 : (Jvm.Cond.static ({ cls := "InchBorders$Times", name := "copy", desc := "([I[I)V" } : Jvm.MethodName)) ∈ lw_all := lw_g (lw_at lw_m5 170 rfl) rfl
theorem q1242 : (Jvm.Cond.code ({ cls := "InchBorders$Times", name := "copy", desc := "([I[I)V" } : Jvm.MethodName) prog_27_method_5_code (2 : Nat) (Option.none : Option Jvm.ClassFile.FieldType)) ∈ lw_all := lw_g (lw_at lw_m5 171 rfl) rfl
theorem q1243 : (Jvm.Cond.methodLink "InchBorders$Times" (95 : Nat) ({ cls := "java/lang/System", name := "arraycopy", desc := "(Ljava/lang/Object;ILjava/lang/Object;II)V" } : Jvm.MethodName)) ∈ lw_all := lw_g (lw_at lw_m5 172 rfl) rfl
theorem q1261 : (Jvm.Cond.instanceMethod ({ cls := "InchBorders$Times", name := "cross", desc := "(II)V" } : Jvm.MethodName)) ∈ lw_all := lw_g (lw_at lw_m5 190 rfl) rfl
theorem q1262 : (Jvm.Cond.selects "InchBorders$Times" ({ cls := "InchBorders$Times", name := "cross", desc := "(II)V" } : Jvm.MethodName) ({ cls := "InchBorders$Times", name := "cross", desc := "(II)V" } : Jvm.MethodName)) ∈ lw_all := lw_g (lw_at lw_m5 191 rfl) rfl
theorem q1263 : (Jvm.Cond.code ({ cls := "InchBorders$Times", name := "cross", desc := "(II)V" } : Jvm.MethodName) prog_27_method_15_code (5 : Nat) (Option.none : Option Jvm.ClassFile.FieldType)) ∈ lw_all := lw_g (lw_at lw_m5 192 rfl) rfl
theorem q1264 : (Jvm.Cond.methodLink "InchBorders$Times" (146 : Nat) ({ cls := "InchBorders$Times", name := "gives", desc := "(III)I" } : Jvm.MethodName)) ∈ lw_all := lw_g (lw_at lw_m5 193 rfl) rfl
theorem q1265 : (Jvm.Cond.instanceMethod ({ cls := "InchBorders$Times", name := "gives", desc := "(III)I" } : Jvm.MethodName)) ∈ lw_all := lw_g (lw_at lw_m5 194 rfl) rfl
theorem q1266 : (Jvm.Cond.selects "InchBorders$Times" ({ cls := "InchBorders$Times", name := "gives", desc := "(III)I" } : Jvm.MethodName) ({ cls := "InchBorders$Times", name := "gives", desc := "(III)I" } : Jvm.MethodName)) ∈ lw_all := lw_g (lw_at lw_m5 195 rfl) rfl
theorem q1267 : (Jvm.Cond.code ({ cls := "InchBorders$Times", name := "gives", desc := "(III)I" } : Jvm.MethodName) prog_27_method_14_code (4 : Nat) (Option.some Jvm.ClassFile.FieldType.int)) ∈ lw_all := lw_g (lw_at lw_m5 196 rfl) rfl
theorem q1268 : (Jvm.Cond.methodLink "InchBorders$Times" (141 : Nat) ({ cls := "java/lang/Math", name := "min", desc := "(II)I" } : Jvm.MethodName)) ∈ lw_all := lw_g (lw_at lw_m5 197 rfl) rfl
theorem q1278 : (Jvm.Cond.instanceMethod ({ cls := "InchBorders$Times", name := "passAll", desc := "(I)I" } : Jvm.MethodName)) ∈ lw_all := lw_g (lw_at lw_m5 207 rfl) rfl
theorem q1279 : (Jvm.Cond.selects "InchBorders$Times" ({ cls := "InchBorders$Times", name := "passAll", desc := "(I)I" } : Jvm.MethodName) ({ cls := "InchBorders$Times", name := "passAll", desc := "(I)I" } : Jvm.MethodName)) ∈ lw_all := lw_g (lw_at lw_m5 208 rfl) rfl
theorem q1280 : (Jvm.Cond.code ({ cls := "InchBorders$Times", name := "passAll", desc := "(I)I" } : Jvm.MethodName) prog_27_method_19_code (3 : Nat) (Option.some Jvm.ClassFile.FieldType.int)) ∈ lw_all := lw_g (lw_at lw_m5 209 rfl) rfl
theorem q1281 : (Jvm.Cond.methodLink "InchBorders$Times" (154 : Nat) ({ cls := "InchBorders$Times", name := "isOver", desc := "()Z" } : Jvm.MethodName)) ∈ lw_all := lw_g (lw_at lw_m5 210 rfl) rfl
theorem q1282 : (Jvm.Cond.instanceMethod ({ cls := "InchBorders$Times", name := "isOver", desc := "()Z" } : Jvm.MethodName)) ∈ lw_all := lw_g (lw_at lw_m5 211 rfl) rfl
theorem q1283 : (Jvm.Cond.selects "InchBorders$Times" ({ cls := "InchBorders$Times", name := "isOver", desc := "()Z" } : Jvm.MethodName) ({ cls := "InchBorders$Times", name := "isOver", desc := "()Z" } : Jvm.MethodName)) ∈ lw_all := lw_g (lw_at lw_m5 212 rfl) rfl
theorem q1284 : (Jvm.Cond.code ({ cls := "InchBorders$Times", name := "isOver", desc := "()Z" } : Jvm.MethodName) prog_27_method_6_code (1 : Nat) (Option.some Jvm.ClassFile.FieldType.boolean)) ∈ lw_all := lw_g (lw_at lw_m5 213 rfl) rfl
theorem q1285 : (Jvm.Cond.methodLink "InchBorders$Times" (158 : Nat) ({ cls := "InchBorders$Times", name := "pass", desc := "()V" } : Jvm.MethodName)) ∈ lw_all := lw_g (lw_at lw_m5 214 rfl) rfl
theorem q1286 : (Jvm.Cond.instanceMethod ({ cls := "InchBorders$Times", name := "pass", desc := "()V" } : Jvm.MethodName)) ∈ lw_all := lw_g (lw_at lw_m5 215 rfl) rfl
theorem q1287 : (Jvm.Cond.selects "InchBorders$Times" ({ cls := "InchBorders$Times", name := "pass", desc := "()V" } : Jvm.MethodName) ({ cls := "InchBorders$Times", name := "pass", desc := "()V" } : Jvm.MethodName)) ∈ lw_all := lw_g (lw_at lw_m5 216 rfl) rfl
theorem q1288 : (Jvm.Cond.code ({ cls := "InchBorders$Times", name := "pass", desc := "()V" } : Jvm.MethodName) prog_27_method_18_code (2 : Nat) (Option.none : Option Jvm.ClassFile.FieldType)) ∈ lw_all := lw_g (lw_at lw_m5 217 rfl) rfl
theorem q1289 : (Jvm.Cond.methodLink "InchBorders$Times" (150 : Nat) ({ cls := "InchBorders$Times", name := "grows", desc := "(I)Z" } : Jvm.MethodName)) ∈ lw_all := lw_g (lw_at lw_m5 218 rfl) rfl
theorem q1290 : (Jvm.Cond.privateMethod ({ cls := "InchBorders$Times", name := "grows", desc := "(I)Z" } : Jvm.MethodName)) ∈ lw_tbl := lw_at lw_m5 219 rfl
theorem q1291 : (Jvm.Cond.instanceMethod ({ cls := "InchBorders$Times", name := "grows", desc := "(I)Z" } : Jvm.MethodName)) ∈ lw_all := lw_g (lw_at lw_m5 220 rfl) rfl
theorem q1292 : (Jvm.Cond.code ({ cls := "InchBorders$Times", name := "grows", desc := "(I)Z" } : Jvm.MethodName) prog_27_method_16_code (2 : Nat) (Option.some Jvm.ClassFile.FieldType.boolean)) ∈ lw_all := lw_g (lw_at lw_m5 221 rfl) rfl
theorem q1605 : (Jvm.Cond.instanceMethod ({ cls := "InchBorders$Times", name := "anyGrows", desc := "()Z" } : Jvm.MethodName)) ∈ lw_all := lw_g (lw_at lw_m7 54 rfl) rfl
theorem q1606 : (Jvm.Cond.selects "InchBorders$Times" ({ cls := "InchBorders$Times", name := "anyGrows", desc := "()Z" } : Jvm.MethodName) ({ cls := "InchBorders$Times", name := "anyGrows", desc := "()Z" } : Jvm.MethodName)) ∈ lw_all := lw_g (lw_at lw_m7 55 rfl) rfl
theorem q1607 : (Jvm.Cond.code ({ cls := "InchBorders$Times", name := "anyGrows", desc := "()Z" } : Jvm.MethodName) prog_27_method_17_code (2 : Nat) (Option.some Jvm.ClassFile.FieldType.boolean)) ∈ lw_all := lw_g (lw_at lw_m7 56 rfl) rfl
theorem q1667 : (Jvm.Cond.instanceMethod ({ cls := "InchBorders$Times", name := "drawn", desc := "(II)I" } : Jvm.MethodName)) ∈ lw_all := lw_g (lw_at lw_m7 116 rfl) rfl
theorem q1668 : (Jvm.Cond.selects "InchBorders$Times" ({ cls := "InchBorders$Times", name := "drawn", desc := "(II)I" } : Jvm.MethodName) ({ cls := "InchBorders$Times", name := "drawn", desc := "(II)I" } : Jvm.MethodName)) ∈ lw_all := lw_g (lw_at lw_m7 117 rfl) rfl
theorem q1669 : (Jvm.Cond.code ({ cls := "InchBorders$Times", name := "drawn", desc := "(II)I" } : Jvm.MethodName) prog_27_method_22_code (6 : Nat) (Option.some Jvm.ClassFile.FieldType.int)) ∈ lw_all := lw_g (lw_at lw_m7 118 rfl) rfl
theorem q1670 : (Jvm.Cond.methodLink "InchBorders$Times" (165 : Nat) ({ cls := "InchBorders$Times", name := "draw", desc := "(I)I" } : Jvm.MethodName)) ∈ lw_all := lw_g (lw_at lw_m7 119 rfl) rfl
theorem q1671 : (Jvm.Cond.privateMethod ({ cls := "InchBorders$Times", name := "draw", desc := "(I)I" } : Jvm.MethodName)) ∈ lw_tbl := lw_at lw_m7 120 rfl
theorem q1672 : (Jvm.Cond.instanceMethod ({ cls := "InchBorders$Times", name := "draw", desc := "(I)I" } : Jvm.MethodName)) ∈ lw_all := lw_g (lw_at lw_m7 121 rfl) rfl
theorem q1673 : (Jvm.Cond.code ({ cls := "InchBorders$Times", name := "draw", desc := "(I)I" } : Jvm.MethodName) prog_27_method_21_code (2 : Nat) (Option.some Jvm.ClassFile.FieldType.int)) ∈ lw_all := lw_g (lw_at lw_m7 122 rfl) rfl
theorem q1674 : (Jvm.Cond.constant "InchBorders$Times" (164 : Nat) (1103515245 : Int32)) ∈ lw_all := lw_g (lw_at lw_m7 123 rfl) rfl
theorem q1675 : (Jvm.Cond.methodLink "InchBorders$Times" (168 : Nat) ({ cls := "java/util/ArrayList", name := "isEmpty", desc := "()Z" } : Jvm.MethodName)) ∈ lw_all := lw_g (lw_at lw_m7 124 rfl) rfl
theorem q1679 : (Jvm.Cond.methodLink "InchBorders$Times" (171 : Nat) ({ cls := "InchBorders$Times", name := "cross", desc := "(II)V" } : Jvm.MethodName)) ∈ lw_all := lw_g (lw_at lw_m7 128 rfl) rfl
theorem q2731 : (Jvm.Cond.castable "InchBorders$Times" "java/lang/Object") ∈ lw_tbl := lw_at lw_m11 220 rfl
theorem in_X3 : ∀ w ∈ wsX30, w ∈ lw_all := lw_in wsX30 [277, 279, 281, 283, 285, 287, 289, 291, 293, 295, 297, 299] (by decide +kernel) (by decide +kernel)

/-! InchBorders$Than -/
set_option maxRecDepth 100000
def RX30 : String := "InchBorders$Than"
def TX30 : u_T := fun k => match k with
  | 0 => ("InchBorders$Than", "what", "I", true)
  | 1 => ("InchBorders$Than", "sign", "I", true)
  | _ => ("InchBorders$Than", "number", "I", true)
def tyX30 : Nat → FieldType := fun k => match k with
  | 0 => .int
  | 1 => .int
  | _ => .int
abbrev wsX300 : List Cond := u_ws RX30 TX30 3
theorem nmX30 : ∀ a, a < 3 → ∀ b, b < 3 → a ≠ b → (TX30 a).2.1 ≠ (TX30 b).2.1 := by decide +kernel
theorem tyX30_ok : ∀ k, k < 3 → parseFieldDescriptor (TX30 k).2.2.1 = some (tyX30 k) := by decide +kernel
abbrev cX30_init : ByteArray := prog_26_method_1_code
def yX30_init : MethodName := ⟨RX30, "<init>", "(III)V"⟩
def dkwX30_init_0 : List UInt8 := [42, 183, 0, 1, 42, 27, 181, 0, 7, 42, 28, 181, 0, 13, 42, 29, 181, 0, 16, 177]
abbrev dktX30_init_0 : List UInt8 := dkwX30_init_0 ++ []
theorem dksX30_init_0 : cX30_init.data.toList.drop 0 = dktX30_init_0 := by decide +kernel
theorem dX30_init_0 : decode cX30_init 0 = .ok (.aload_n 0, 1) := dk_42 (dk_at dksX30_init_0 0 rfl rfl)
theorem dX30_init_1 : decode cX30_init 1 = .ok (.invokespecial 1, 3) := dk_183 0 1 (dk_at dksX30_init_0 1 rfl rfl)
theorem dX30_init_4 : decode cX30_init 4 = .ok (.aload_n 0, 1) := dk_42 (dk_at dksX30_init_0 4 rfl rfl)
theorem dX30_init_5 : decode cX30_init 5 = .ok (.iload_n 1, 1) := dk_27 (dk_at dksX30_init_0 5 rfl rfl)
theorem dX30_init_6 : decode cX30_init 6 = .ok (.putfield 7, 3) := dk_181 0 7 (dk_at dksX30_init_0 6 rfl rfl)
theorem dX30_init_9 : decode cX30_init 9 = .ok (.aload_n 0, 1) := dk_42 (dk_at dksX30_init_0 9 rfl rfl)
theorem dX30_init_10 : decode cX30_init 10 = .ok (.iload_n 2, 1) := dk_28 (dk_at dksX30_init_0 10 rfl rfl)
theorem dX30_init_11 : decode cX30_init 11 = .ok (.putfield 13, 3) := dk_181 0 13 (dk_at dksX30_init_0 11 rfl rfl)
theorem dX30_init_14 : decode cX30_init 14 = .ok (.aload_n 0, 1) := dk_42 (dk_at dksX30_init_0 14 rfl rfl)
theorem dX30_init_15 : decode cX30_init 15 = .ok (.iload_n 3, 1) := dk_29 (dk_at dksX30_init_0 15 rfl rfl)
theorem dX30_init_16 : decode cX30_init 16 = .ok (.putfield 16, 3) := dk_181 0 16 (dk_at dksX30_init_0 16 rfl rfl)
theorem dX30_init_19 : decode cX30_init 19 = .ok (.return_, 1) := dk_177 (dk_at dksX30_init_0 19 rfl rfl)
abbrev cX30_holds : ByteArray := prog_26_method_2_code
def yX30_holds : MethodName := ⟨RX30, "holds", "(LInchBorders$Times;I)Z"⟩
def dkwX30_holds_4 : List UInt8 := [4, 167, 0, 20, 3, 167, 0, 16, 29, 42, 180, 0, 16, 164, 0, 7, 4, 167, 0, 4, 3, 172]
abbrev dktX30_holds_4 : List UInt8 := dkwX30_holds_4 ++ []
def dkwX30_holds_3 : List UInt8 := [167, 0, 45, 3, 167, 0, 41, 42, 180, 0, 13, 16, 61, 160, 0, 19, 29, 42, 180, 0, 16, 160, 0, 7]
abbrev dktX30_holds_3 : List UInt8 := dkwX30_holds_3 ++ dktX30_holds_4
def dkwX30_holds_2 : List UInt8 := [167, 0, 4, 28, 62, 42, 180, 0, 13, 16, 60, 160, 0, 19, 29, 42, 180, 0, 16, 162, 0, 7, 4]
abbrev dktX30_holds_2 : List UInt8 := dkwX30_holds_2 ++ dktX30_holds_3
def dkwX30_holds_1 : List UInt8 := [43, 180, 0, 25, 28, 46, 167, 0, 21, 42, 180, 0, 7, 5, 160, 0, 12, 43, 180, 0, 28, 28, 46]
abbrev dktX30_holds_1 : List UInt8 := dkwX30_holds_1 ++ dktX30_holds_2
def dkwX30_holds_0 : List UInt8 := [42, 180, 0, 7, 154, 0, 12, 43, 180, 0, 19, 28, 46, 167, 0, 38, 42, 180, 0, 7, 4, 160, 0, 12]
abbrev dktX30_holds_0 : List UInt8 := dkwX30_holds_0 ++ dktX30_holds_1
theorem dksX30_holds_0 : cX30_holds.data.toList.drop 0 = dktX30_holds_0 := by decide +kernel
theorem dksX30_holds_1 : cX30_holds.data.toList.drop 24 = dktX30_holds_1 := dk_seg dksX30_holds_0 24 rfl rfl
theorem dksX30_holds_2 : cX30_holds.data.toList.drop 47 = dktX30_holds_2 := dk_seg dksX30_holds_1 23 rfl rfl
theorem dksX30_holds_3 : cX30_holds.data.toList.drop 70 = dktX30_holds_3 := dk_seg dksX30_holds_2 23 rfl rfl
theorem dksX30_holds_4 : cX30_holds.data.toList.drop 94 = dktX30_holds_4 := dk_seg dksX30_holds_3 24 rfl rfl
theorem dX30_holds_0 : decode cX30_holds 0 = .ok (.aload_n 0, 1) := dk_42 (dk_at dksX30_holds_0 0 rfl rfl)
theorem dX30_holds_1 : decode cX30_holds 1 = .ok (.getfield 7, 3) := dk_180 0 7 (dk_at dksX30_holds_0 1 rfl rfl)
theorem dX30_holds_4 : decode cX30_holds 4 = .ok (.ifCond .ne 12, 3) := dk_154 0 12 (dk_at dksX30_holds_0 4 rfl rfl)
theorem dX30_holds_7 : decode cX30_holds 7 = .ok (.aload_n 1, 1) := dk_43 (dk_at dksX30_holds_0 7 rfl rfl)
theorem dX30_holds_8 : decode cX30_holds 8 = .ok (.getfield 19, 3) := dk_180 0 19 (dk_at dksX30_holds_0 8 rfl rfl)
theorem dX30_holds_11 : decode cX30_holds 11 = .ok (.iload_n 2, 1) := dk_28 (dk_at dksX30_holds_0 11 rfl rfl)
theorem dX30_holds_12 : decode cX30_holds 12 = .ok (.iaload, 1) := dk_46 (dk_at dksX30_holds_0 12 rfl rfl)
theorem dX30_holds_13 : decode cX30_holds 13 = .ok (.goto 38, 3) := dk_167 0 38 (dk_at dksX30_holds_0 13 rfl rfl)
theorem dX30_holds_16 : decode cX30_holds 16 = .ok (.aload_n 0, 1) := dk_42 (dk_at dksX30_holds_0 16 rfl rfl)
theorem dX30_holds_17 : decode cX30_holds 17 = .ok (.getfield 7, 3) := dk_180 0 7 (dk_at dksX30_holds_0 17 rfl rfl)
theorem dX30_holds_20 : decode cX30_holds 20 = .ok (.iconst 1, 1) := dk_4 (dk_at dksX30_holds_0 20 rfl rfl)
theorem dX30_holds_21 : decode cX30_holds 21 = .ok (.if_icmp .ne 12, 3) := dk_160 0 12 (dk_at dksX30_holds_0 21 rfl rfl)
theorem dX30_holds_24 : decode cX30_holds 24 = .ok (.aload_n 1, 1) := dk_43 (dk_at dksX30_holds_1 0 rfl rfl)
theorem dX30_holds_25 : decode cX30_holds 25 = .ok (.getfield 25, 3) := dk_180 0 25 (dk_at dksX30_holds_1 1 rfl rfl)
theorem dX30_holds_28 : decode cX30_holds 28 = .ok (.iload_n 2, 1) := dk_28 (dk_at dksX30_holds_1 4 rfl rfl)
theorem dX30_holds_29 : decode cX30_holds 29 = .ok (.iaload, 1) := dk_46 (dk_at dksX30_holds_1 5 rfl rfl)
theorem dX30_holds_30 : decode cX30_holds 30 = .ok (.goto 21, 3) := dk_167 0 21 (dk_at dksX30_holds_1 6 rfl rfl)
theorem dX30_holds_33 : decode cX30_holds 33 = .ok (.aload_n 0, 1) := dk_42 (dk_at dksX30_holds_1 9 rfl rfl)
theorem dX30_holds_34 : decode cX30_holds 34 = .ok (.getfield 7, 3) := dk_180 0 7 (dk_at dksX30_holds_1 10 rfl rfl)
theorem dX30_holds_37 : decode cX30_holds 37 = .ok (.iconst 2, 1) := dk_5 (dk_at dksX30_holds_1 13 rfl rfl)
theorem dX30_holds_38 : decode cX30_holds 38 = .ok (.if_icmp .ne 12, 3) := dk_160 0 12 (dk_at dksX30_holds_1 14 rfl rfl)
theorem dX30_holds_41 : decode cX30_holds 41 = .ok (.aload_n 1, 1) := dk_43 (dk_at dksX30_holds_1 17 rfl rfl)
theorem dX30_holds_42 : decode cX30_holds 42 = .ok (.getfield 28, 3) := dk_180 0 28 (dk_at dksX30_holds_1 18 rfl rfl)
theorem dX30_holds_45 : decode cX30_holds 45 = .ok (.iload_n 2, 1) := dk_28 (dk_at dksX30_holds_1 21 rfl rfl)
theorem dX30_holds_46 : decode cX30_holds 46 = .ok (.iaload, 1) := dk_46 (dk_at dksX30_holds_1 22 rfl rfl)
theorem dX30_holds_47 : decode cX30_holds 47 = .ok (.goto 4, 3) := dk_167 0 4 (dk_at dksX30_holds_2 0 rfl rfl)
theorem dX30_holds_50 : decode cX30_holds 50 = .ok (.iload_n 2, 1) := dk_28 (dk_at dksX30_holds_2 3 rfl rfl)
theorem dX30_holds_51 : decode cX30_holds 51 = .ok (.istore_n 3, 1) := dk_62 (dk_at dksX30_holds_2 4 rfl rfl)
theorem dX30_holds_52 : decode cX30_holds 52 = .ok (.aload_n 0, 1) := dk_42 (dk_at dksX30_holds_2 5 rfl rfl)
theorem dX30_holds_53 : decode cX30_holds 53 = .ok (.getfield 13, 3) := dk_180 0 13 (dk_at dksX30_holds_2 6 rfl rfl)
theorem dX30_holds_56 : decode cX30_holds 56 = .ok (.bipush 60, 2) := dk_16 60 (dk_at dksX30_holds_2 9 rfl rfl)
theorem dX30_holds_58 : decode cX30_holds 58 = .ok (.if_icmp .ne 19, 3) := dk_160 0 19 (dk_at dksX30_holds_2 11 rfl rfl)
theorem dX30_holds_61 : decode cX30_holds 61 = .ok (.iload_n 3, 1) := dk_29 (dk_at dksX30_holds_2 14 rfl rfl)
theorem dX30_holds_62 : decode cX30_holds 62 = .ok (.aload_n 0, 1) := dk_42 (dk_at dksX30_holds_2 15 rfl rfl)
theorem dX30_holds_63 : decode cX30_holds 63 = .ok (.getfield 16, 3) := dk_180 0 16 (dk_at dksX30_holds_2 16 rfl rfl)
theorem dX30_holds_66 : decode cX30_holds 66 = .ok (.if_icmp .ge 7, 3) := dk_162 0 7 (dk_at dksX30_holds_2 19 rfl rfl)
theorem dX30_holds_69 : decode cX30_holds 69 = .ok (.iconst 1, 1) := dk_4 (dk_at dksX30_holds_2 22 rfl rfl)
theorem dX30_holds_70 : decode cX30_holds 70 = .ok (.goto 45, 3) := dk_167 0 45 (dk_at dksX30_holds_3 0 rfl rfl)
theorem dX30_holds_73 : decode cX30_holds 73 = .ok (.iconst 0, 1) := dk_3 (dk_at dksX30_holds_3 3 rfl rfl)
theorem dX30_holds_74 : decode cX30_holds 74 = .ok (.goto 41, 3) := dk_167 0 41 (dk_at dksX30_holds_3 4 rfl rfl)
theorem dX30_holds_77 : decode cX30_holds 77 = .ok (.aload_n 0, 1) := dk_42 (dk_at dksX30_holds_3 7 rfl rfl)
theorem dX30_holds_78 : decode cX30_holds 78 = .ok (.getfield 13, 3) := dk_180 0 13 (dk_at dksX30_holds_3 8 rfl rfl)
theorem dX30_holds_81 : decode cX30_holds 81 = .ok (.bipush 61, 2) := dk_16 61 (dk_at dksX30_holds_3 11 rfl rfl)
theorem dX30_holds_83 : decode cX30_holds 83 = .ok (.if_icmp .ne 19, 3) := dk_160 0 19 (dk_at dksX30_holds_3 13 rfl rfl)
theorem dX30_holds_86 : decode cX30_holds 86 = .ok (.iload_n 3, 1) := dk_29 (dk_at dksX30_holds_3 16 rfl rfl)
theorem dX30_holds_87 : decode cX30_holds 87 = .ok (.aload_n 0, 1) := dk_42 (dk_at dksX30_holds_3 17 rfl rfl)
theorem dX30_holds_88 : decode cX30_holds 88 = .ok (.getfield 16, 3) := dk_180 0 16 (dk_at dksX30_holds_3 18 rfl rfl)
theorem dX30_holds_91 : decode cX30_holds 91 = .ok (.if_icmp .ne 7, 3) := dk_160 0 7 (dk_at dksX30_holds_3 21 rfl rfl)
theorem dX30_holds_94 : decode cX30_holds 94 = .ok (.iconst 1, 1) := dk_4 (dk_at dksX30_holds_4 0 rfl rfl)
theorem dX30_holds_95 : decode cX30_holds 95 = .ok (.goto 20, 3) := dk_167 0 20 (dk_at dksX30_holds_4 1 rfl rfl)
theorem dX30_holds_98 : decode cX30_holds 98 = .ok (.iconst 0, 1) := dk_3 (dk_at dksX30_holds_4 4 rfl rfl)
theorem dX30_holds_99 : decode cX30_holds 99 = .ok (.goto 16, 3) := dk_167 0 16 (dk_at dksX30_holds_4 5 rfl rfl)
theorem dX30_holds_102 : decode cX30_holds 102 = .ok (.iload_n 3, 1) := dk_29 (dk_at dksX30_holds_4 8 rfl rfl)
theorem dX30_holds_103 : decode cX30_holds 103 = .ok (.aload_n 0, 1) := dk_42 (dk_at dksX30_holds_4 9 rfl rfl)
theorem dX30_holds_104 : decode cX30_holds 104 = .ok (.getfield 16, 3) := dk_180 0 16 (dk_at dksX30_holds_4 10 rfl rfl)
theorem dX30_holds_107 : decode cX30_holds 107 = .ok (.if_icmp .le 7, 3) := dk_164 0 7 (dk_at dksX30_holds_4 13 rfl rfl)
theorem dX30_holds_110 : decode cX30_holds 110 = .ok (.iconst 1, 1) := dk_4 (dk_at dksX30_holds_4 16 rfl rfl)
theorem dX30_holds_111 : decode cX30_holds 111 = .ok (.goto 4, 3) := dk_167 0 4 (dk_at dksX30_holds_4 17 rfl rfl)
theorem dX30_holds_114 : decode cX30_holds 114 = .ok (.iconst 0, 1) := dk_3 (dk_at dksX30_holds_4 20 rfl rfl)
theorem dX30_holds_115 : decode cX30_holds 115 = .ok (.ireturn, 1) := dk_172 (dk_at dksX30_holds_4 21 rfl rfl)
theorem q161 : (Jvm.Cond.initialized "InchBorders$Than") ∈ lw_all := lw_g (lw_at lw_m1 50 rfl) rfl
theorem q265 : (Jvm.Cond.fieldLinkNest "InchBorders$Than" (19 : Nat) "InchBorders$Times" "tall" "[I" "InchBorders") ∈ lw_tbl := lw_at lw_m1 154 rfl
theorem q269 : (Jvm.Cond.fieldLinkNest "InchBorders$Than" (25 : Nat) "InchBorders$Times" "taken" "[I" "InchBorders") ∈ lw_tbl := lw_at lw_m1 158 rfl
theorem q274 : (Jvm.Cond.fieldLinkNest "InchBorders$Than" (28 : Nat) "InchBorders$Times" "crossed" "[I" "InchBorders") ∈ lw_tbl := lw_at lw_m1 163 rfl
theorem q1008 : (Jvm.Cond.selects "InchBorders$Than" ({ cls := "java/lang/Object", name := "getClass", desc := "()Ljava/lang/Class;" } : Jvm.MethodName) ({ cls := "java/lang/Object", name := "getClass", desc := "()Ljava/lang/Class;" } : Jvm.MethodName)) ∈ lw_all := lw_g (lw_at lw_m4 177 rfl) rfl
theorem q1910 : (Jvm.Cond.instantiable "InchBorders$Than" (3 : Nat)) ∈ lw_all := lw_g (lw_at lw_m8 119 rfl) rfl
theorem q1915 : (Jvm.Cond.instanceMethod ({ cls := "InchBorders$Than", name := "<init>", desc := "(III)V" } : Jvm.MethodName)) ∈ lw_all := lw_g (lw_at lw_m8 124 rfl) rfl
theorem q1916 : (Jvm.Cond.code ({ cls := "InchBorders$Than", name := "<init>", desc := "(III)V" } : Jvm.MethodName) prog_26_method_1_code (4 : Nat) (Option.none : Option Jvm.ClassFile.FieldType)) ∈ lw_all := lw_g (lw_at lw_m8 125 rfl) rfl
theorem q1917 : (Jvm.Cond.methodLinkNest "InchBorders$Than" (1 : Nat) ({ cls := "InchBorders$Cond", name := "<init>", desc := "()V" } : Jvm.MethodName) "InchBorders") ∈ lw_tbl := lw_at lw_m8 126 rfl
theorem q1918 : (Jvm.Cond.fieldLink "InchBorders$Than" (7 : Nat) "InchBorders$Than" "what" "I") ∈ lw_all := lw_g (lw_at lw_m8 127 rfl) rfl
theorem q1919 : (Jvm.Cond.fieldLink "InchBorders$Than" (13 : Nat) "InchBorders$Than" "sign" "I") ∈ lw_all := lw_g (lw_at lw_m8 128 rfl) rfl
theorem q1920 : (Jvm.Cond.fieldLink "InchBorders$Than" (16 : Nat) "InchBorders$Than" "number" "I") ∈ lw_all := lw_g (lw_at lw_m8 129 rfl) rfl
theorem q1921 : (Jvm.Cond.laysFinal "InchBorders$Than" "InchBorders$Than" "what" "I") ∈ lw_all := lw_g (lw_at lw_m8 130 rfl) rfl
theorem q1922 : (Jvm.Cond.soleField "InchBorders$Than" "what") ∈ lw_all := lw_g (lw_at lw_m8 131 rfl) rfl
theorem q1923 : (Jvm.Cond.laysFinal "InchBorders$Than" "InchBorders$Than" "sign" "I") ∈ lw_all := lw_g (lw_at lw_m8 132 rfl) rfl
theorem q1924 : (Jvm.Cond.soleField "InchBorders$Than" "sign") ∈ lw_all := lw_g (lw_at lw_m8 133 rfl) rfl
theorem q1925 : (Jvm.Cond.laysFinal "InchBorders$Than" "InchBorders$Than" "number" "I") ∈ lw_all := lw_g (lw_at lw_m8 134 rfl) rfl
theorem q1926 : (Jvm.Cond.soleField "InchBorders$Than" "number") ∈ lw_all := lw_g (lw_at lw_m8 135 rfl) rfl
theorem q1927 : (Jvm.Cond.superclass "InchBorders$Than" "InchBorders$Cond") ∈ lw_all := lw_g (lw_at lw_m8 136 rfl) rfl
theorem q1966 : (Jvm.Cond.instanceMethod ({ cls := "InchBorders$Than", name := "holds", desc := "(LInchBorders$Times;I)Z" } : Jvm.MethodName)) ∈ lw_all := lw_g (lw_at lw_m8 175 rfl) rfl
theorem q1967 : (Jvm.Cond.code ({ cls := "InchBorders$Than", name := "holds", desc := "(LInchBorders$Times;I)Z" } : Jvm.MethodName) prog_26_method_2_code (4 : Nat) (Option.some Jvm.ClassFile.FieldType.boolean)) ∈ lw_all := lw_g (lw_at lw_m8 176 rfl) rfl
theorem q1972 : (Jvm.Cond.selects "InchBorders$Than" ({ cls := "InchBorders$Cond", name := "holds", desc := "(LInchBorders$Times;I)Z" } : Jvm.MethodName) ({ cls := "InchBorders$Than", name := "holds", desc := "(LInchBorders$Times;I)Z" } : Jvm.MethodName)) ∈ lw_all := lw_g (lw_at lw_m8 181 rfl) rfl
theorem q2758 : (Jvm.Cond.castable "InchBorders$Than" "java/lang/Object") ∈ lw_tbl := lw_at lw_m12 7 rfl
theorem in_X30 : ∀ w ∈ wsX300, w ∈ lw_all := lw_in wsX300 [1921, 1923, 1925] (by decide +kernel) (by decide +kernel)
