/-! InchBorders$Two -/
set_option maxRecDepth 100000
def RX31 : String := "InchBorders$Two"
def TX31 : u_T := fun k => match k with
  | 0 => ("InchBorders$Two", "one", "LInchBorders$Cond;", true)
  | 1 => ("InchBorders$Two", "other", "LInchBorders$Cond;", true)
  | _ => ("InchBorders$Two", "both", "Z", true)
def tyX31 : Nat → FieldType := fun k => match k with
  | 0 => .object "InchBorders$Cond"
  | 1 => .object "InchBorders$Cond"
  | _ => .boolean
abbrev wsX310 : List Cond := u_ws RX31 TX31 3
theorem nmX31 : ∀ a, a < 3 → ∀ b, b < 3 → a ≠ b → (TX31 a).2.1 ≠ (TX31 b).2.1 := by decide +kernel
theorem tyX31_ok : ∀ k, k < 3 → parseFieldDescriptor (TX31 k).2.2.1 = some (tyX31 k) := by decide +kernel
abbrev cX31_init : ByteArray := prog_29_method_1_code
def yX31_init : MethodName := ⟨RX31, "<init>", "(LInchBorders$Cond;LInchBorders$Cond;Z)V"⟩
def dkwX31_init_0 : List UInt8 := [42, 183, 0, 1, 42, 43, 181, 0, 7, 42, 44, 181, 0, 13, 42, 29, 181, 0, 16, 177]
abbrev dktX31_init_0 : List UInt8 := dkwX31_init_0 ++ []
theorem dksX31_init_0 : cX31_init.data.toList.drop 0 = dktX31_init_0 := by decide +kernel
theorem dX31_init_0 : decode cX31_init 0 = .ok (.aload_n 0, 1) := dk_42 (dk_at dksX31_init_0 0 rfl rfl)
theorem dX31_init_1 : decode cX31_init 1 = .ok (.invokespecial 1, 3) := dk_183 0 1 (dk_at dksX31_init_0 1 rfl rfl)
theorem dX31_init_4 : decode cX31_init 4 = .ok (.aload_n 0, 1) := dk_42 (dk_at dksX31_init_0 4 rfl rfl)
theorem dX31_init_5 : decode cX31_init 5 = .ok (.aload_n 1, 1) := dk_43 (dk_at dksX31_init_0 5 rfl rfl)
theorem dX31_init_6 : decode cX31_init 6 = .ok (.putfield 7, 3) := dk_181 0 7 (dk_at dksX31_init_0 6 rfl rfl)
theorem dX31_init_9 : decode cX31_init 9 = .ok (.aload_n 0, 1) := dk_42 (dk_at dksX31_init_0 9 rfl rfl)
theorem dX31_init_10 : decode cX31_init 10 = .ok (.aload_n 2, 1) := dk_44 (dk_at dksX31_init_0 10 rfl rfl)
theorem dX31_init_11 : decode cX31_init 11 = .ok (.putfield 13, 3) := dk_181 0 13 (dk_at dksX31_init_0 11 rfl rfl)
theorem dX31_init_14 : decode cX31_init 14 = .ok (.aload_n 0, 1) := dk_42 (dk_at dksX31_init_0 14 rfl rfl)
theorem dX31_init_15 : decode cX31_init 15 = .ok (.iload_n 3, 1) := dk_29 (dk_at dksX31_init_0 15 rfl rfl)
theorem dX31_init_16 : decode cX31_init 16 = .ok (.putfield 16, 3) := dk_181 0 16 (dk_at dksX31_init_0 16 rfl rfl)
theorem dX31_init_19 : decode cX31_init 19 = .ok (.return_, 1) := dk_177 (dk_at dksX31_init_0 19 rfl rfl)
abbrev cX31_holds : ByteArray := prog_29_method_2_code
def yX31_holds : MethodName := ⟨RX31, "holds", "(LInchBorders$Times;I)Z"⟩
def dkwX31_holds_2 : List UInt8 := [154, 0, 15, 42, 180, 0, 13, 43, 28, 182, 0, 20, 153, 0, 7, 4, 167, 0, 4, 3, 172]
abbrev dktX31_holds_2 : List UInt8 := dkwX31_holds_2 ++ []
def dkwX31_holds_1 : List UInt8 := [28, 182, 0, 20, 153, 0, 7, 4, 167, 0, 36, 3, 167, 0, 32, 42, 180, 0, 7, 43, 28, 182, 0, 20]
abbrev dktX31_holds_1 : List UInt8 := dkwX31_holds_1 ++ dktX31_holds_2
def dkwX31_holds_0 : List UInt8 := [42, 180, 0, 16, 153, 0, 35, 42, 180, 0, 7, 43, 28, 182, 0, 20, 153, 0, 19, 42, 180, 0, 13, 43]
abbrev dktX31_holds_0 : List UInt8 := dkwX31_holds_0 ++ dktX31_holds_1
theorem dksX31_holds_0 : cX31_holds.data.toList.drop 0 = dktX31_holds_0 := by decide +kernel
theorem dksX31_holds_1 : cX31_holds.data.toList.drop 24 = dktX31_holds_1 := dk_seg dksX31_holds_0 24 rfl rfl
theorem dksX31_holds_2 : cX31_holds.data.toList.drop 48 = dktX31_holds_2 := dk_seg dksX31_holds_1 24 rfl rfl
theorem dX31_holds_0 : decode cX31_holds 0 = .ok (.aload_n 0, 1) := dk_42 (dk_at dksX31_holds_0 0 rfl rfl)
theorem dX31_holds_1 : decode cX31_holds 1 = .ok (.getfield 16, 3) := dk_180 0 16 (dk_at dksX31_holds_0 1 rfl rfl)
theorem dX31_holds_4 : decode cX31_holds 4 = .ok (.ifCond .eq 35, 3) := dk_153 0 35 (dk_at dksX31_holds_0 4 rfl rfl)
theorem dX31_holds_7 : decode cX31_holds 7 = .ok (.aload_n 0, 1) := dk_42 (dk_at dksX31_holds_0 7 rfl rfl)
theorem dX31_holds_8 : decode cX31_holds 8 = .ok (.getfield 7, 3) := dk_180 0 7 (dk_at dksX31_holds_0 8 rfl rfl)
theorem dX31_holds_11 : decode cX31_holds 11 = .ok (.aload_n 1, 1) := dk_43 (dk_at dksX31_holds_0 11 rfl rfl)
theorem dX31_holds_12 : decode cX31_holds 12 = .ok (.iload_n 2, 1) := dk_28 (dk_at dksX31_holds_0 12 rfl rfl)
theorem dX31_holds_13 : decode cX31_holds 13 = .ok (.invokevirtual 20, 3) := dk_182 0 20 (dk_at dksX31_holds_0 13 rfl rfl)
theorem dX31_holds_16 : decode cX31_holds 16 = .ok (.ifCond .eq 19, 3) := dk_153 0 19 (dk_at dksX31_holds_0 16 rfl rfl)
theorem dX31_holds_19 : decode cX31_holds 19 = .ok (.aload_n 0, 1) := dk_42 (dk_at dksX31_holds_0 19 rfl rfl)
theorem dX31_holds_20 : decode cX31_holds 20 = .ok (.getfield 13, 3) := dk_180 0 13 (dk_at dksX31_holds_0 20 rfl rfl)
theorem dX31_holds_23 : decode cX31_holds 23 = .ok (.aload_n 1, 1) := dk_43 (dk_at dksX31_holds_0 23 rfl rfl)
theorem dX31_holds_24 : decode cX31_holds 24 = .ok (.iload_n 2, 1) := dk_28 (dk_at dksX31_holds_1 0 rfl rfl)
theorem dX31_holds_25 : decode cX31_holds 25 = .ok (.invokevirtual 20, 3) := dk_182 0 20 (dk_at dksX31_holds_1 1 rfl rfl)
theorem dX31_holds_28 : decode cX31_holds 28 = .ok (.ifCond .eq 7, 3) := dk_153 0 7 (dk_at dksX31_holds_1 4 rfl rfl)
theorem dX31_holds_31 : decode cX31_holds 31 = .ok (.iconst 1, 1) := dk_4 (dk_at dksX31_holds_1 7 rfl rfl)
theorem dX31_holds_32 : decode cX31_holds 32 = .ok (.goto 36, 3) := dk_167 0 36 (dk_at dksX31_holds_1 8 rfl rfl)
theorem dX31_holds_35 : decode cX31_holds 35 = .ok (.iconst 0, 1) := dk_3 (dk_at dksX31_holds_1 11 rfl rfl)
theorem dX31_holds_36 : decode cX31_holds 36 = .ok (.goto 32, 3) := dk_167 0 32 (dk_at dksX31_holds_1 12 rfl rfl)
theorem dX31_holds_39 : decode cX31_holds 39 = .ok (.aload_n 0, 1) := dk_42 (dk_at dksX31_holds_1 15 rfl rfl)
theorem dX31_holds_40 : decode cX31_holds 40 = .ok (.getfield 7, 3) := dk_180 0 7 (dk_at dksX31_holds_1 16 rfl rfl)
theorem dX31_holds_43 : decode cX31_holds 43 = .ok (.aload_n 1, 1) := dk_43 (dk_at dksX31_holds_1 19 rfl rfl)
theorem dX31_holds_44 : decode cX31_holds 44 = .ok (.iload_n 2, 1) := dk_28 (dk_at dksX31_holds_1 20 rfl rfl)
theorem dX31_holds_45 : decode cX31_holds 45 = .ok (.invokevirtual 20, 3) := dk_182 0 20 (dk_at dksX31_holds_1 21 rfl rfl)
theorem dX31_holds_48 : decode cX31_holds 48 = .ok (.ifCond .ne 15, 3) := dk_154 0 15 (dk_at dksX31_holds_2 0 rfl rfl)
theorem dX31_holds_51 : decode cX31_holds 51 = .ok (.aload_n 0, 1) := dk_42 (dk_at dksX31_holds_2 3 rfl rfl)
theorem dX31_holds_52 : decode cX31_holds 52 = .ok (.getfield 13, 3) := dk_180 0 13 (dk_at dksX31_holds_2 4 rfl rfl)
theorem dX31_holds_55 : decode cX31_holds 55 = .ok (.aload_n 1, 1) := dk_43 (dk_at dksX31_holds_2 7 rfl rfl)
theorem dX31_holds_56 : decode cX31_holds 56 = .ok (.iload_n 2, 1) := dk_28 (dk_at dksX31_holds_2 8 rfl rfl)
theorem dX31_holds_57 : decode cX31_holds 57 = .ok (.invokevirtual 20, 3) := dk_182 0 20 (dk_at dksX31_holds_2 9 rfl rfl)
theorem dX31_holds_60 : decode cX31_holds 60 = .ok (.ifCond .eq 7, 3) := dk_153 0 7 (dk_at dksX31_holds_2 12 rfl rfl)
theorem dX31_holds_63 : decode cX31_holds 63 = .ok (.iconst 1, 1) := dk_4 (dk_at dksX31_holds_2 15 rfl rfl)
theorem dX31_holds_64 : decode cX31_holds 64 = .ok (.goto 4, 3) := dk_167 0 4 (dk_at dksX31_holds_2 16 rfl rfl)
theorem dX31_holds_67 : decode cX31_holds 67 = .ok (.iconst 0, 1) := dk_3 (dk_at dksX31_holds_2 19 rfl rfl)
theorem dX31_holds_68 : decode cX31_holds 68 = .ok (.ireturn, 1) := dk_172 (dk_at dksX31_holds_2 20 rfl rfl)
theorem q162 : (Jvm.Cond.initialized "InchBorders$Two") ∈ lw_all := lw_g (lw_at lw_m1 51 rfl) rfl
theorem q1011 : (Jvm.Cond.selects "InchBorders$Two" ({ cls := "java/lang/Object", name := "getClass", desc := "()Ljava/lang/Class;" } : Jvm.MethodName) ({ cls := "java/lang/Object", name := "getClass", desc := "()Ljava/lang/Class;" } : Jvm.MethodName)) ∈ lw_all := lw_g (lw_at lw_m4 180 rfl) rfl
theorem q1930 : (Jvm.Cond.instantiable "InchBorders$Two" (3 : Nat)) ∈ lw_all := lw_g (lw_at lw_m8 139 rfl) rfl
theorem q1932 : (Jvm.Cond.instanceMethod ({ cls := "InchBorders$Two", name := "<init>", desc := "(LInchBorders$Cond;LInchBorders$Cond;Z)V" } : Jvm.MethodName)) ∈ lw_all := lw_g (lw_at lw_m8 141 rfl) rfl
theorem q1933 : (Jvm.Cond.code ({ cls := "InchBorders$Two", name := "<init>", desc := "(LInchBorders$Cond;LInchBorders$Cond;Z)V" } : Jvm.MethodName) prog_29_method_1_code (4 : Nat) (Option.none : Option Jvm.ClassFile.FieldType)) ∈ lw_all := lw_g (lw_at lw_m8 142 rfl) rfl
theorem q1934 : (Jvm.Cond.methodLinkNest "InchBorders$Two" (1 : Nat) ({ cls := "InchBorders$Cond", name := "<init>", desc := "()V" } : Jvm.MethodName) "InchBorders") ∈ lw_tbl := lw_at lw_m8 143 rfl
theorem q1935 : (Jvm.Cond.fieldLink "InchBorders$Two" (7 : Nat) "InchBorders$Two" "one" "LInchBorders$Cond;") ∈ lw_all := lw_g (lw_at lw_m8 144 rfl) rfl
theorem q1936 : (Jvm.Cond.fieldLink "InchBorders$Two" (13 : Nat) "InchBorders$Two" "other" "LInchBorders$Cond;") ∈ lw_all := lw_g (lw_at lw_m8 145 rfl) rfl
theorem q1937 : (Jvm.Cond.fieldLink "InchBorders$Two" (16 : Nat) "InchBorders$Two" "both" "Z") ∈ lw_all := lw_g (lw_at lw_m8 146 rfl) rfl
theorem q1938 : (Jvm.Cond.laysFinal "InchBorders$Two" "InchBorders$Two" "one" "LInchBorders$Cond;") ∈ lw_all := lw_g (lw_at lw_m8 147 rfl) rfl
theorem q1939 : (Jvm.Cond.soleField "InchBorders$Two" "one") ∈ lw_all := lw_g (lw_at lw_m8 148 rfl) rfl
theorem q1940 : (Jvm.Cond.laysFinal "InchBorders$Two" "InchBorders$Two" "other" "LInchBorders$Cond;") ∈ lw_all := lw_g (lw_at lw_m8 149 rfl) rfl
theorem q1941 : (Jvm.Cond.soleField "InchBorders$Two" "other") ∈ lw_all := lw_g (lw_at lw_m8 150 rfl) rfl
theorem q1942 : (Jvm.Cond.laysFinal "InchBorders$Two" "InchBorders$Two" "both" "Z") ∈ lw_all := lw_g (lw_at lw_m8 151 rfl) rfl
theorem q1943 : (Jvm.Cond.soleField "InchBorders$Two" "both") ∈ lw_all := lw_g (lw_at lw_m8 152 rfl) rfl
theorem q1944 : (Jvm.Cond.superclass "InchBorders$Two" "InchBorders$Cond") ∈ lw_all := lw_g (lw_at lw_m8 153 rfl) rfl
theorem q1968 : (Jvm.Cond.instanceMethod ({ cls := "InchBorders$Two", name := "holds", desc := "(LInchBorders$Times;I)Z" } : Jvm.MethodName)) ∈ lw_all := lw_g (lw_at lw_m8 177 rfl) rfl
theorem q1969 : (Jvm.Cond.code ({ cls := "InchBorders$Two", name := "holds", desc := "(LInchBorders$Times;I)Z" } : Jvm.MethodName) prog_29_method_2_code (3 : Nat) (Option.some Jvm.ClassFile.FieldType.boolean)) ∈ lw_all := lw_g (lw_at lw_m8 178 rfl) rfl
theorem q1970 : (Jvm.Cond.methodLink "InchBorders$Two" (20 : Nat) ({ cls := "InchBorders$Cond", name := "holds", desc := "(LInchBorders$Times;I)Z" } : Jvm.MethodName)) ∈ lw_all := lw_g (lw_at lw_m8 179 rfl) rfl
theorem q1973 : (Jvm.Cond.selects "InchBorders$Two" ({ cls := "InchBorders$Cond", name := "holds", desc := "(LInchBorders$Times;I)Z" } : Jvm.MethodName) ({ cls := "InchBorders$Two", name := "holds", desc := "(LInchBorders$Times;I)Z" } : Jvm.MethodName)) ∈ lw_all := lw_g (lw_at lw_m8 182 rfl) rfl
theorem q2759 : (Jvm.Cond.castable "InchBorders$Two" "java/lang/Object") ∈ lw_tbl := lw_at lw_m12 8 rfl
theorem in_X31 : ∀ w ∈ wsX310, w ∈ lw_all := lw_in wsX310 [1938, 1940, 1942] (by decide +kernel) (by decide +kernel)

/-! InchBorders$Kept -/
set_option maxRecDepth 100000
def RX4 : String := "InchBorders$Kept"
def TX4 : u_T := fun k => match k with
  | 0 => ("InchBorders$Kept", "atlas", "LInchBorders$Atlas;", false)
  | 1 => ("InchBorders$Kept", "sentence", "LInchBorders$Cond;", false)
  | _ => ("InchBorders$Kept", "times", "LInchBorders$Times;", true)
def tyX4 : Nat → FieldType := fun k => match k with
  | 0 => .object "InchBorders$Atlas"
  | 1 => .object "InchBorders$Cond"
  | _ => .object "InchBorders$Times"
abbrev wsX40 : List Cond := u_ws RX4 TX4 3
theorem nmX4 : ∀ a, a < 3 → ∀ b, b < 3 → a ≠ b → (TX4 a).2.1 ≠ (TX4 b).2.1 := by decide +kernel
theorem tyX4_ok : ∀ k, k < 3 → parseFieldDescriptor (TX4 k).2.2.1 = some (tyX4 k) := by decide +kernel
abbrev cX4_init : ByteArray := prog_12_method_1_code
def yX4_init : MethodName := ⟨RX4, "<init>", "()V"⟩
def dkwX4_init_0 : List UInt8 := [42, 183, 0, 1, 42, 187, 0, 7, 89, 183, 0, 9, 181, 0, 10, 177]
abbrev dktX4_init_0 : List UInt8 := dkwX4_init_0 ++ []
theorem dksX4_init_0 : cX4_init.data.toList.drop 0 = dktX4_init_0 := by decide +kernel
theorem dX4_init_0 : decode cX4_init 0 = .ok (.aload_n 0, 1) := dk_42 (dk_at dksX4_init_0 0 rfl rfl)
theorem dX4_init_1 : decode cX4_init 1 = .ok (.invokespecial 1, 3) := dk_183 0 1 (dk_at dksX4_init_0 1 rfl rfl)
theorem dX4_init_4 : decode cX4_init 4 = .ok (.aload_n 0, 1) := dk_42 (dk_at dksX4_init_0 4 rfl rfl)
theorem dX4_init_5 : decode cX4_init 5 = .ok (.new 7, 3) := dk_187 0 7 (dk_at dksX4_init_0 5 rfl rfl)
theorem dX4_init_8 : decode cX4_init 8 = .ok (.dup, 1) := dk_89 (dk_at dksX4_init_0 8 rfl rfl)
theorem dX4_init_9 : decode cX4_init 9 = .ok (.invokespecial 9, 3) := dk_183 0 9 (dk_at dksX4_init_0 9 rfl rfl)
theorem dX4_init_12 : decode cX4_init 12 = .ok (.putfield 10, 3) := dk_181 0 10 (dk_at dksX4_init_0 12 rfl rfl)
theorem dX4_init_15 : decode cX4_init 15 = .ok (.return_, 1) := dk_177 (dk_at dksX4_init_0 15 rfl rfl)
theorem q121 : (Jvm.Cond.initialized "InchBorders$Kept") ∈ lw_all := lw_g (lw_at lw_m1 10 rfl) rfl
theorem q351 : (Jvm.Cond.instantiable "InchBorders$Kept" (3 : Nat)) ∈ lw_all := lw_g (lw_at lw_m2 0 rfl) rfl
theorem q353 : (Jvm.Cond.instanceMethod ({ cls := "InchBorders$Kept", name := "<init>", desc := "()V" } : Jvm.MethodName)) ∈ lw_all := lw_g (lw_at lw_m2 2 rfl) rfl
theorem q354 : (Jvm.Cond.code ({ cls := "InchBorders$Kept", name := "<init>", desc := "()V" } : Jvm.MethodName) prog_12_method_1_code (1 : Nat) (Option.none : Option Jvm.ClassFile.FieldType)) ∈ lw_all := lw_g (lw_at lw_m2 3 rfl) rfl
theorem q355 : (Jvm.Cond.methodLink "InchBorders$Kept" (1 : Nat) ({ cls := "java/lang/Object", name := "<init>", desc := "()V" } : Jvm.MethodName)) ∈ lw_all := lw_g (lw_at lw_m2 4 rfl) rfl
theorem q356 : (Jvm.Cond.classLink "InchBorders$Kept" (7 : Nat) "InchBorders$Times") ∈ lw_all := lw_g (lw_at lw_m2 5 rfl) rfl
theorem q357 : (Jvm.Cond.methodLinkNest "InchBorders$Kept" (9 : Nat) ({ cls := "InchBorders$Times", name := "<init>", desc := "()V" } : Jvm.MethodName) "InchBorders") ∈ lw_tbl := lw_at lw_m2 6 rfl
theorem q360 : (Jvm.Cond.fieldLink "InchBorders$Kept" (10 : Nat) "InchBorders$Kept" "times" "LInchBorders$Times;") ∈ lw_all := lw_g (lw_at lw_m2 9 rfl) rfl
theorem q362 : (Jvm.Cond.lays "InchBorders$Kept" "InchBorders$Kept" "atlas" "LInchBorders$Atlas;") ∈ lw_all := lw_g (lw_at lw_m2 11 rfl) rfl
theorem q363 : (Jvm.Cond.soleField "InchBorders$Kept" "atlas") ∈ lw_all := lw_g (lw_at lw_m2 12 rfl) rfl
theorem q364 : (Jvm.Cond.lays "InchBorders$Kept" "InchBorders$Kept" "sentence" "LInchBorders$Cond;") ∈ lw_all := lw_g (lw_at lw_m2 13 rfl) rfl
theorem q365 : (Jvm.Cond.soleField "InchBorders$Kept" "sentence") ∈ lw_all := lw_g (lw_at lw_m2 14 rfl) rfl
theorem q366 : (Jvm.Cond.laysFinal "InchBorders$Kept" "InchBorders$Kept" "times" "LInchBorders$Times;") ∈ lw_all := lw_g (lw_at lw_m2 15 rfl) rfl
theorem q367 : (Jvm.Cond.soleField "InchBorders$Kept" "times") ∈ lw_all := lw_g (lw_at lw_m2 16 rfl) rfl
theorem q368 : (Jvm.Cond.superclass "InchBorders$Kept" "java/lang/Object") ∈ lw_all := lw_g (lw_at lw_m2 17 rfl) rfl
theorem q997 : (Jvm.Cond.selects "InchBorders$Kept" ({ cls := "java/lang/Object", name := "getClass", desc := "()Ljava/lang/Class;" } : Jvm.MethodName) ({ cls := "java/lang/Object", name := "getClass", desc := "()Ljava/lang/Class;" } : Jvm.MethodName)) ∈ lw_all := lw_g (lw_at lw_m4 166 rfl) rfl
theorem q2732 : (Jvm.Cond.castable "InchBorders$Kept" "java/lang/Object") ∈ lw_tbl := lw_at lw_m11 221 rfl
theorem in_X4 : ∀ w ∈ wsX40, w ∈ lw_all := lw_in wsX40 [362, 364, 366] (by decide +kernel) (by decide +kernel)

/-! InchBorders$Reader -/
set_option maxRecDepth 100000
def RX6 : String := "InchBorders$Reader"
abbrev cX6_init : ByteArray := prog_23_method_1_code
def yX6_init : MethodName := ⟨RX6, "<init>", "([BII)V"⟩
def dkwX6_init_1 : List UInt8 := [181, 0, 25, 177]
abbrev dktX6_init_1 : List UInt8 := dkwX6_init_1 ++ []
def dkwX6_init_0 : List UInt8 := [42, 183, 0, 3, 42, 18, 9, 181, 0, 11, 42, 43, 181, 0, 17, 42, 28, 181, 0, 21, 42, 29]
abbrev dktX6_init_0 : List UInt8 := dkwX6_init_0 ++ dktX6_init_1
theorem dksX6_init_0 : cX6_init.data.toList.drop 0 = dktX6_init_0 := by decide +kernel
theorem dksX6_init_1 : cX6_init.data.toList.drop 22 = dktX6_init_1 := dk_seg dksX6_init_0 22 rfl rfl
theorem dX6_init_0 : decode cX6_init 0 = .ok (.aload_n 0, 1) := dk_42 (dk_at dksX6_init_0 0 rfl rfl)
theorem dX6_init_1 : decode cX6_init 1 = .ok (.invokespecial 3, 3) := dk_183 0 3 (dk_at dksX6_init_0 1 rfl rfl)
theorem dX6_init_4 : decode cX6_init 4 = .ok (.aload_n 0, 1) := dk_42 (dk_at dksX6_init_0 4 rfl rfl)
theorem dX6_init_5 : decode cX6_init 5 = .ok (.ldc 9, 2) := dk_18 9 (dk_at dksX6_init_0 5 rfl rfl)
theorem dX6_init_7 : decode cX6_init 7 = .ok (.putfield 11, 3) := dk_181 0 11 (dk_at dksX6_init_0 7 rfl rfl)
theorem dX6_init_10 : decode cX6_init 10 = .ok (.aload_n 0, 1) := dk_42 (dk_at dksX6_init_0 10 rfl rfl)
theorem dX6_init_11 : decode cX6_init 11 = .ok (.aload_n 1, 1) := dk_43 (dk_at dksX6_init_0 11 rfl rfl)
theorem dX6_init_12 : decode cX6_init 12 = .ok (.putfield 17, 3) := dk_181 0 17 (dk_at dksX6_init_0 12 rfl rfl)
theorem dX6_init_15 : decode cX6_init 15 = .ok (.aload_n 0, 1) := dk_42 (dk_at dksX6_init_0 15 rfl rfl)
theorem dX6_init_16 : decode cX6_init 16 = .ok (.iload_n 2, 1) := dk_28 (dk_at dksX6_init_0 16 rfl rfl)
theorem dX6_init_17 : decode cX6_init 17 = .ok (.putfield 21, 3) := dk_181 0 21 (dk_at dksX6_init_0 17 rfl rfl)
theorem dX6_init_20 : decode cX6_init 20 = .ok (.aload_n 0, 1) := dk_42 (dk_at dksX6_init_0 20 rfl rfl)
theorem dX6_init_21 : decode cX6_init 21 = .ok (.iload_n 3, 1) := dk_29 (dk_at dksX6_init_0 21 rfl rfl)
theorem dX6_init_22 : decode cX6_init 22 = .ok (.putfield 25, 3) := dk_181 0 25 (dk_at dksX6_init_1 0 rfl rfl)
theorem dX6_init_25 : decode cX6_init 25 = .ok (.return_, 1) := dk_177 (dk_at dksX6_init_1 3 rfl rfl)
abbrev cX6_go : ByteArray := prog_23_method_5_code
def yX6_go : MethodName := ⟨RX6, "go", "()V"⟩
def dkwX6_go_17 : List UInt8 := [153, 0, 7, 5, 167, 0, 4, 6, 181, 0, 38, 177]
abbrev dktX6_go_17 : List UInt8 := dkwX6_go_17 ++ []
def dkwX6_go_16 : List UInt8 := [180, 0, 35, 100, 28, 153, 0, 8, 16, 7, 167, 0, 4, 6, 164, 0, 7, 4, 167, 0, 12, 28]
abbrev dktX6_go_16 : List UInt8 := dkwX6_go_16 ++ dktX6_go_17
def dkwX6_go_15 : List UInt8 := [167, 255, 128, 42, 25, 4, 182, 0, 61, 181, 0, 11, 42, 29, 153, 0, 25, 42, 180, 0, 28, 42]
abbrev dktX6_go_15 : List UInt8 := dkwX6_go_15 ++ dktX6_go_16
def dkwX6_go_14 : List UInt8 := [180, 0, 28, 182, 0, 31, 96, 16, 48, 100, 181, 0, 51, 42, 89, 180, 0, 28, 4, 96, 181, 0, 28]
abbrev dktX6_go_14 : List UInt8 := dkwX6_go_14 ++ dktX6_go_15
def dkwX6_go_13 : List UInt8 := [42, 180, 0, 28, 42, 180, 0, 35, 100, 6, 162, 0, 26, 42, 16, 10, 42, 180, 0, 51, 104, 42, 42]
abbrev dktX6_go_13 : List UInt8 := dkwX6_go_13 ++ dktX6_go_14
def dkwX6_go_12 : List UInt8 := [180, 0, 35, 100, 16, 7, 162, 0, 18, 25, 4, 42, 42, 180, 0, 28, 182, 0, 31, 146, 182, 0, 57, 87]
abbrev dktX6_go_12 : List UInt8 := dkwX6_go_12 ++ dktX6_go_13
def dkwX6_go_11 : List UInt8 := [180, 0, 28, 182, 0, 31, 184, 0, 41, 28, 160, 0, 7, 4, 167, 0, 4, 3, 62, 42, 180, 0, 28, 42]
abbrev dktX6_go_11 : List UInt8 := dkwX6_go_11 ++ dktX6_go_12
def dkwX6_go_10 : List UInt8 := [154, 0, 17, 42, 42, 180, 0, 28, 182, 0, 31, 184, 0, 45, 153, 0, 106, 29, 153, 0, 22, 42, 42]
abbrev dktX6_go_10 : List UInt8 := dkwX6_go_10 ++ dktX6_go_11
def dkwX6_go_9 : List UInt8 := [3, 181, 0, 51, 187, 0, 54, 89, 183, 0, 56, 58, 4, 42, 42, 180, 0, 28, 182, 0, 31, 184, 0, 41]
abbrev dktX6_go_9 : List UInt8 := dkwX6_go_9 ++ dktX6_go_10
def dkwX6_go_8 : List UInt8 := [42, 27, 181, 0, 48, 42, 89, 180, 0, 28, 4, 96, 181, 0, 28, 177, 27, 184, 0, 41, 61, 4, 62, 42]
abbrev dktX6_go_8 : List UInt8 := dkwX6_go_8 ++ dktX6_go_9
def dkwX6_go_7 : List UInt8 := [159, 0, 15, 27, 16, 40, 159, 0, 9, 27, 16, 41, 160, 0, 8, 16, 6, 167, 0, 4, 4, 181, 0, 38]
abbrev dktX6_go_7 : List UInt8 := dkwX6_go_7 ++ dktX6_go_8
def dkwX6_go_6 : List UInt8 := [160, 0, 7, 7, 167, 0, 39, 27, 16, 60, 159, 0, 27, 27, 16, 61, 159, 0, 21, 27, 16, 62]
abbrev dktX6_go_6 : List UInt8 := dkwX6_go_6 ++ dktX6_go_7
def dkwX6_go_5 : List UInt8 := [182, 0, 31, 60, 27, 184, 0, 41, 154, 0, 76, 27, 184, 0, 45, 154, 0, 69, 42, 27, 16, 59]
abbrev dktX6_go_5 : List UInt8 := dkwX6_go_5 ++ dktX6_go_6
def dkwX6_go_4 : List UInt8 := [42, 180, 0, 28, 42, 180, 0, 21, 161, 0, 9, 42, 3, 181, 0, 38, 177, 42, 42, 180, 0, 28]
abbrev dktX6_go_4 : List UInt8 := dkwX6_go_4 ++ dktX6_go_5
def dkwX6_go_3 : List UInt8 := [180, 0, 35, 42, 180, 0, 25, 161, 0, 17, 42, 42, 180, 0, 25, 181, 0, 35, 42, 8, 181, 0, 38, 177]
abbrev dktX6_go_3 : List UInt8 := dkwX6_go_3 ++ dktX6_go_4
def dkwX6_go_2 : List UInt8 := [167, 255, 209, 42, 42, 180, 0, 28, 181, 0, 35, 42, 180, 0, 21, 42, 180, 0, 25, 164, 0, 28, 42]
abbrev dktX6_go_2 : List UInt8 := dkwX6_go_2 ++ dktX6_go_3
def dkwX6_go_1 : List UInt8 := [42, 42, 180, 0, 28, 182, 0, 31, 16, 10, 160, 0, 16, 42, 89, 180, 0, 28, 4, 96, 181, 0, 28]
abbrev dktX6_go_1 : List UInt8 := dkwX6_go_1 ++ dktX6_go_2
def dkwX6_go_0 : List UInt8 := [42, 180, 0, 28, 42, 180, 0, 21, 162, 0, 42, 42, 42, 180, 0, 28, 182, 0, 31, 16, 32, 159, 0, 16]
abbrev dktX6_go_0 : List UInt8 := dkwX6_go_0 ++ dktX6_go_1
theorem dksX6_go_0 : cX6_go.data.toList.drop 0 = dktX6_go_0 := by decide +kernel
theorem dksX6_go_1 : cX6_go.data.toList.drop 24 = dktX6_go_1 := dk_seg dksX6_go_0 24 rfl rfl
theorem dksX6_go_2 : cX6_go.data.toList.drop 47 = dktX6_go_2 := dk_seg dksX6_go_1 23 rfl rfl
theorem dksX6_go_3 : cX6_go.data.toList.drop 70 = dktX6_go_3 := dk_seg dksX6_go_2 23 rfl rfl
theorem dksX6_go_4 : cX6_go.data.toList.drop 94 = dktX6_go_4 := dk_seg dksX6_go_3 24 rfl rfl
theorem dksX6_go_5 : cX6_go.data.toList.drop 116 = dktX6_go_5 := dk_seg dksX6_go_4 22 rfl rfl
theorem dksX6_go_6 : cX6_go.data.toList.drop 138 = dktX6_go_6 := dk_seg dksX6_go_5 22 rfl rfl
theorem dksX6_go_7 : cX6_go.data.toList.drop 160 = dktX6_go_7 := dk_seg dksX6_go_6 22 rfl rfl
theorem dksX6_go_8 : cX6_go.data.toList.drop 184 = dktX6_go_8 := dk_seg dksX6_go_7 24 rfl rfl
theorem dksX6_go_9 : cX6_go.data.toList.drop 208 = dktX6_go_9 := dk_seg dksX6_go_8 24 rfl rfl
theorem dksX6_go_10 : cX6_go.data.toList.drop 232 = dktX6_go_10 := dk_seg dksX6_go_9 24 rfl rfl
theorem dksX6_go_11 : cX6_go.data.toList.drop 255 = dktX6_go_11 := dk_seg dksX6_go_10 23 rfl rfl
theorem dksX6_go_12 : cX6_go.data.toList.drop 279 = dktX6_go_12 := dk_seg dksX6_go_11 24 rfl rfl
theorem dksX6_go_13 : cX6_go.data.toList.drop 303 = dktX6_go_13 := dk_seg dksX6_go_12 24 rfl rfl
theorem dksX6_go_14 : cX6_go.data.toList.drop 326 = dktX6_go_14 := dk_seg dksX6_go_13 23 rfl rfl
theorem dksX6_go_15 : cX6_go.data.toList.drop 349 = dktX6_go_15 := dk_seg dksX6_go_14 23 rfl rfl
theorem dksX6_go_16 : cX6_go.data.toList.drop 371 = dktX6_go_16 := dk_seg dksX6_go_15 22 rfl rfl
theorem dksX6_go_17 : cX6_go.data.toList.drop 393 = dktX6_go_17 := dk_seg dksX6_go_16 22 rfl rfl
theorem dX6_go_0 : decode cX6_go 0 = .ok (.aload_n 0, 1) := dk_42 (dk_at dksX6_go_0 0 rfl rfl)
theorem dX6_go_1 : decode cX6_go 1 = .ok (.getfield 28, 3) := dk_180 0 28 (dk_at dksX6_go_0 1 rfl rfl)
theorem dX6_go_4 : decode cX6_go 4 = .ok (.aload_n 0, 1) := dk_42 (dk_at dksX6_go_0 4 rfl rfl)
theorem dX6_go_5 : decode cX6_go 5 = .ok (.getfield 21, 3) := dk_180 0 21 (dk_at dksX6_go_0 5 rfl rfl)
theorem dX6_go_8 : decode cX6_go 8 = .ok (.if_icmp .ge 42, 3) := dk_162 0 42 (dk_at dksX6_go_0 8 rfl rfl)
theorem dX6_go_11 : decode cX6_go 11 = .ok (.aload_n 0, 1) := dk_42 (dk_at dksX6_go_0 11 rfl rfl)
theorem dX6_go_12 : decode cX6_go 12 = .ok (.aload_n 0, 1) := dk_42 (dk_at dksX6_go_0 12 rfl rfl)
theorem dX6_go_13 : decode cX6_go 13 = .ok (.getfield 28, 3) := dk_180 0 28 (dk_at dksX6_go_0 13 rfl rfl)
theorem dX6_go_16 : decode cX6_go 16 = .ok (.invokevirtual 31, 3) := dk_182 0 31 (dk_at dksX6_go_0 16 rfl rfl)
theorem dX6_go_19 : decode cX6_go 19 = .ok (.bipush 32, 2) := dk_16 32 (dk_at dksX6_go_0 19 rfl rfl)
theorem dX6_go_21 : decode cX6_go 21 = .ok (.if_icmp .eq 16, 3) := dk_159 0 16 (dk_at dksX6_go_0 21 rfl rfl)
theorem dX6_go_24 : decode cX6_go 24 = .ok (.aload_n 0, 1) := dk_42 (dk_at dksX6_go_1 0 rfl rfl)
theorem dX6_go_25 : decode cX6_go 25 = .ok (.aload_n 0, 1) := dk_42 (dk_at dksX6_go_1 1 rfl rfl)
theorem dX6_go_26 : decode cX6_go 26 = .ok (.getfield 28, 3) := dk_180 0 28 (dk_at dksX6_go_1 2 rfl rfl)
theorem dX6_go_29 : decode cX6_go 29 = .ok (.invokevirtual 31, 3) := dk_182 0 31 (dk_at dksX6_go_1 5 rfl rfl)
theorem dX6_go_32 : decode cX6_go 32 = .ok (.bipush 10, 2) := dk_16 10 (dk_at dksX6_go_1 8 rfl rfl)
theorem dX6_go_34 : decode cX6_go 34 = .ok (.if_icmp .ne 16, 3) := dk_160 0 16 (dk_at dksX6_go_1 10 rfl rfl)
theorem dX6_go_37 : decode cX6_go 37 = .ok (.aload_n 0, 1) := dk_42 (dk_at dksX6_go_1 13 rfl rfl)
theorem dX6_go_38 : decode cX6_go 38 = .ok (.dup, 1) := dk_89 (dk_at dksX6_go_1 14 rfl rfl)
theorem dX6_go_39 : decode cX6_go 39 = .ok (.getfield 28, 3) := dk_180 0 28 (dk_at dksX6_go_1 15 rfl rfl)
theorem dX6_go_42 : decode cX6_go 42 = .ok (.iconst 1, 1) := dk_4 (dk_at dksX6_go_1 18 rfl rfl)
theorem dX6_go_43 : decode cX6_go 43 = .ok (.iadd, 1) := dk_96 (dk_at dksX6_go_1 19 rfl rfl)
theorem dX6_go_44 : decode cX6_go 44 = .ok (.putfield 28, 3) := dk_181 0 28 (dk_at dksX6_go_1 20 rfl rfl)
theorem dX6_go_47 : decode cX6_go 47 = .ok (.goto (-47), 3) := dk_167 255 209 (dk_at dksX6_go_2 0 rfl rfl)
theorem dX6_go_50 : decode cX6_go 50 = .ok (.aload_n 0, 1) := dk_42 (dk_at dksX6_go_2 3 rfl rfl)
theorem dX6_go_51 : decode cX6_go 51 = .ok (.aload_n 0, 1) := dk_42 (dk_at dksX6_go_2 4 rfl rfl)
theorem dX6_go_52 : decode cX6_go 52 = .ok (.getfield 28, 3) := dk_180 0 28 (dk_at dksX6_go_2 5 rfl rfl)
theorem dX6_go_55 : decode cX6_go 55 = .ok (.putfield 35, 3) := dk_181 0 35 (dk_at dksX6_go_2 8 rfl rfl)
theorem dX6_go_58 : decode cX6_go 58 = .ok (.aload_n 0, 1) := dk_42 (dk_at dksX6_go_2 11 rfl rfl)
theorem dX6_go_59 : decode cX6_go 59 = .ok (.getfield 21, 3) := dk_180 0 21 (dk_at dksX6_go_2 12 rfl rfl)
theorem dX6_go_62 : decode cX6_go 62 = .ok (.aload_n 0, 1) := dk_42 (dk_at dksX6_go_2 15 rfl rfl)
theorem dX6_go_63 : decode cX6_go 63 = .ok (.getfield 25, 3) := dk_180 0 25 (dk_at dksX6_go_2 16 rfl rfl)
theorem dX6_go_66 : decode cX6_go 66 = .ok (.if_icmp .le 28, 3) := dk_164 0 28 (dk_at dksX6_go_2 19 rfl rfl)
theorem dX6_go_69 : decode cX6_go 69 = .ok (.aload_n 0, 1) := dk_42 (dk_at dksX6_go_2 22 rfl rfl)
theorem dX6_go_70 : decode cX6_go 70 = .ok (.getfield 35, 3) := dk_180 0 35 (dk_at dksX6_go_3 0 rfl rfl)
theorem dX6_go_73 : decode cX6_go 73 = .ok (.aload_n 0, 1) := dk_42 (dk_at dksX6_go_3 3 rfl rfl)
theorem dX6_go_74 : decode cX6_go 74 = .ok (.getfield 25, 3) := dk_180 0 25 (dk_at dksX6_go_3 4 rfl rfl)
theorem dX6_go_77 : decode cX6_go 77 = .ok (.if_icmp .lt 17, 3) := dk_161 0 17 (dk_at dksX6_go_3 7 rfl rfl)
theorem dX6_go_80 : decode cX6_go 80 = .ok (.aload_n 0, 1) := dk_42 (dk_at dksX6_go_3 10 rfl rfl)
theorem dX6_go_81 : decode cX6_go 81 = .ok (.aload_n 0, 1) := dk_42 (dk_at dksX6_go_3 11 rfl rfl)
theorem dX6_go_82 : decode cX6_go 82 = .ok (.getfield 25, 3) := dk_180 0 25 (dk_at dksX6_go_3 12 rfl rfl)
theorem dX6_go_85 : decode cX6_go 85 = .ok (.putfield 35, 3) := dk_181 0 35 (dk_at dksX6_go_3 15 rfl rfl)
theorem dX6_go_88 : decode cX6_go 88 = .ok (.aload_n 0, 1) := dk_42 (dk_at dksX6_go_3 18 rfl rfl)
theorem dX6_go_89 : decode cX6_go 89 = .ok (.iconst 5, 1) := dk_8 (dk_at dksX6_go_3 19 rfl rfl)
theorem dX6_go_90 : decode cX6_go 90 = .ok (.putfield 38, 3) := dk_181 0 38 (dk_at dksX6_go_3 20 rfl rfl)
theorem dX6_go_93 : decode cX6_go 93 = .ok (.return_, 1) := dk_177 (dk_at dksX6_go_3 23 rfl rfl)
theorem dX6_go_94 : decode cX6_go 94 = .ok (.aload_n 0, 1) := dk_42 (dk_at dksX6_go_4 0 rfl rfl)
theorem dX6_go_95 : decode cX6_go 95 = .ok (.getfield 28, 3) := dk_180 0 28 (dk_at dksX6_go_4 1 rfl rfl)
theorem dX6_go_98 : decode cX6_go 98 = .ok (.aload_n 0, 1) := dk_42 (dk_at dksX6_go_4 4 rfl rfl)
theorem dX6_go_99 : decode cX6_go 99 = .ok (.getfield 21, 3) := dk_180 0 21 (dk_at dksX6_go_4 5 rfl rfl)
theorem dX6_go_102 : decode cX6_go 102 = .ok (.if_icmp .lt 9, 3) := dk_161 0 9 (dk_at dksX6_go_4 8 rfl rfl)
theorem dX6_go_105 : decode cX6_go 105 = .ok (.aload_n 0, 1) := dk_42 (dk_at dksX6_go_4 11 rfl rfl)
theorem dX6_go_106 : decode cX6_go 106 = .ok (.iconst 0, 1) := dk_3 (dk_at dksX6_go_4 12 rfl rfl)
theorem dX6_go_107 : decode cX6_go 107 = .ok (.putfield 38, 3) := dk_181 0 38 (dk_at dksX6_go_4 13 rfl rfl)
theorem dX6_go_110 : decode cX6_go 110 = .ok (.return_, 1) := dk_177 (dk_at dksX6_go_4 16 rfl rfl)
theorem dX6_go_111 : decode cX6_go 111 = .ok (.aload_n 0, 1) := dk_42 (dk_at dksX6_go_4 17 rfl rfl)
theorem dX6_go_112 : decode cX6_go 112 = .ok (.aload_n 0, 1) := dk_42 (dk_at dksX6_go_4 18 rfl rfl)
theorem dX6_go_113 : decode cX6_go 113 = .ok (.getfield 28, 3) := dk_180 0 28 (dk_at dksX6_go_4 19 rfl rfl)
theorem dX6_go_116 : decode cX6_go 116 = .ok (.invokevirtual 31, 3) := dk_182 0 31 (dk_at dksX6_go_5 0 rfl rfl)
theorem dX6_go_119 : decode cX6_go 119 = .ok (.istore_n 1, 1) := dk_60 (dk_at dksX6_go_5 3 rfl rfl)
theorem dX6_go_120 : decode cX6_go 120 = .ok (.iload_n 1, 1) := dk_27 (dk_at dksX6_go_5 4 rfl rfl)
theorem dX6_go_121 : decode cX6_go 121 = .ok (.invokestatic 41, 3) := dk_184 0 41 (dk_at dksX6_go_5 5 rfl rfl)
theorem dX6_go_124 : decode cX6_go 124 = .ok (.ifCond .ne 76, 3) := dk_154 0 76 (dk_at dksX6_go_5 8 rfl rfl)
theorem dX6_go_127 : decode cX6_go 127 = .ok (.iload_n 1, 1) := dk_27 (dk_at dksX6_go_5 11 rfl rfl)
theorem dX6_go_128 : decode cX6_go 128 = .ok (.invokestatic 45, 3) := dk_184 0 45 (dk_at dksX6_go_5 12 rfl rfl)
theorem dX6_go_131 : decode cX6_go 131 = .ok (.ifCond .ne 69, 3) := dk_154 0 69 (dk_at dksX6_go_5 15 rfl rfl)
theorem dX6_go_134 : decode cX6_go 134 = .ok (.aload_n 0, 1) := dk_42 (dk_at dksX6_go_5 18 rfl rfl)
theorem dX6_go_135 : decode cX6_go 135 = .ok (.iload_n 1, 1) := dk_27 (dk_at dksX6_go_5 19 rfl rfl)
theorem dX6_go_136 : decode cX6_go 136 = .ok (.bipush 59, 2) := dk_16 59 (dk_at dksX6_go_5 20 rfl rfl)
theorem dX6_go_138 : decode cX6_go 138 = .ok (.if_icmp .ne 7, 3) := dk_160 0 7 (dk_at dksX6_go_6 0 rfl rfl)
theorem dX6_go_141 : decode cX6_go 141 = .ok (.iconst 4, 1) := dk_7 (dk_at dksX6_go_6 3 rfl rfl)
theorem dX6_go_142 : decode cX6_go 142 = .ok (.goto 39, 3) := dk_167 0 39 (dk_at dksX6_go_6 4 rfl rfl)
theorem dX6_go_145 : decode cX6_go 145 = .ok (.iload_n 1, 1) := dk_27 (dk_at dksX6_go_6 7 rfl rfl)
theorem dX6_go_146 : decode cX6_go 146 = .ok (.bipush 60, 2) := dk_16 60 (dk_at dksX6_go_6 8 rfl rfl)
theorem dX6_go_148 : decode cX6_go 148 = .ok (.if_icmp .eq 27, 3) := dk_159 0 27 (dk_at dksX6_go_6 10 rfl rfl)
theorem dX6_go_151 : decode cX6_go 151 = .ok (.iload_n 1, 1) := dk_27 (dk_at dksX6_go_6 13 rfl rfl)
theorem dX6_go_152 : decode cX6_go 152 = .ok (.bipush 61, 2) := dk_16 61 (dk_at dksX6_go_6 14 rfl rfl)
theorem dX6_go_154 : decode cX6_go 154 = .ok (.if_icmp .eq 21, 3) := dk_159 0 21 (dk_at dksX6_go_6 16 rfl rfl)
theorem dX6_go_157 : decode cX6_go 157 = .ok (.iload_n 1, 1) := dk_27 (dk_at dksX6_go_6 19 rfl rfl)
theorem dX6_go_158 : decode cX6_go 158 = .ok (.bipush 62, 2) := dk_16 62 (dk_at dksX6_go_6 20 rfl rfl)
theorem dX6_go_160 : decode cX6_go 160 = .ok (.if_icmp .eq 15, 3) := dk_159 0 15 (dk_at dksX6_go_7 0 rfl rfl)
theorem dX6_go_163 : decode cX6_go 163 = .ok (.iload_n 1, 1) := dk_27 (dk_at dksX6_go_7 3 rfl rfl)
theorem dX6_go_164 : decode cX6_go 164 = .ok (.bipush 40, 2) := dk_16 40 (dk_at dksX6_go_7 4 rfl rfl)
theorem dX6_go_166 : decode cX6_go 166 = .ok (.if_icmp .eq 9, 3) := dk_159 0 9 (dk_at dksX6_go_7 6 rfl rfl)
theorem dX6_go_169 : decode cX6_go 169 = .ok (.iload_n 1, 1) := dk_27 (dk_at dksX6_go_7 9 rfl rfl)
theorem dX6_go_170 : decode cX6_go 170 = .ok (.bipush 41, 2) := dk_16 41 (dk_at dksX6_go_7 10 rfl rfl)
theorem dX6_go_172 : decode cX6_go 172 = .ok (.if_icmp .ne 8, 3) := dk_160 0 8 (dk_at dksX6_go_7 12 rfl rfl)
theorem dX6_go_175 : decode cX6_go 175 = .ok (.bipush 6, 2) := dk_16 6 (dk_at dksX6_go_7 15 rfl rfl)
theorem dX6_go_177 : decode cX6_go 177 = .ok (.goto 4, 3) := dk_167 0 4 (dk_at dksX6_go_7 17 rfl rfl)
theorem dX6_go_180 : decode cX6_go 180 = .ok (.iconst 1, 1) := dk_4 (dk_at dksX6_go_7 20 rfl rfl)
theorem dX6_go_181 : decode cX6_go 181 = .ok (.putfield 38, 3) := dk_181 0 38 (dk_at dksX6_go_7 21 rfl rfl)
theorem dX6_go_184 : decode cX6_go 184 = .ok (.aload_n 0, 1) := dk_42 (dk_at dksX6_go_8 0 rfl rfl)
theorem dX6_go_185 : decode cX6_go 185 = .ok (.iload_n 1, 1) := dk_27 (dk_at dksX6_go_8 1 rfl rfl)
theorem dX6_go_186 : decode cX6_go 186 = .ok (.putfield 48, 3) := dk_181 0 48 (dk_at dksX6_go_8 2 rfl rfl)
theorem dX6_go_189 : decode cX6_go 189 = .ok (.aload_n 0, 1) := dk_42 (dk_at dksX6_go_8 5 rfl rfl)
theorem dX6_go_190 : decode cX6_go 190 = .ok (.dup, 1) := dk_89 (dk_at dksX6_go_8 6 rfl rfl)
theorem dX6_go_191 : decode cX6_go 191 = .ok (.getfield 28, 3) := dk_180 0 28 (dk_at dksX6_go_8 7 rfl rfl)
theorem dX6_go_194 : decode cX6_go 194 = .ok (.iconst 1, 1) := dk_4 (dk_at dksX6_go_8 10 rfl rfl)
theorem dX6_go_195 : decode cX6_go 195 = .ok (.iadd, 1) := dk_96 (dk_at dksX6_go_8 11 rfl rfl)
theorem dX6_go_196 : decode cX6_go 196 = .ok (.putfield 28, 3) := dk_181 0 28 (dk_at dksX6_go_8 12 rfl rfl)
theorem dX6_go_199 : decode cX6_go 199 = .ok (.return_, 1) := dk_177 (dk_at dksX6_go_8 15 rfl rfl)
theorem dX6_go_200 : decode cX6_go 200 = .ok (.iload_n 1, 1) := dk_27 (dk_at dksX6_go_8 16 rfl rfl)
theorem dX6_go_201 : decode cX6_go 201 = .ok (.invokestatic 41, 3) := dk_184 0 41 (dk_at dksX6_go_8 17 rfl rfl)
theorem dX6_go_204 : decode cX6_go 204 = .ok (.istore_n 2, 1) := dk_61 (dk_at dksX6_go_8 20 rfl rfl)
theorem dX6_go_205 : decode cX6_go 205 = .ok (.iconst 1, 1) := dk_4 (dk_at dksX6_go_8 21 rfl rfl)
theorem dX6_go_206 : decode cX6_go 206 = .ok (.istore_n 3, 1) := dk_62 (dk_at dksX6_go_8 22 rfl rfl)
theorem dX6_go_207 : decode cX6_go 207 = .ok (.aload_n 0, 1) := dk_42 (dk_at dksX6_go_8 23 rfl rfl)
theorem dX6_go_208 : decode cX6_go 208 = .ok (.iconst 0, 1) := dk_3 (dk_at dksX6_go_9 0 rfl rfl)
theorem dX6_go_209 : decode cX6_go 209 = .ok (.putfield 51, 3) := dk_181 0 51 (dk_at dksX6_go_9 1 rfl rfl)
theorem dX6_go_212 : decode cX6_go 212 = .ok (.new 54, 3) := dk_187 0 54 (dk_at dksX6_go_9 4 rfl rfl)
theorem dX6_go_215 : decode cX6_go 215 = .ok (.dup, 1) := dk_89 (dk_at dksX6_go_9 7 rfl rfl)
theorem dX6_go_216 : decode cX6_go 216 = .ok (.invokespecial 56, 3) := dk_183 0 56 (dk_at dksX6_go_9 8 rfl rfl)
theorem dX6_go_219 : decode cX6_go 219 = .ok (.astore 4, 2) := dk_58 4 (dk_at dksX6_go_9 11 rfl rfl)
theorem dX6_go_221 : decode cX6_go 221 = .ok (.aload_n 0, 1) := dk_42 (dk_at dksX6_go_9 13 rfl rfl)
theorem dX6_go_222 : decode cX6_go 222 = .ok (.aload_n 0, 1) := dk_42 (dk_at dksX6_go_9 14 rfl rfl)
theorem dX6_go_223 : decode cX6_go 223 = .ok (.getfield 28, 3) := dk_180 0 28 (dk_at dksX6_go_9 15 rfl rfl)
theorem dX6_go_226 : decode cX6_go 226 = .ok (.invokevirtual 31, 3) := dk_182 0 31 (dk_at dksX6_go_9 18 rfl rfl)
theorem dX6_go_229 : decode cX6_go 229 = .ok (.invokestatic 41, 3) := dk_184 0 41 (dk_at dksX6_go_9 21 rfl rfl)
theorem dX6_go_232 : decode cX6_go 232 = .ok (.ifCond .ne 17, 3) := dk_154 0 17 (dk_at dksX6_go_10 0 rfl rfl)
theorem dX6_go_235 : decode cX6_go 235 = .ok (.aload_n 0, 1) := dk_42 (dk_at dksX6_go_10 3 rfl rfl)
theorem dX6_go_236 : decode cX6_go 236 = .ok (.aload_n 0, 1) := dk_42 (dk_at dksX6_go_10 4 rfl rfl)
theorem dX6_go_237 : decode cX6_go 237 = .ok (.getfield 28, 3) := dk_180 0 28 (dk_at dksX6_go_10 5 rfl rfl)
theorem dX6_go_240 : decode cX6_go 240 = .ok (.invokevirtual 31, 3) := dk_182 0 31 (dk_at dksX6_go_10 8 rfl rfl)
theorem dX6_go_243 : decode cX6_go 243 = .ok (.invokestatic 45, 3) := dk_184 0 45 (dk_at dksX6_go_10 11 rfl rfl)
theorem dX6_go_246 : decode cX6_go 246 = .ok (.ifCond .eq 106, 3) := dk_153 0 106 (dk_at dksX6_go_10 14 rfl rfl)
theorem dX6_go_249 : decode cX6_go 249 = .ok (.iload_n 3, 1) := dk_29 (dk_at dksX6_go_10 17 rfl rfl)
theorem dX6_go_250 : decode cX6_go 250 = .ok (.ifCond .eq 22, 3) := dk_153 0 22 (dk_at dksX6_go_10 18 rfl rfl)
theorem dX6_go_253 : decode cX6_go 253 = .ok (.aload_n 0, 1) := dk_42 (dk_at dksX6_go_10 21 rfl rfl)
theorem dX6_go_254 : decode cX6_go 254 = .ok (.aload_n 0, 1) := dk_42 (dk_at dksX6_go_10 22 rfl rfl)
theorem dX6_go_255 : decode cX6_go 255 = .ok (.getfield 28, 3) := dk_180 0 28 (dk_at dksX6_go_11 0 rfl rfl)
theorem dX6_go_258 : decode cX6_go 258 = .ok (.invokevirtual 31, 3) := dk_182 0 31 (dk_at dksX6_go_11 3 rfl rfl)
theorem dX6_go_261 : decode cX6_go 261 = .ok (.invokestatic 41, 3) := dk_184 0 41 (dk_at dksX6_go_11 6 rfl rfl)
theorem dX6_go_264 : decode cX6_go 264 = .ok (.iload_n 2, 1) := dk_28 (dk_at dksX6_go_11 9 rfl rfl)
theorem dX6_go_265 : decode cX6_go 265 = .ok (.if_icmp .ne 7, 3) := dk_160 0 7 (dk_at dksX6_go_11 10 rfl rfl)
theorem dX6_go_268 : decode cX6_go 268 = .ok (.iconst 1, 1) := dk_4 (dk_at dksX6_go_11 13 rfl rfl)
theorem dX6_go_269 : decode cX6_go 269 = .ok (.goto 4, 3) := dk_167 0 4 (dk_at dksX6_go_11 14 rfl rfl)
theorem dX6_go_272 : decode cX6_go 272 = .ok (.iconst 0, 1) := dk_3 (dk_at dksX6_go_11 17 rfl rfl)
theorem dX6_go_273 : decode cX6_go 273 = .ok (.istore_n 3, 1) := dk_62 (dk_at dksX6_go_11 18 rfl rfl)
theorem dX6_go_274 : decode cX6_go 274 = .ok (.aload_n 0, 1) := dk_42 (dk_at dksX6_go_11 19 rfl rfl)
theorem dX6_go_275 : decode cX6_go 275 = .ok (.getfield 28, 3) := dk_180 0 28 (dk_at dksX6_go_11 20 rfl rfl)
theorem dX6_go_278 : decode cX6_go 278 = .ok (.aload_n 0, 1) := dk_42 (dk_at dksX6_go_11 23 rfl rfl)
theorem dX6_go_279 : decode cX6_go 279 = .ok (.getfield 35, 3) := dk_180 0 35 (dk_at dksX6_go_12 0 rfl rfl)
theorem dX6_go_282 : decode cX6_go 282 = .ok (.isub, 1) := dk_100 (dk_at dksX6_go_12 3 rfl rfl)
theorem dX6_go_283 : decode cX6_go 283 = .ok (.bipush 7, 2) := dk_16 7 (dk_at dksX6_go_12 4 rfl rfl)
theorem dX6_go_285 : decode cX6_go 285 = .ok (.if_icmp .ge 18, 3) := dk_162 0 18 (dk_at dksX6_go_12 6 rfl rfl)
theorem dX6_go_288 : decode cX6_go 288 = .ok (.aload 4, 2) := dk_25 4 (dk_at dksX6_go_12 9 rfl rfl)
theorem dX6_go_290 : decode cX6_go 290 = .ok (.aload_n 0, 1) := dk_42 (dk_at dksX6_go_12 11 rfl rfl)
theorem dX6_go_291 : decode cX6_go 291 = .ok (.aload_n 0, 1) := dk_42 (dk_at dksX6_go_12 12 rfl rfl)
theorem dX6_go_292 : decode cX6_go 292 = .ok (.getfield 28, 3) := dk_180 0 28 (dk_at dksX6_go_12 13 rfl rfl)
theorem dX6_go_295 : decode cX6_go 295 = .ok (.invokevirtual 31, 3) := dk_182 0 31 (dk_at dksX6_go_12 16 rfl rfl)
theorem dX6_go_298 : decode cX6_go 298 = .ok (.i2c, 1) := dk_146 (dk_at dksX6_go_12 19 rfl rfl)
theorem dX6_go_299 : decode cX6_go 299 = .ok (.invokevirtual 57, 3) := dk_182 0 57 (dk_at dksX6_go_12 20 rfl rfl)
theorem dX6_go_302 : decode cX6_go 302 = .ok (.pop, 1) := dk_87 (dk_at dksX6_go_12 23 rfl rfl)
theorem dX6_go_303 : decode cX6_go 303 = .ok (.aload_n 0, 1) := dk_42 (dk_at dksX6_go_13 0 rfl rfl)
theorem dX6_go_304 : decode cX6_go 304 = .ok (.getfield 28, 3) := dk_180 0 28 (dk_at dksX6_go_13 1 rfl rfl)
theorem dX6_go_307 : decode cX6_go 307 = .ok (.aload_n 0, 1) := dk_42 (dk_at dksX6_go_13 4 rfl rfl)
theorem dX6_go_308 : decode cX6_go 308 = .ok (.getfield 35, 3) := dk_180 0 35 (dk_at dksX6_go_13 5 rfl rfl)
theorem dX6_go_311 : decode cX6_go 311 = .ok (.isub, 1) := dk_100 (dk_at dksX6_go_13 8 rfl rfl)
theorem dX6_go_312 : decode cX6_go 312 = .ok (.iconst 3, 1) := dk_6 (dk_at dksX6_go_13 9 rfl rfl)
theorem dX6_go_313 : decode cX6_go 313 = .ok (.if_icmp .ge 26, 3) := dk_162 0 26 (dk_at dksX6_go_13 10 rfl rfl)
theorem dX6_go_316 : decode cX6_go 316 = .ok (.aload_n 0, 1) := dk_42 (dk_at dksX6_go_13 13 rfl rfl)
theorem dX6_go_317 : decode cX6_go 317 = .ok (.bipush 10, 2) := dk_16 10 (dk_at dksX6_go_13 14 rfl rfl)
theorem dX6_go_319 : decode cX6_go 319 = .ok (.aload_n 0, 1) := dk_42 (dk_at dksX6_go_13 16 rfl rfl)
theorem dX6_go_320 : decode cX6_go 320 = .ok (.getfield 51, 3) := dk_180 0 51 (dk_at dksX6_go_13 17 rfl rfl)
theorem dX6_go_323 : decode cX6_go 323 = .ok (.imul, 1) := dk_104 (dk_at dksX6_go_13 20 rfl rfl)
theorem dX6_go_324 : decode cX6_go 324 = .ok (.aload_n 0, 1) := dk_42 (dk_at dksX6_go_13 21 rfl rfl)
theorem dX6_go_325 : decode cX6_go 325 = .ok (.aload_n 0, 1) := dk_42 (dk_at dksX6_go_13 22 rfl rfl)
theorem dX6_go_326 : decode cX6_go 326 = .ok (.getfield 28, 3) := dk_180 0 28 (dk_at dksX6_go_14 0 rfl rfl)
theorem dX6_go_329 : decode cX6_go 329 = .ok (.invokevirtual 31, 3) := dk_182 0 31 (dk_at dksX6_go_14 3 rfl rfl)
theorem dX6_go_332 : decode cX6_go 332 = .ok (.iadd, 1) := dk_96 (dk_at dksX6_go_14 6 rfl rfl)
theorem dX6_go_333 : decode cX6_go 333 = .ok (.bipush 48, 2) := dk_16 48 (dk_at dksX6_go_14 7 rfl rfl)
theorem dX6_go_335 : decode cX6_go 335 = .ok (.isub, 1) := dk_100 (dk_at dksX6_go_14 9 rfl rfl)
theorem dX6_go_336 : decode cX6_go 336 = .ok (.putfield 51, 3) := dk_181 0 51 (dk_at dksX6_go_14 10 rfl rfl)
theorem dX6_go_339 : decode cX6_go 339 = .ok (.aload_n 0, 1) := dk_42 (dk_at dksX6_go_14 13 rfl rfl)
theorem dX6_go_340 : decode cX6_go 340 = .ok (.dup, 1) := dk_89 (dk_at dksX6_go_14 14 rfl rfl)
theorem dX6_go_341 : decode cX6_go 341 = .ok (.getfield 28, 3) := dk_180 0 28 (dk_at dksX6_go_14 15 rfl rfl)
theorem dX6_go_344 : decode cX6_go 344 = .ok (.iconst 1, 1) := dk_4 (dk_at dksX6_go_14 18 rfl rfl)
theorem dX6_go_345 : decode cX6_go 345 = .ok (.iadd, 1) := dk_96 (dk_at dksX6_go_14 19 rfl rfl)
theorem dX6_go_346 : decode cX6_go 346 = .ok (.putfield 28, 3) := dk_181 0 28 (dk_at dksX6_go_14 20 rfl rfl)
theorem dX6_go_349 : decode cX6_go 349 = .ok (.goto (-128), 3) := dk_167 255 128 (dk_at dksX6_go_15 0 rfl rfl)
theorem dX6_go_352 : decode cX6_go 352 = .ok (.aload_n 0, 1) := dk_42 (dk_at dksX6_go_15 3 rfl rfl)
theorem dX6_go_353 : decode cX6_go 353 = .ok (.aload 4, 2) := dk_25 4 (dk_at dksX6_go_15 4 rfl rfl)
theorem dX6_go_355 : decode cX6_go 355 = .ok (.invokevirtual 61, 3) := dk_182 0 61 (dk_at dksX6_go_15 6 rfl rfl)
theorem dX6_go_358 : decode cX6_go 358 = .ok (.putfield 11, 3) := dk_181 0 11 (dk_at dksX6_go_15 9 rfl rfl)
theorem dX6_go_361 : decode cX6_go 361 = .ok (.aload_n 0, 1) := dk_42 (dk_at dksX6_go_15 12 rfl rfl)
theorem dX6_go_362 : decode cX6_go 362 = .ok (.iload_n 3, 1) := dk_29 (dk_at dksX6_go_15 13 rfl rfl)
theorem dX6_go_363 : decode cX6_go 363 = .ok (.ifCond .eq 25, 3) := dk_153 0 25 (dk_at dksX6_go_15 14 rfl rfl)
theorem dX6_go_366 : decode cX6_go 366 = .ok (.aload_n 0, 1) := dk_42 (dk_at dksX6_go_15 17 rfl rfl)
theorem dX6_go_367 : decode cX6_go 367 = .ok (.getfield 28, 3) := dk_180 0 28 (dk_at dksX6_go_15 18 rfl rfl)
theorem dX6_go_370 : decode cX6_go 370 = .ok (.aload_n 0, 1) := dk_42 (dk_at dksX6_go_15 21 rfl rfl)
theorem dX6_go_371 : decode cX6_go 371 = .ok (.getfield 35, 3) := dk_180 0 35 (dk_at dksX6_go_16 0 rfl rfl)
theorem dX6_go_374 : decode cX6_go 374 = .ok (.isub, 1) := dk_100 (dk_at dksX6_go_16 3 rfl rfl)
theorem dX6_go_375 : decode cX6_go 375 = .ok (.iload_n 2, 1) := dk_28 (dk_at dksX6_go_16 4 rfl rfl)
theorem dX6_go_376 : decode cX6_go 376 = .ok (.ifCond .eq 8, 3) := dk_153 0 8 (dk_at dksX6_go_16 5 rfl rfl)
theorem dX6_go_379 : decode cX6_go 379 = .ok (.bipush 7, 2) := dk_16 7 (dk_at dksX6_go_16 8 rfl rfl)
theorem dX6_go_381 : decode cX6_go 381 = .ok (.goto 4, 3) := dk_167 0 4 (dk_at dksX6_go_16 10 rfl rfl)
theorem dX6_go_384 : decode cX6_go 384 = .ok (.iconst 3, 1) := dk_6 (dk_at dksX6_go_16 13 rfl rfl)
theorem dX6_go_385 : decode cX6_go 385 = .ok (.if_icmp .le 7, 3) := dk_164 0 7 (dk_at dksX6_go_16 14 rfl rfl)
theorem dX6_go_388 : decode cX6_go 388 = .ok (.iconst 1, 1) := dk_4 (dk_at dksX6_go_16 17 rfl rfl)
theorem dX6_go_389 : decode cX6_go 389 = .ok (.goto 12, 3) := dk_167 0 12 (dk_at dksX6_go_16 18 rfl rfl)
theorem dX6_go_392 : decode cX6_go 392 = .ok (.iload_n 2, 1) := dk_28 (dk_at dksX6_go_16 21 rfl rfl)
theorem dX6_go_393 : decode cX6_go 393 = .ok (.ifCond .eq 7, 3) := dk_153 0 7 (dk_at dksX6_go_17 0 rfl rfl)
theorem dX6_go_396 : decode cX6_go 396 = .ok (.iconst 2, 1) := dk_5 (dk_at dksX6_go_17 3 rfl rfl)
theorem dX6_go_397 : decode cX6_go 397 = .ok (.goto 4, 3) := dk_167 0 4 (dk_at dksX6_go_17 4 rfl rfl)
theorem dX6_go_400 : decode cX6_go 400 = .ok (.iconst 3, 1) := dk_6 (dk_at dksX6_go_17 7 rfl rfl)
theorem dX6_go_401 : decode cX6_go 401 = .ok (.putfield 38, 3) := dk_181 0 38 (dk_at dksX6_go_17 8 rfl rfl)
theorem dX6_go_404 : decode cX6_go 404 = .ok (.return_, 1) := dk_177 (dk_at dksX6_go_17 11 rfl rfl)
abbrev cX6_byteAt : ByteArray := prog_23_method_2_code
def yX6_byteAt : MethodName := ⟨RX6, "byteAt", "(I)I"⟩
def dkwX6_byteAt_0 : List UInt8 := [27, 42, 180, 0, 21, 162, 0, 16, 42, 180, 0, 17, 27, 51, 17, 0, 255, 126, 167, 0, 4, 3, 172]
abbrev dktX6_byteAt_0 : List UInt8 := dkwX6_byteAt_0 ++ []
theorem dksX6_byteAt_0 : cX6_byteAt.data.toList.drop 0 = dktX6_byteAt_0 := by decide +kernel
theorem dX6_byteAt_0 : decode cX6_byteAt 0 = .ok (.iload_n 1, 1) := dk_27 (dk_at dksX6_byteAt_0 0 rfl rfl)
theorem dX6_byteAt_1 : decode cX6_byteAt 1 = .ok (.aload_n 0, 1) := dk_42 (dk_at dksX6_byteAt_0 1 rfl rfl)
theorem dX6_byteAt_2 : decode cX6_byteAt 2 = .ok (.getfield 21, 3) := dk_180 0 21 (dk_at dksX6_byteAt_0 2 rfl rfl)
theorem dX6_byteAt_5 : decode cX6_byteAt 5 = .ok (.if_icmp .ge 16, 3) := dk_162 0 16 (dk_at dksX6_byteAt_0 5 rfl rfl)
theorem dX6_byteAt_8 : decode cX6_byteAt 8 = .ok (.aload_n 0, 1) := dk_42 (dk_at dksX6_byteAt_0 8 rfl rfl)
theorem dX6_byteAt_9 : decode cX6_byteAt 9 = .ok (.getfield 17, 3) := dk_180 0 17 (dk_at dksX6_byteAt_0 9 rfl rfl)
theorem dX6_byteAt_12 : decode cX6_byteAt 12 = .ok (.iload_n 1, 1) := dk_27 (dk_at dksX6_byteAt_0 12 rfl rfl)
theorem dX6_byteAt_13 : decode cX6_byteAt 13 = .ok (.baload, 1) := dk_51 (dk_at dksX6_byteAt_0 13 rfl rfl)
theorem dX6_byteAt_14 : decode cX6_byteAt 14 = .ok (.sipush 255, 3) := dk_17 0 255 (dk_at dksX6_byteAt_0 14 rfl rfl)
theorem dX6_byteAt_17 : decode cX6_byteAt 17 = .ok (.iand, 1) := dk_126 (dk_at dksX6_byteAt_0 17 rfl rfl)
theorem dX6_byteAt_18 : decode cX6_byteAt 18 = .ok (.goto 4, 3) := dk_167 0 4 (dk_at dksX6_byteAt_0 18 rfl rfl)
theorem dX6_byteAt_21 : decode cX6_byteAt 21 = .ok (.iconst 0, 1) := dk_3 (dk_at dksX6_byteAt_0 21 rfl rfl)
theorem dX6_byteAt_22 : decode cX6_byteAt 22 = .ok (.ireturn, 1) := dk_172 (dk_at dksX6_byteAt_0 22 rfl rfl)
abbrev cX6_isLetter : ByteArray := prog_23_method_4_code
def yX6_isLetter : MethodName := ⟨RX6, "isLetter", "(I)Z"⟩
def dkwX6_isLetter_0 : List UInt8 := [26, 16, 97, 161, 0, 13, 26, 16, 122, 163, 0, 7, 4, 167, 0, 4, 3, 172]
abbrev dktX6_isLetter_0 : List UInt8 := dkwX6_isLetter_0 ++ []
theorem dksX6_isLetter_0 : cX6_isLetter.data.toList.drop 0 = dktX6_isLetter_0 := by decide +kernel
theorem dX6_isLetter_0 : decode cX6_isLetter 0 = .ok (.iload_n 0, 1) := dk_26 (dk_at dksX6_isLetter_0 0 rfl rfl)
theorem dX6_isLetter_1 : decode cX6_isLetter 1 = .ok (.bipush 97, 2) := dk_16 97 (dk_at dksX6_isLetter_0 1 rfl rfl)
theorem dX6_isLetter_3 : decode cX6_isLetter 3 = .ok (.if_icmp .lt 13, 3) := dk_161 0 13 (dk_at dksX6_isLetter_0 3 rfl rfl)
theorem dX6_isLetter_6 : decode cX6_isLetter 6 = .ok (.iload_n 0, 1) := dk_26 (dk_at dksX6_isLetter_0 6 rfl rfl)
theorem dX6_isLetter_7 : decode cX6_isLetter 7 = .ok (.bipush 122, 2) := dk_16 122 (dk_at dksX6_isLetter_0 7 rfl rfl)
theorem dX6_isLetter_9 : decode cX6_isLetter 9 = .ok (.if_icmp .gt 7, 3) := dk_163 0 7 (dk_at dksX6_isLetter_0 9 rfl rfl)
theorem dX6_isLetter_12 : decode cX6_isLetter 12 = .ok (.iconst 1, 1) := dk_4 (dk_at dksX6_isLetter_0 12 rfl rfl)
theorem dX6_isLetter_13 : decode cX6_isLetter 13 = .ok (.goto 4, 3) := dk_167 0 4 (dk_at dksX6_isLetter_0 13 rfl rfl)
theorem dX6_isLetter_16 : decode cX6_isLetter 16 = .ok (.iconst 0, 1) := dk_3 (dk_at dksX6_isLetter_0 16 rfl rfl)
theorem dX6_isLetter_17 : decode cX6_isLetter 17 = .ok (.ireturn, 1) := dk_172 (dk_at dksX6_isLetter_0 17 rfl rfl)
abbrev cX6_isDigit : ByteArray := prog_23_method_3_code
def yX6_isDigit : MethodName := ⟨RX6, "isDigit", "(I)Z"⟩
def dkwX6_isDigit_0 : List UInt8 := [26, 16, 48, 161, 0, 13, 26, 16, 57, 163, 0, 7, 4, 167, 0, 4, 3, 172]
abbrev dktX6_isDigit_0 : List UInt8 := dkwX6_isDigit_0 ++ []
theorem dksX6_isDigit_0 : cX6_isDigit.data.toList.drop 0 = dktX6_isDigit_0 := by decide +kernel
theorem dX6_isDigit_0 : decode cX6_isDigit 0 = .ok (.iload_n 0, 1) := dk_26 (dk_at dksX6_isDigit_0 0 rfl rfl)
theorem dX6_isDigit_1 : decode cX6_isDigit 1 = .ok (.bipush 48, 2) := dk_16 48 (dk_at dksX6_isDigit_0 1 rfl rfl)
theorem dX6_isDigit_3 : decode cX6_isDigit 3 = .ok (.if_icmp .lt 13, 3) := dk_161 0 13 (dk_at dksX6_isDigit_0 3 rfl rfl)
theorem dX6_isDigit_6 : decode cX6_isDigit 6 = .ok (.iload_n 0, 1) := dk_26 (dk_at dksX6_isDigit_0 6 rfl rfl)
theorem dX6_isDigit_7 : decode cX6_isDigit 7 = .ok (.bipush 57, 2) := dk_16 57 (dk_at dksX6_isDigit_0 7 rfl rfl)
theorem dX6_isDigit_9 : decode cX6_isDigit 9 = .ok (.if_icmp .gt 7, 3) := dk_163 0 7 (dk_at dksX6_isDigit_0 9 rfl rfl)
theorem dX6_isDigit_12 : decode cX6_isDigit 12 = .ok (.iconst 1, 1) := dk_4 (dk_at dksX6_isDigit_0 12 rfl rfl)
theorem dX6_isDigit_13 : decode cX6_isDigit 13 = .ok (.goto 4, 3) := dk_167 0 4 (dk_at dksX6_isDigit_0 13 rfl rfl)
theorem dX6_isDigit_16 : decode cX6_isDigit 16 = .ok (.iconst 0, 1) := dk_3 (dk_at dksX6_isDigit_0 16 rfl rfl)
theorem dX6_isDigit_17 : decode cX6_isDigit 17 = .ok (.ireturn, 1) := dk_172 (dk_at dksX6_isDigit_0 17 rfl rfl)
abbrev cX6_is : ByteArray := prog_23_method_7_code
def yX6_is : MethodName := ⟨RX6, "is", "(Ljava/lang/String;)Z"⟩
def dkwX6_is_1 : List UInt8 := [172]
abbrev dktX6_is_1 : List UInt8 := dkwX6_is_1 ++ []
def dkwX6_is_0 : List UInt8 := [42, 180, 0, 38, 5, 160, 0, 18, 42, 180, 0, 11, 43, 182, 0, 70, 153, 0, 7, 4, 167, 0, 4, 3]
abbrev dktX6_is_0 : List UInt8 := dkwX6_is_0 ++ dktX6_is_1
theorem dksX6_is_0 : cX6_is.data.toList.drop 0 = dktX6_is_0 := by decide +kernel
theorem dksX6_is_1 : cX6_is.data.toList.drop 24 = dktX6_is_1 := dk_seg dksX6_is_0 24 rfl rfl
theorem dX6_is_0 : decode cX6_is 0 = .ok (.aload_n 0, 1) := dk_42 (dk_at dksX6_is_0 0 rfl rfl)
theorem dX6_is_1 : decode cX6_is 1 = .ok (.getfield 38, 3) := dk_180 0 38 (dk_at dksX6_is_0 1 rfl rfl)
theorem dX6_is_4 : decode cX6_is 4 = .ok (.iconst 2, 1) := dk_5 (dk_at dksX6_is_0 4 rfl rfl)
theorem dX6_is_5 : decode cX6_is 5 = .ok (.if_icmp .ne 18, 3) := dk_160 0 18 (dk_at dksX6_is_0 5 rfl rfl)
theorem dX6_is_8 : decode cX6_is 8 = .ok (.aload_n 0, 1) := dk_42 (dk_at dksX6_is_0 8 rfl rfl)
theorem dX6_is_9 : decode cX6_is 9 = .ok (.getfield 11, 3) := dk_180 0 11 (dk_at dksX6_is_0 9 rfl rfl)
theorem dX6_is_12 : decode cX6_is 12 = .ok (.aload_n 1, 1) := dk_43 (dk_at dksX6_is_0 12 rfl rfl)
theorem dX6_is_13 : decode cX6_is 13 = .ok (.invokevirtual 70, 3) := dk_182 0 70 (dk_at dksX6_is_0 13 rfl rfl)
theorem dX6_is_16 : decode cX6_is 16 = .ok (.ifCond .eq 7, 3) := dk_153 0 7 (dk_at dksX6_is_0 16 rfl rfl)
theorem dX6_is_19 : decode cX6_is 19 = .ok (.iconst 1, 1) := dk_4 (dk_at dksX6_is_0 19 rfl rfl)
theorem dX6_is_20 : decode cX6_is 20 = .ok (.goto 4, 3) := dk_167 0 4 (dk_at dksX6_is_0 20 rfl rfl)
theorem dX6_is_23 : decode cX6_is 23 = .ok (.iconst 0, 1) := dk_3 (dk_at dksX6_is_0 23 rfl rfl)
theorem dX6_is_24 : decode cX6_is 24 = .ok (.ireturn, 1) := dk_172 (dk_at dksX6_is_1 0 rfl rfl)
abbrev cX6_need : ByteArray := prog_23_method_6_code
def yX6_need : MethodName := ⟨RX6, "need", "(ZI)V"⟩
def dkwX6_need_1 : List UInt8 := [4, 167, 0, 4, 28, 42, 180, 0, 35, 183, 0, 67, 191, 177]
abbrev dktX6_need_1 : List UInt8 := dkwX6_need_1 ++ []
def dkwX6_need_0 : List UInt8 := [27, 154, 0, 36, 187, 0, 65, 89, 42, 180, 0, 38, 4, 159, 0, 11, 42, 180, 0, 38, 8, 160, 0, 7]
abbrev dktX6_need_0 : List UInt8 := dkwX6_need_0 ++ dktX6_need_1
theorem dksX6_need_0 : cX6_need.data.toList.drop 0 = dktX6_need_0 := by decide +kernel
theorem dksX6_need_1 : cX6_need.data.toList.drop 24 = dktX6_need_1 := dk_seg dksX6_need_0 24 rfl rfl
theorem dX6_need_0 : decode cX6_need 0 = .ok (.iload_n 1, 1) := dk_27 (dk_at dksX6_need_0 0 rfl rfl)
theorem dX6_need_1 : decode cX6_need 1 = .ok (.ifCond .ne 36, 3) := dk_154 0 36 (dk_at dksX6_need_0 1 rfl rfl)
theorem dX6_need_4 : decode cX6_need 4 = .ok (.new 65, 3) := dk_187 0 65 (dk_at dksX6_need_0 4 rfl rfl)
theorem dX6_need_7 : decode cX6_need 7 = .ok (.dup, 1) := dk_89 (dk_at dksX6_need_0 7 rfl rfl)
theorem dX6_need_8 : decode cX6_need 8 = .ok (.aload_n 0, 1) := dk_42 (dk_at dksX6_need_0 8 rfl rfl)
theorem dX6_need_9 : decode cX6_need 9 = .ok (.getfield 38, 3) := dk_180 0 38 (dk_at dksX6_need_0 9 rfl rfl)
theorem dX6_need_12 : decode cX6_need 12 = .ok (.iconst 1, 1) := dk_4 (dk_at dksX6_need_0 12 rfl rfl)
theorem dX6_need_13 : decode cX6_need 13 = .ok (.if_icmp .eq 11, 3) := dk_159 0 11 (dk_at dksX6_need_0 13 rfl rfl)
theorem dX6_need_16 : decode cX6_need 16 = .ok (.aload_n 0, 1) := dk_42 (dk_at dksX6_need_0 16 rfl rfl)
theorem dX6_need_17 : decode cX6_need 17 = .ok (.getfield 38, 3) := dk_180 0 38 (dk_at dksX6_need_0 17 rfl rfl)
theorem dX6_need_20 : decode cX6_need 20 = .ok (.iconst 5, 1) := dk_8 (dk_at dksX6_need_0 20 rfl rfl)
theorem dX6_need_21 : decode cX6_need 21 = .ok (.if_icmp .ne 7, 3) := dk_160 0 7 (dk_at dksX6_need_0 21 rfl rfl)
theorem dX6_need_24 : decode cX6_need 24 = .ok (.iconst 1, 1) := dk_4 (dk_at dksX6_need_1 0 rfl rfl)
theorem dX6_need_25 : decode cX6_need 25 = .ok (.goto 4, 3) := dk_167 0 4 (dk_at dksX6_need_1 1 rfl rfl)
theorem dX6_need_28 : decode cX6_need 28 = .ok (.iload_n 2, 1) := dk_28 (dk_at dksX6_need_1 4 rfl rfl)
theorem dX6_need_29 : decode cX6_need 29 = .ok (.aload_n 0, 1) := dk_42 (dk_at dksX6_need_1 5 rfl rfl)
theorem dX6_need_30 : decode cX6_need 30 = .ok (.getfield 35, 3) := dk_180 0 35 (dk_at dksX6_need_1 6 rfl rfl)
theorem dX6_need_33 : decode cX6_need 33 = .ok (.invokespecial 67, 3) := dk_183 0 67 (dk_at dksX6_need_1 9 rfl rfl)
theorem dX6_need_36 : decode cX6_need 36 = .ok (.athrow, 1) := dk_191 (dk_at dksX6_need_1 12 rfl rfl)
theorem dX6_need_37 : decode cX6_need 37 = .ok (.return_, 1) := dk_177 (dk_at dksX6_need_1 13 rfl rfl)
abbrev cX6_isName : ByteArray := prog_23_method_8_code
def yX6_isName : MethodName := ⟨RX6, "isName", "()Z"⟩
def dkwX6_isName_2 : List UInt8 := [3, 172]
abbrev dktX6_isName_2 : List UInt8 := dkwX6_isName_2 ++ []
def dkwX6_isName_1 : List UInt8 := [180, 0, 11, 182, 0, 80, 18, 78, 182, 0, 80, 182, 0, 61, 182, 0, 83, 156, 0, 7, 4, 167, 0, 4]
abbrev dktX6_isName_1 : List UInt8 := dkwX6_isName_1 ++ dktX6_isName_2
def dkwX6_isName_0 : List UInt8 := [42, 180, 0, 38, 5, 160, 0, 42, 18, 76, 187, 0, 54, 89, 183, 0, 56, 18, 78, 182, 0, 80, 42]
abbrev dktX6_isName_0 : List UInt8 := dkwX6_isName_0 ++ dktX6_isName_1
theorem dksX6_isName_0 : cX6_isName.data.toList.drop 0 = dktX6_isName_0 := by decide +kernel
theorem dksX6_isName_1 : cX6_isName.data.toList.drop 23 = dktX6_isName_1 := dk_seg dksX6_isName_0 23 rfl rfl
theorem dksX6_isName_2 : cX6_isName.data.toList.drop 47 = dktX6_isName_2 := dk_seg dksX6_isName_1 24 rfl rfl
theorem dX6_isName_0 : decode cX6_isName 0 = .ok (.aload_n 0, 1) := dk_42 (dk_at dksX6_isName_0 0 rfl rfl)
theorem dX6_isName_1 : decode cX6_isName 1 = .ok (.getfield 38, 3) := dk_180 0 38 (dk_at dksX6_isName_0 1 rfl rfl)
theorem dX6_isName_4 : decode cX6_isName 4 = .ok (.iconst 2, 1) := dk_5 (dk_at dksX6_isName_0 4 rfl rfl)
theorem dX6_isName_5 : decode cX6_isName 5 = .ok (.if_icmp .ne 42, 3) := dk_160 0 42 (dk_at dksX6_isName_0 5 rfl rfl)
theorem dX6_isName_8 : decode cX6_isName 8 = .ok (.ldc 76, 2) := dk_18 76 (dk_at dksX6_isName_0 8 rfl rfl)
theorem dX6_isName_10 : decode cX6_isName 10 = .ok (.new 54, 3) := dk_187 0 54 (dk_at dksX6_isName_0 10 rfl rfl)
theorem dX6_isName_13 : decode cX6_isName 13 = .ok (.dup, 1) := dk_89 (dk_at dksX6_isName_0 13 rfl rfl)
theorem dX6_isName_14 : decode cX6_isName 14 = .ok (.invokespecial 56, 3) := dk_183 0 56 (dk_at dksX6_isName_0 14 rfl rfl)
theorem dX6_isName_17 : decode cX6_isName 17 = .ok (.ldc 78, 2) := dk_18 78 (dk_at dksX6_isName_0 17 rfl rfl)
theorem dX6_isName_19 : decode cX6_isName 19 = .ok (.invokevirtual 80, 3) := dk_182 0 80 (dk_at dksX6_isName_0 19 rfl rfl)
theorem dX6_isName_22 : decode cX6_isName 22 = .ok (.aload_n 0, 1) := dk_42 (dk_at dksX6_isName_0 22 rfl rfl)
theorem dX6_isName_23 : decode cX6_isName 23 = .ok (.getfield 11, 3) := dk_180 0 11 (dk_at dksX6_isName_1 0 rfl rfl)
theorem dX6_isName_26 : decode cX6_isName 26 = .ok (.invokevirtual 80, 3) := dk_182 0 80 (dk_at dksX6_isName_1 3 rfl rfl)
theorem dX6_isName_29 : decode cX6_isName 29 = .ok (.ldc 78, 2) := dk_18 78 (dk_at dksX6_isName_1 6 rfl rfl)
theorem dX6_isName_31 : decode cX6_isName 31 = .ok (.invokevirtual 80, 3) := dk_182 0 80 (dk_at dksX6_isName_1 8 rfl rfl)
theorem dX6_isName_34 : decode cX6_isName 34 = .ok (.invokevirtual 61, 3) := dk_182 0 61 (dk_at dksX6_isName_1 11 rfl rfl)
theorem dX6_isName_37 : decode cX6_isName 37 = .ok (.invokevirtual 83, 3) := dk_182 0 83 (dk_at dksX6_isName_1 14 rfl rfl)
theorem dX6_isName_40 : decode cX6_isName 40 = .ok (.ifCond .ge 7, 3) := dk_156 0 7 (dk_at dksX6_isName_1 17 rfl rfl)
theorem dX6_isName_43 : decode cX6_isName 43 = .ok (.iconst 1, 1) := dk_4 (dk_at dksX6_isName_1 20 rfl rfl)
theorem dX6_isName_44 : decode cX6_isName 44 = .ok (.goto 4, 3) := dk_167 0 4 (dk_at dksX6_isName_1 21 rfl rfl)
theorem dX6_isName_47 : decode cX6_isName 47 = .ok (.iconst 0, 1) := dk_3 (dk_at dksX6_isName_2 0 rfl rfl)
theorem dX6_isName_48 : decode cX6_isName 48 = .ok (.ireturn, 1) := dk_172 (dk_at dksX6_isName_2 1 rfl rfl)
abbrev cX6_find : ByteArray := prog_23_method_11_code
def yX6_find : MethodName := ⟨RX6, "find", "(Ljava/util/ArrayList;)I"⟩
def dkwX6_find_1 : List UInt8 := [180, 0, 11, 182, 0, 70, 153, 0, 5, 28, 172, 132, 2, 1, 167, 255, 222, 2, 172]
abbrev dktX6_find_1 : List UInt8 := dkwX6_find_1 ++ []
def dkwX6_find_0 : List UInt8 := [3, 61, 28, 43, 182, 0, 98, 162, 0, 32, 43, 28, 182, 0, 103, 192, 0, 107, 180, 0, 109, 42]
abbrev dktX6_find_0 : List UInt8 := dkwX6_find_0 ++ dktX6_find_1
theorem dksX6_find_0 : cX6_find.data.toList.drop 0 = dktX6_find_0 := by decide +kernel
theorem dksX6_find_1 : cX6_find.data.toList.drop 22 = dktX6_find_1 := dk_seg dksX6_find_0 22 rfl rfl
theorem dX6_find_0 : decode cX6_find 0 = .ok (.iconst 0, 1) := dk_3 (dk_at dksX6_find_0 0 rfl rfl)
theorem dX6_find_1 : decode cX6_find 1 = .ok (.istore_n 2, 1) := dk_61 (dk_at dksX6_find_0 1 rfl rfl)
theorem dX6_find_2 : decode cX6_find 2 = .ok (.iload_n 2, 1) := dk_28 (dk_at dksX6_find_0 2 rfl rfl)
theorem dX6_find_3 : decode cX6_find 3 = .ok (.aload_n 1, 1) := dk_43 (dk_at dksX6_find_0 3 rfl rfl)
theorem dX6_find_4 : decode cX6_find 4 = .ok (.invokevirtual 98, 3) := dk_182 0 98 (dk_at dksX6_find_0 4 rfl rfl)
theorem dX6_find_7 : decode cX6_find 7 = .ok (.if_icmp .ge 32, 3) := dk_162 0 32 (dk_at dksX6_find_0 7 rfl rfl)
theorem dX6_find_10 : decode cX6_find 10 = .ok (.aload_n 1, 1) := dk_43 (dk_at dksX6_find_0 10 rfl rfl)
theorem dX6_find_11 : decode cX6_find 11 = .ok (.iload_n 2, 1) := dk_28 (dk_at dksX6_find_0 11 rfl rfl)
theorem dX6_find_12 : decode cX6_find 12 = .ok (.invokevirtual 103, 3) := dk_182 0 103 (dk_at dksX6_find_0 12 rfl rfl)
theorem dX6_find_15 : decode cX6_find 15 = .ok (.checkcast 107, 3) := dk_192 0 107 (dk_at dksX6_find_0 15 rfl rfl)
theorem dX6_find_18 : decode cX6_find 18 = .ok (.getfield 109, 3) := dk_180 0 109 (dk_at dksX6_find_0 18 rfl rfl)
theorem dX6_find_21 : decode cX6_find 21 = .ok (.aload_n 0, 1) := dk_42 (dk_at dksX6_find_0 21 rfl rfl)
theorem dX6_find_22 : decode cX6_find 22 = .ok (.getfield 11, 3) := dk_180 0 11 (dk_at dksX6_find_1 0 rfl rfl)
theorem dX6_find_25 : decode cX6_find 25 = .ok (.invokevirtual 70, 3) := dk_182 0 70 (dk_at dksX6_find_1 3 rfl rfl)
theorem dX6_find_28 : decode cX6_find 28 = .ok (.ifCond .eq 5, 3) := dk_153 0 5 (dk_at dksX6_find_1 6 rfl rfl)
theorem dX6_find_31 : decode cX6_find 31 = .ok (.iload_n 2, 1) := dk_28 (dk_at dksX6_find_1 9 rfl rfl)
theorem dX6_find_32 : decode cX6_find 32 = .ok (.ireturn, 1) := dk_172 (dk_at dksX6_find_1 10 rfl rfl)
theorem dX6_find_33 : decode cX6_find 33 = .ok (.iinc 2 1, 3) := dk_132 2 1 (dk_at dksX6_find_1 11 rfl rfl)
theorem dX6_find_36 : decode cX6_find 36 = .ok (.goto (-34), 3) := dk_167 255 222 (dk_at dksX6_find_1 14 rfl rfl)
theorem dX6_find_39 : decode cX6_find 39 = .ok (.iconst (-1), 1) := dk_2 (dk_at dksX6_find_1 17 rfl rfl)
theorem dX6_find_40 : decode cX6_find 40 = .ok (.ireturn, 1) := dk_172 (dk_at dksX6_find_1 18 rfl rfl)
abbrev cX6_number : ByteArray := prog_23_method_9_code
def yX6_number : MethodName := ⟨RX6, "number", "(II)I"⟩
def dkwX6_number_1 : List UInt8 := [28, 184, 0, 91, 5, 182, 0, 87, 42, 180, 0, 51, 62, 42, 182, 0, 95, 29, 172]
abbrev dktX6_number_1 : List UInt8 := dkwX6_number_1 ++ []
def dkwX6_number_0 : List UInt8 := [42, 42, 180, 0, 38, 6, 160, 0, 7, 4, 167, 0, 4, 3, 4, 182, 0, 87, 42, 42, 180, 0, 51, 27]
abbrev dktX6_number_0 : List UInt8 := dkwX6_number_0 ++ dktX6_number_1
theorem dksX6_number_0 : cX6_number.data.toList.drop 0 = dktX6_number_0 := by decide +kernel
theorem dksX6_number_1 : cX6_number.data.toList.drop 24 = dktX6_number_1 := dk_seg dksX6_number_0 24 rfl rfl
theorem dX6_number_0 : decode cX6_number 0 = .ok (.aload_n 0, 1) := dk_42 (dk_at dksX6_number_0 0 rfl rfl)
theorem dX6_number_1 : decode cX6_number 1 = .ok (.aload_n 0, 1) := dk_42 (dk_at dksX6_number_0 1 rfl rfl)
theorem dX6_number_2 : decode cX6_number 2 = .ok (.getfield 38, 3) := dk_180 0 38 (dk_at dksX6_number_0 2 rfl rfl)
theorem dX6_number_5 : decode cX6_number 5 = .ok (.iconst 3, 1) := dk_6 (dk_at dksX6_number_0 5 rfl rfl)
theorem dX6_number_6 : decode cX6_number 6 = .ok (.if_icmp .ne 7, 3) := dk_160 0 7 (dk_at dksX6_number_0 6 rfl rfl)
theorem dX6_number_9 : decode cX6_number 9 = .ok (.iconst 1, 1) := dk_4 (dk_at dksX6_number_0 9 rfl rfl)
theorem dX6_number_10 : decode cX6_number 10 = .ok (.goto 4, 3) := dk_167 0 4 (dk_at dksX6_number_0 10 rfl rfl)
theorem dX6_number_13 : decode cX6_number 13 = .ok (.iconst 0, 1) := dk_3 (dk_at dksX6_number_0 13 rfl rfl)
theorem dX6_number_14 : decode cX6_number 14 = .ok (.iconst 1, 1) := dk_4 (dk_at dksX6_number_0 14 rfl rfl)
theorem dX6_number_15 : decode cX6_number 15 = .ok (.invokevirtual 87, 3) := dk_182 0 87 (dk_at dksX6_number_0 15 rfl rfl)
theorem dX6_number_18 : decode cX6_number 18 = .ok (.aload_n 0, 1) := dk_42 (dk_at dksX6_number_0 18 rfl rfl)
theorem dX6_number_19 : decode cX6_number 19 = .ok (.aload_n 0, 1) := dk_42 (dk_at dksX6_number_0 19 rfl rfl)
theorem dX6_number_20 : decode cX6_number 20 = .ok (.getfield 51, 3) := dk_180 0 51 (dk_at dksX6_number_0 20 rfl rfl)
theorem dX6_number_23 : decode cX6_number 23 = .ok (.iload_n 1, 1) := dk_27 (dk_at dksX6_number_0 23 rfl rfl)
theorem dX6_number_24 : decode cX6_number 24 = .ok (.iload_n 2, 1) := dk_28 (dk_at dksX6_number_1 0 rfl rfl)
theorem dX6_number_25 : decode cX6_number 25 = .ok (.invokestatic 91, 3) := dk_184 0 91 (dk_at dksX6_number_1 1 rfl rfl)
theorem dX6_number_28 : decode cX6_number 28 = .ok (.iconst 2, 1) := dk_5 (dk_at dksX6_number_1 4 rfl rfl)
theorem dX6_number_29 : decode cX6_number 29 = .ok (.invokevirtual 87, 3) := dk_182 0 87 (dk_at dksX6_number_1 5 rfl rfl)
theorem dX6_number_32 : decode cX6_number 32 = .ok (.aload_n 0, 1) := dk_42 (dk_at dksX6_number_1 8 rfl rfl)
theorem dX6_number_33 : decode cX6_number 33 = .ok (.getfield 51, 3) := dk_180 0 51 (dk_at dksX6_number_1 9 rfl rfl)
theorem dX6_number_36 : decode cX6_number 36 = .ok (.istore_n 3, 1) := dk_62 (dk_at dksX6_number_1 12 rfl rfl)
theorem dX6_number_37 : decode cX6_number 37 = .ok (.aload_n 0, 1) := dk_42 (dk_at dksX6_number_1 13 rfl rfl)
theorem dX6_number_38 : decode cX6_number 38 = .ok (.invokevirtual 95, 3) := dk_182 0 95 (dk_at dksX6_number_1 14 rfl rfl)
theorem dX6_number_41 : decode cX6_number 41 = .ok (.iload_n 3, 1) := dk_29 (dk_at dksX6_number_1 17 rfl rfl)
theorem dX6_number_42 : decode cX6_number 42 = .ok (.ireturn, 1) := dk_172 (dk_at dksX6_number_1 18 rfl rfl)
abbrev cX6_hold : ByteArray := prog_23_method_12_code
def yX6_hold : MethodName := ⟨RX6, "hold", "(Ljava/util/ArrayList;)I"⟩
def dkwX6_hold_1 : List UInt8 := [167, 0, 4, 3, 6, 182, 0, 87, 28, 172]
abbrev dktX6_hold_1 : List UInt8 := dkwX6_hold_1 ++ []
def dkwX6_hold_0 : List UInt8 := [42, 42, 182, 0, 112, 4, 182, 0, 87, 42, 43, 182, 0, 116, 61, 42, 28, 2, 159, 0, 7, 4]
abbrev dktX6_hold_0 : List UInt8 := dkwX6_hold_0 ++ dktX6_hold_1
theorem dksX6_hold_0 : cX6_hold.data.toList.drop 0 = dktX6_hold_0 := by decide +kernel
theorem dksX6_hold_1 : cX6_hold.data.toList.drop 22 = dktX6_hold_1 := dk_seg dksX6_hold_0 22 rfl rfl
theorem dX6_hold_0 : decode cX6_hold 0 = .ok (.aload_n 0, 1) := dk_42 (dk_at dksX6_hold_0 0 rfl rfl)
theorem dX6_hold_1 : decode cX6_hold 1 = .ok (.aload_n 0, 1) := dk_42 (dk_at dksX6_hold_0 1 rfl rfl)
theorem dX6_hold_2 : decode cX6_hold 2 = .ok (.invokevirtual 112, 3) := dk_182 0 112 (dk_at dksX6_hold_0 2 rfl rfl)
theorem dX6_hold_5 : decode cX6_hold 5 = .ok (.iconst 1, 1) := dk_4 (dk_at dksX6_hold_0 5 rfl rfl)
theorem dX6_hold_6 : decode cX6_hold 6 = .ok (.invokevirtual 87, 3) := dk_182 0 87 (dk_at dksX6_hold_0 6 rfl rfl)
theorem dX6_hold_9 : decode cX6_hold 9 = .ok (.aload_n 0, 1) := dk_42 (dk_at dksX6_hold_0 9 rfl rfl)
theorem dX6_hold_10 : decode cX6_hold 10 = .ok (.aload_n 1, 1) := dk_43 (dk_at dksX6_hold_0 10 rfl rfl)
theorem dX6_hold_11 : decode cX6_hold 11 = .ok (.invokevirtual 116, 3) := dk_182 0 116 (dk_at dksX6_hold_0 11 rfl rfl)
theorem dX6_hold_14 : decode cX6_hold 14 = .ok (.istore_n 2, 1) := dk_61 (dk_at dksX6_hold_0 14 rfl rfl)
theorem dX6_hold_15 : decode cX6_hold 15 = .ok (.aload_n 0, 1) := dk_42 (dk_at dksX6_hold_0 15 rfl rfl)
theorem dX6_hold_16 : decode cX6_hold 16 = .ok (.iload_n 2, 1) := dk_28 (dk_at dksX6_hold_0 16 rfl rfl)
theorem dX6_hold_17 : decode cX6_hold 17 = .ok (.iconst (-1), 1) := dk_2 (dk_at dksX6_hold_0 17 rfl rfl)
theorem dX6_hold_18 : decode cX6_hold 18 = .ok (.if_icmp .eq 7, 3) := dk_159 0 7 (dk_at dksX6_hold_0 18 rfl rfl)
theorem dX6_hold_21 : decode cX6_hold 21 = .ok (.iconst 1, 1) := dk_4 (dk_at dksX6_hold_0 21 rfl rfl)
theorem dX6_hold_22 : decode cX6_hold 22 = .ok (.goto 4, 3) := dk_167 0 4 (dk_at dksX6_hold_1 0 rfl rfl)
theorem dX6_hold_25 : decode cX6_hold 25 = .ok (.iconst 0, 1) := dk_3 (dk_at dksX6_hold_1 3 rfl rfl)
theorem dX6_hold_26 : decode cX6_hold 26 = .ok (.iconst 3, 1) := dk_6 (dk_at dksX6_hold_1 4 rfl rfl)
theorem dX6_hold_27 : decode cX6_hold 27 = .ok (.invokevirtual 87, 3) := dk_182 0 87 (dk_at dksX6_hold_1 5 rfl rfl)
theorem dX6_hold_30 : decode cX6_hold 30 = .ok (.iload_n 2, 1) := dk_28 (dk_at dksX6_hold_1 8 rfl rfl)
theorem dX6_hold_31 : decode cX6_hold 31 = .ok (.ireturn, 1) := dk_172 (dk_at dksX6_hold_1 9 rfl rfl)
abbrev cX6_one : ByteArray := prog_23_method_13_code
def yX6_one : MethodName := ⟨RX6, "one", "(Ljava/util/ArrayList;)I"⟩
def dkwX6_one_0 : List UInt8 := [42, 43, 182, 0, 120, 61, 42, 182, 0, 95, 28, 172]
abbrev dktX6_one_0 : List UInt8 := dkwX6_one_0 ++ []
theorem dksX6_one_0 : cX6_one.data.toList.drop 0 = dktX6_one_0 := by decide +kernel
theorem dX6_one_0 : decode cX6_one 0 = .ok (.aload_n 0, 1) := dk_42 (dk_at dksX6_one_0 0 rfl rfl)
theorem dX6_one_1 : decode cX6_one 1 = .ok (.aload_n 1, 1) := dk_43 (dk_at dksX6_one_0 1 rfl rfl)
theorem dX6_one_2 : decode cX6_one 2 = .ok (.invokevirtual 120, 3) := dk_182 0 120 (dk_at dksX6_one_0 2 rfl rfl)
theorem dX6_one_5 : decode cX6_one 5 = .ok (.istore_n 2, 1) := dk_61 (dk_at dksX6_one_0 5 rfl rfl)
theorem dX6_one_6 : decode cX6_one 6 = .ok (.aload_n 0, 1) := dk_42 (dk_at dksX6_one_0 6 rfl rfl)
theorem dX6_one_7 : decode cX6_one 7 = .ok (.invokevirtual 95, 3) := dk_182 0 95 (dk_at dksX6_one_0 7 rfl rfl)
theorem dX6_one_10 : decode cX6_one 10 = .ok (.iload_n 2, 1) := dk_28 (dk_at dksX6_one_0 10 rfl rfl)
theorem dX6_one_11 : decode cX6_one 11 = .ok (.ireturn, 1) := dk_172 (dk_at dksX6_one_0 11 rfl rfl)
abbrev cX6_end : ByteArray := prog_23_method_10_code
def yX6_end : MethodName := ⟨RX6, "end", "()V"⟩
def dkwX6_end_0 : List UInt8 := [42, 42, 180, 0, 38, 7, 160, 0, 7, 4, 167, 0, 4, 3, 4, 182, 0, 87, 42, 182, 0, 95, 177]
abbrev dktX6_end_0 : List UInt8 := dkwX6_end_0 ++ []
theorem dksX6_end_0 : cX6_end.data.toList.drop 0 = dktX6_end_0 := by decide +kernel
theorem dX6_end_0 : decode cX6_end 0 = .ok (.aload_n 0, 1) := dk_42 (dk_at dksX6_end_0 0 rfl rfl)
theorem dX6_end_1 : decode cX6_end 1 = .ok (.aload_n 0, 1) := dk_42 (dk_at dksX6_end_0 1 rfl rfl)
theorem dX6_end_2 : decode cX6_end 2 = .ok (.getfield 38, 3) := dk_180 0 38 (dk_at dksX6_end_0 2 rfl rfl)
theorem dX6_end_5 : decode cX6_end 5 = .ok (.iconst 4, 1) := dk_7 (dk_at dksX6_end_0 5 rfl rfl)
theorem dX6_end_6 : decode cX6_end 6 = .ok (.if_icmp .ne 7, 3) := dk_160 0 7 (dk_at dksX6_end_0 6 rfl rfl)
theorem dX6_end_9 : decode cX6_end 9 = .ok (.iconst 1, 1) := dk_4 (dk_at dksX6_end_0 9 rfl rfl)
theorem dX6_end_10 : decode cX6_end 10 = .ok (.goto 4, 3) := dk_167 0 4 (dk_at dksX6_end_0 10 rfl rfl)
theorem dX6_end_13 : decode cX6_end 13 = .ok (.iconst 0, 1) := dk_3 (dk_at dksX6_end_0 13 rfl rfl)
theorem dX6_end_14 : decode cX6_end 14 = .ok (.iconst 1, 1) := dk_4 (dk_at dksX6_end_0 14 rfl rfl)
theorem dX6_end_15 : decode cX6_end 15 = .ok (.invokevirtual 87, 3) := dk_182 0 87 (dk_at dksX6_end_0 15 rfl rfl)
theorem dX6_end_18 : decode cX6_end 18 = .ok (.aload_n 0, 1) := dk_42 (dk_at dksX6_end_0 18 rfl rfl)
theorem dX6_end_19 : decode cX6_end 19 = .ok (.invokevirtual 95, 3) := dk_182 0 95 (dk_at dksX6_end_0 19 rfl rfl)
theorem dX6_end_22 : decode cX6_end 22 = .ok (.return_, 1) := dk_177 (dk_at dksX6_end_0 22 rfl rfl)
theorem q123 : (Jvm.Cond.initialized "InchBorders$Reader") ∈ lw_all := lw_g (lw_at lw_m1 12 rfl) rfl
theorem q469 : (Jvm.Cond.instanceMethod ({ cls := "InchBorders$Reader", name := "<init>", desc := "([BII)V" } : Jvm.MethodName)) ∈ lw_all := lw_g (lw_at lw_m2 118 rfl) rfl
theorem q470 : (Jvm.Cond.code ({ cls := "InchBorders$Reader", name := "<init>", desc := "([BII)V" } : Jvm.MethodName) prog_23_method_1_code (4 : Nat) (Option.none : Option Jvm.ClassFile.FieldType)) ∈ lw_all := lw_g (lw_at lw_m2 119 rfl) rfl
theorem q471 : (Jvm.Cond.methodLink "InchBorders$Reader" (3 : Nat) ({ cls := "java/lang/Object", name := "<init>", desc := "()V" } : Jvm.MethodName)) ∈ lw_all := lw_g (lw_at lw_m2 120 rfl) rfl
theorem q472 : (Jvm.Cond.stringRef "InchBorders$Reader" (9 : Nat) "") ∈ lw_tbl := lw_at lw_m2 121 rfl
theorem q476 : (Jvm.Cond.fieldLink "InchBorders$Reader" (17 : Nat) "InchBorders$Reader" "tape" "[B") ∈ lw_all := lw_g (lw_at lw_m2 125 rfl) rfl
theorem q477 : (Jvm.Cond.fieldLink "InchBorders$Reader" (21 : Nat) "InchBorders$Reader" "size" "I") ∈ lw_all := lw_g (lw_at lw_m2 126 rfl) rfl
theorem q478 : (Jvm.Cond.fieldLink "InchBorders$Reader" (25 : Nat) "InchBorders$Reader" "limit" "I") ∈ lw_all := lw_g (lw_at lw_m2 127 rfl) rfl
theorem q479 : (Jvm.Cond.fieldLink "InchBorders$Reader" (28 : Nat) "InchBorders$Reader" "to" "I") ∈ lw_all := lw_g (lw_at lw_m2 128 rfl) rfl
theorem q486 : (Jvm.Cond.fieldLink "InchBorders$Reader" (38 : Nat) "InchBorders$Reader" "kind" "I") ∈ lw_all := lw_g (lw_at lw_m2 135 rfl) rfl
theorem q487 : (Jvm.Cond.fieldLink "InchBorders$Reader" (35 : Nat) "InchBorders$Reader" "from" "I") ∈ lw_all := lw_g (lw_at lw_m2 136 rfl) rfl
theorem q488 : (Jvm.Cond.fieldLink "InchBorders$Reader" (51 : Nat) "InchBorders$Reader" "number" "I") ∈ lw_all := lw_g (lw_at lw_m2 137 rfl) rfl
theorem q489 : (Jvm.Cond.fieldLink "InchBorders$Reader" (48 : Nat) "InchBorders$Reader" "sign" "I") ∈ lw_all := lw_g (lw_at lw_m2 138 rfl) rfl
theorem q492 : (Jvm.Cond.fieldLink "InchBorders$Reader" (11 : Nat) "InchBorders$Reader" "word" "Ljava/lang/String;") ∈ lw_all := lw_g (lw_at lw_m2 141 rfl) rfl
theorem q498 : (Jvm.Cond.soleField "InchBorders$Reader" "tape") ∈ lw_all := lw_g (lw_at lw_m2 147 rfl) rfl
theorem q500 : (Jvm.Cond.soleField "InchBorders$Reader" "size") ∈ lw_all := lw_g (lw_at lw_m2 149 rfl) rfl
theorem q502 : (Jvm.Cond.soleField "InchBorders$Reader" "limit") ∈ lw_all := lw_g (lw_at lw_m2 151 rfl) rfl
theorem q504 : (Jvm.Cond.soleField "InchBorders$Reader" "to") ∈ lw_all := lw_g (lw_at lw_m2 153 rfl) rfl
theorem q506 : (Jvm.Cond.soleField "InchBorders$Reader" "kind") ∈ lw_all := lw_g (lw_at lw_m2 155 rfl) rfl
theorem q508 : (Jvm.Cond.soleField "InchBorders$Reader" "from") ∈ lw_all := lw_g (lw_at lw_m2 157 rfl) rfl
theorem q510 : (Jvm.Cond.soleField "InchBorders$Reader" "number") ∈ lw_all := lw_g (lw_at lw_m2 159 rfl) rfl
theorem q512 : (Jvm.Cond.soleField "InchBorders$Reader" "sign") ∈ lw_all := lw_g (lw_at lw_m2 161 rfl) rfl
theorem q514 : (Jvm.Cond.soleField "InchBorders$Reader" "word") ∈ lw_all := lw_g (lw_at lw_m2 163 rfl) rfl
theorem q522 : (Jvm.Cond.declares ({ cls := "InchBorders$Reader", name := "go", desc := "()V" } : Jvm.MethodName)) ∈ lw_tbl := lw_at lw_m2 171 rfl
theorem q524 : (Jvm.Cond.instanceMethod ({ cls := "InchBorders$Reader", name := "go", desc := "()V" } : Jvm.MethodName)) ∈ lw_all := lw_g (lw_at lw_m2 173 rfl) rfl
theorem q525 : (Jvm.Cond.code ({ cls := "InchBorders$Reader", name := "go", desc := "()V" } : Jvm.MethodName) prog_23_method_5_code (5 : Nat) (Option.none : Option Jvm.ClassFile.FieldType)) ∈ lw_all := lw_g (lw_at lw_m2 174 rfl) rfl
theorem q526 : (Jvm.Cond.methodLink "InchBorders$Reader" (31 : Nat) ({ cls := "InchBorders$Reader", name := "byteAt", desc := "(I)I" } : Jvm.MethodName)) ∈ lw_all := lw_g (lw_at lw_m2 175 rfl) rfl
theorem q527 : (Jvm.Cond.privateMethod ({ cls := "InchBorders$Reader", name := "byteAt", desc := "(I)I" } : Jvm.MethodName)) ∈ lw_tbl := lw_at lw_m2 176 rfl
theorem q528 : (Jvm.Cond.instanceMethod ({ cls := "InchBorders$Reader", name := "byteAt", desc := "(I)I" } : Jvm.MethodName)) ∈ lw_all := lw_g (lw_at lw_m2 177 rfl) rfl
theorem q529 : (Jvm.Cond.code ({ cls := "InchBorders$Reader", name := "byteAt", desc := "(I)I" } : Jvm.MethodName) prog_23_method_2_code (2 : Nat) (Option.some Jvm.ClassFile.FieldType.int)) ∈ lw_all := lw_g (lw_at lw_m2 178 rfl) rfl
theorem q530 : (Jvm.Cond.methodLink "InchBorders$Reader" (41 : Nat) ({ cls := "InchBorders$Reader", name := "isLetter", desc := "(I)Z" } : Jvm.MethodName)) ∈ lw_all := lw_g (lw_at lw_m2 179 rfl) rfl
theorem q531 : (Jvm.Cond.static ({ cls := "InchBorders$Reader", name := "isLetter", desc := "(I)Z" } : Jvm.MethodName)) ∈ lw_all := lw_g (lw_at lw_m2 180 rfl) rfl
theorem q532 : (Jvm.Cond.code ({ cls := "InchBorders$Reader", name := "isLetter", desc := "(I)Z" } : Jvm.MethodName) prog_23_method_4_code (1 : Nat) (Option.some Jvm.ClassFile.FieldType.boolean)) ∈ lw_all := lw_g (lw_at lw_m2 181 rfl) rfl
theorem q533 : (Jvm.Cond.methodLink "InchBorders$Reader" (45 : Nat) ({ cls := "InchBorders$Reader", name := "isDigit", desc := "(I)Z" } : Jvm.MethodName)) ∈ lw_all := lw_g (lw_at lw_m2 182 rfl) rfl
theorem q534 : (Jvm.Cond.static ({ cls := "InchBorders$Reader", name := "isDigit", desc := "(I)Z" } : Jvm.MethodName)) ∈ lw_all := lw_g (lw_at lw_m2 183 rfl) rfl
theorem q535 : (Jvm.Cond.code ({ cls := "InchBorders$Reader", name := "isDigit", desc := "(I)Z" } : Jvm.MethodName) prog_23_method_3_code (1 : Nat) (Option.some Jvm.ClassFile.FieldType.boolean)) ∈ lw_all := lw_g (lw_at lw_m2 184 rfl) rfl
theorem q536 : (Jvm.Cond.classLink "InchBorders$Reader" (54 : Nat) "java/lang/StringBuilder") ∈ lw_all := lw_g (lw_at lw_m2 185 rfl) rfl
theorem q538 : (Jvm.Cond.methodLink "InchBorders$Reader" (56 : Nat) ({ cls := "java/lang/StringBuilder", name := "<init>", desc := "()V" } : Jvm.MethodName)) ∈ lw_all := lw_g (lw_at lw_m2 187 rfl) rfl
theorem q567 : (Jvm.Cond.methodLink "InchBorders$Reader" (57 : Nat) ({ cls := "java/lang/StringBuilder", name := "append", desc := "(C)Ljava/lang/StringBuilder;" } : Jvm.MethodName)) ∈ lw_all := lw_g (lw_at lw_m2 216 rfl) rfl
theorem q660 : (Jvm.Cond.methodLink "InchBorders$Reader" (61 : Nat) ({ cls := "java/lang/StringBuilder", name := "toString", desc := "()Ljava/lang/String;" } : Jvm.MethodName)) ∈ lw_all := lw_g (lw_at lw_m3 69 rfl) rfl
theorem q728 : (Jvm.Cond.declares ({ cls := "InchBorders$Reader", name := "is", desc := "(Ljava/lang/String;)Z" } : Jvm.MethodName)) ∈ lw_tbl := lw_at lw_m3 137 rfl
theorem q730 : (Jvm.Cond.instanceMethod ({ cls := "InchBorders$Reader", name := "is", desc := "(Ljava/lang/String;)Z" } : Jvm.MethodName)) ∈ lw_all := lw_g (lw_at lw_m3 139 rfl) rfl
theorem q731 : (Jvm.Cond.code ({ cls := "InchBorders$Reader", name := "is", desc := "(Ljava/lang/String;)Z" } : Jvm.MethodName) prog_23_method_7_code (2 : Nat) (Option.some Jvm.ClassFile.FieldType.boolean)) ∈ lw_all := lw_g (lw_at lw_m3 140 rfl) rfl
theorem q732 : (Jvm.Cond.methodLink "InchBorders$Reader" (70 : Nat) ({ cls := "java/lang/String", name := "equals", desc := "(Ljava/lang/Object;)Z" } : Jvm.MethodName)) ∈ lw_all := lw_g (lw_at lw_m3 141 rfl) rfl
theorem q751 : (Jvm.Cond.declares ({ cls := "InchBorders$Reader", name := "need", desc := "(ZI)V" } : Jvm.MethodName)) ∈ lw_tbl := lw_at lw_m3 160 rfl
theorem q753 : (Jvm.Cond.instanceMethod ({ cls := "InchBorders$Reader", name := "need", desc := "(ZI)V" } : Jvm.MethodName)) ∈ lw_all := lw_g (lw_at lw_m3 162 rfl) rfl
theorem q754 : (Jvm.Cond.code ({ cls := "InchBorders$Reader", name := "need", desc := "(ZI)V" } : Jvm.MethodName) prog_23_method_6_code (3 : Nat) (Option.none : Option Jvm.ClassFile.FieldType)) ∈ lw_all := lw_g (lw_at lw_m3 163 rfl) rfl
theorem q755 : (Jvm.Cond.classLink "InchBorders$Reader" (65 : Nat) "InchBorders$Fault") ∈ lw_all := lw_g (lw_at lw_m3 164 rfl) rfl
theorem q793 : (Jvm.Cond.methodLink "InchBorders$Reader" (67 : Nat) ({ cls := "InchBorders$Fault", name := "<init>", desc := "(II)V" } : Jvm.MethodName)) ∈ lw_all := lw_g (lw_at lw_m3 202 rfl) rfl
theorem q829 : (Jvm.Cond.declares ({ cls := "InchBorders$Reader", name := "isName", desc := "()Z" } : Jvm.MethodName)) ∈ lw_tbl := lw_at lw_m3 238 rfl
theorem q831 : (Jvm.Cond.instanceMethod ({ cls := "InchBorders$Reader", name := "isName", desc := "()Z" } : Jvm.MethodName)) ∈ lw_all := lw_g (lw_at lw_m4 0 rfl) rfl
theorem q832 : (Jvm.Cond.code ({ cls := "InchBorders$Reader", name := "isName", desc := "()Z" } : Jvm.MethodName) prog_23_method_8_code (1 : Nat) (Option.some Jvm.ClassFile.FieldType.boolean)) ∈ lw_all := lw_g (lw_at lw_m4 1 rfl) rfl
theorem q833 : (Jvm.Cond.stringRef "InchBorders$Reader" (76 : Nat) " land store road treaty person crosses pact break close open lend day or and not home stuck in of free length taken crossed number ") ∈ lw_tbl := lw_at lw_m4 2 rfl
theorem q834 : (Jvm.Cond.stringRef "InchBorders$Reader" (78 : Nat) " ") ∈ lw_tbl := lw_at lw_m4 3 rfl
theorem q835 : (Jvm.Cond.methodLink "InchBorders$Reader" (80 : Nat) ({ cls := "java/lang/StringBuilder", name := "append", desc := "(Ljava/lang/String;)Ljava/lang/StringBuilder;" } : Jvm.MethodName)) ∈ lw_all := lw_g (lw_at lw_m4 4 rfl) rfl
theorem q881 : (Jvm.Cond.methodLink "InchBorders$Reader" (83 : Nat) ({ cls := "java/lang/String", name := "indexOf", desc := "(Ljava/lang/String;)I" } : Jvm.MethodName)) ∈ lw_all := lw_g (lw_at lw_m4 50 rfl) rfl
theorem q909 : (Jvm.Cond.declares ({ cls := "InchBorders$Reader", name := "find", desc := "(Ljava/util/ArrayList;)I" } : Jvm.MethodName)) ∈ lw_tbl := lw_at lw_m4 78 rfl
theorem q911 : (Jvm.Cond.instanceMethod ({ cls := "InchBorders$Reader", name := "find", desc := "(Ljava/util/ArrayList;)I" } : Jvm.MethodName)) ∈ lw_all := lw_g (lw_at lw_m4 80 rfl) rfl
theorem q912 : (Jvm.Cond.code ({ cls := "InchBorders$Reader", name := "find", desc := "(Ljava/util/ArrayList;)I" } : Jvm.MethodName) prog_23_method_11_code (3 : Nat) (Option.some Jvm.ClassFile.FieldType.int)) ∈ lw_all := lw_g (lw_at lw_m4 81 rfl) rfl
theorem q913 : (Jvm.Cond.methodLink "InchBorders$Reader" (98 : Nat) ({ cls := "java/util/ArrayList", name := "size", desc := "()I" } : Jvm.MethodName)) ∈ lw_all := lw_g (lw_at lw_m4 82 rfl) rfl
theorem q914 : (Jvm.Cond.methodLink "InchBorders$Reader" (103 : Nat) ({ cls := "java/util/ArrayList", name := "get", desc := "(I)Ljava/lang/Object;" } : Jvm.MethodName)) ∈ lw_all := lw_g (lw_at lw_m4 83 rfl) rfl
theorem q915 : (Jvm.Cond.classLink "InchBorders$Reader" (107 : Nat) "InchBorders$Named") ∈ lw_all := lw_g (lw_at lw_m4 84 rfl) rfl
theorem q918 : (Jvm.Cond.declares ({ cls := "InchBorders$Reader", name := "number", desc := "(II)I" } : Jvm.MethodName)) ∈ lw_tbl := lw_at lw_m4 87 rfl
theorem q920 : (Jvm.Cond.instanceMethod ({ cls := "InchBorders$Reader", name := "number", desc := "(II)I" } : Jvm.MethodName)) ∈ lw_all := lw_g (lw_at lw_m4 89 rfl) rfl
theorem q921 : (Jvm.Cond.code ({ cls := "InchBorders$Reader", name := "number", desc := "(II)I" } : Jvm.MethodName) prog_23_method_9_code (4 : Nat) (Option.some Jvm.ClassFile.FieldType.int)) ∈ lw_all := lw_g (lw_at lw_m4 90 rfl) rfl
theorem q922 : (Jvm.Cond.methodLink "InchBorders$Reader" (87 : Nat) ({ cls := "InchBorders$Reader", name := "need", desc := "(ZI)V" } : Jvm.MethodName)) ∈ lw_all := lw_g (lw_at lw_m4 91 rfl) rfl
theorem q923 : (Jvm.Cond.methodLinkNest "InchBorders$Reader" (91 : Nat) ({ cls := "InchBorders", name := "isIn", desc := "(III)Z" } : Jvm.MethodName) "InchBorders") ∈ lw_tbl := lw_at lw_m4 92 rfl
theorem q926 : (Jvm.Cond.methodLink "InchBorders$Reader" (95 : Nat) ({ cls := "InchBorders$Reader", name := "go", desc := "()V" } : Jvm.MethodName)) ∈ lw_all := lw_g (lw_at lw_m4 95 rfl) rfl
theorem q947 : (Jvm.Cond.fieldLink "InchBorders$Reader" (109 : Nat) "InchBorders$Named" "name" "Ljava/lang/String;") ∈ lw_all := lw_g (lw_at lw_m4 116 rfl) rfl
theorem q1033 : (Jvm.Cond.declares ({ cls := "InchBorders$Reader", name := "hold", desc := "(Ljava/util/ArrayList;)I" } : Jvm.MethodName)) ∈ lw_tbl := lw_at lw_m4 202 rfl
theorem q1035 : (Jvm.Cond.instanceMethod ({ cls := "InchBorders$Reader", name := "hold", desc := "(Ljava/util/ArrayList;)I" } : Jvm.MethodName)) ∈ lw_all := lw_g (lw_at lw_m4 204 rfl) rfl
theorem q1036 : (Jvm.Cond.code ({ cls := "InchBorders$Reader", name := "hold", desc := "(Ljava/util/ArrayList;)I" } : Jvm.MethodName) prog_23_method_12_code (3 : Nat) (Option.some Jvm.ClassFile.FieldType.int)) ∈ lw_all := lw_g (lw_at lw_m4 205 rfl) rfl
theorem q1037 : (Jvm.Cond.methodLink "InchBorders$Reader" (112 : Nat) ({ cls := "InchBorders$Reader", name := "isName", desc := "()Z" } : Jvm.MethodName)) ∈ lw_all := lw_g (lw_at lw_m4 206 rfl) rfl
theorem q1038 : (Jvm.Cond.methodLink "InchBorders$Reader" (116 : Nat) ({ cls := "InchBorders$Reader", name := "find", desc := "(Ljava/util/ArrayList;)I" } : Jvm.MethodName)) ∈ lw_all := lw_g (lw_at lw_m4 207 rfl) rfl
theorem q1047 : (Jvm.Cond.declares ({ cls := "InchBorders$Reader", name := "one", desc := "(Ljava/util/ArrayList;)I" } : Jvm.MethodName)) ∈ lw_tbl := lw_at lw_m4 216 rfl
theorem q1049 : (Jvm.Cond.instanceMethod ({ cls := "InchBorders$Reader", name := "one", desc := "(Ljava/util/ArrayList;)I" } : Jvm.MethodName)) ∈ lw_all := lw_g (lw_at lw_m4 218 rfl) rfl
theorem q1050 : (Jvm.Cond.code ({ cls := "InchBorders$Reader", name := "one", desc := "(Ljava/util/ArrayList;)I" } : Jvm.MethodName) prog_23_method_13_code (3 : Nat) (Option.some Jvm.ClassFile.FieldType.int)) ∈ lw_all := lw_g (lw_at lw_m4 219 rfl) rfl
theorem q1051 : (Jvm.Cond.methodLink "InchBorders$Reader" (120 : Nat) ({ cls := "InchBorders$Reader", name := "hold", desc := "(Ljava/util/ArrayList;)I" } : Jvm.MethodName)) ∈ lw_all := lw_g (lw_at lw_m4 220 rfl) rfl
theorem q1118 : (Jvm.Cond.declares ({ cls := "InchBorders$Reader", name := "end", desc := "()V" } : Jvm.MethodName)) ∈ lw_tbl := lw_at lw_m5 47 rfl
theorem q1120 : (Jvm.Cond.instanceMethod ({ cls := "InchBorders$Reader", name := "end", desc := "()V" } : Jvm.MethodName)) ∈ lw_all := lw_g (lw_at lw_m5 49 rfl) rfl
theorem q1121 : (Jvm.Cond.code ({ cls := "InchBorders$Reader", name := "end", desc := "()V" } : Jvm.MethodName) prog_23_method_10_code (1 : Nat) (Option.none : Option Jvm.ClassFile.FieldType)) ∈ lw_all := lw_g (lw_at lw_m5 50 rfl) rfl
theorem q2693 : (Jvm.Cond.sameMethod "InchBorders$Reader" "InchBorders$Reader" "byteAt" "(I)I") ∈ lw_all := lw_g (lw_at lw_m11 182 rfl) rfl
theorem q2703 : (Jvm.Cond.sameMethod "InchBorders$Reader" "InchBorders$Reader" "need" "(ZI)V") ∈ lw_all := lw_g (lw_at lw_m11 192 rfl) rfl
theorem q2707 : (Jvm.Cond.sameMethod "InchBorders$Reader" "InchBorders$Reader" "go" "()V") ∈ lw_all := lw_g (lw_at lw_m11 196 rfl) rfl
theorem q2711 : (Jvm.Cond.sameMethod "InchBorders$Reader" "InchBorders$Reader" "isName" "()Z") ∈ lw_all := lw_g (lw_at lw_m11 200 rfl) rfl
theorem q2715 : (Jvm.Cond.sameMethod "InchBorders$Reader" "InchBorders$Reader" "find" "(Ljava/util/ArrayList;)I") ∈ lw_all := lw_g (lw_at lw_m11 204 rfl) rfl
theorem q2719 : (Jvm.Cond.sameMethod "InchBorders$Reader" "InchBorders$Reader" "hold" "(Ljava/util/ArrayList;)I") ∈ lw_all := lw_g (lw_at lw_m11 208 rfl) rfl
