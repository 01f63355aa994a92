/-! InchBorders$Land -/
set_option maxRecDepth 100000
def RX10 : String := "InchBorders$Land"
def TX10 : u_T := fun k => match k with
  | 0 => ("InchBorders$Named", "name", "Ljava/lang/String;", true)
  | 1 => ("InchBorders$Land", "take", "I", true)
  | 2 => ("InchBorders$Land", "give", "I", true)
  | 3 => ("InchBorders$Land", "store", "I", false)
  | 4 => ("InchBorders$Land", "spares", "I", false)
  | _ => ("InchBorders$Land", "told", "Z", false)
def tyX10 : Nat → FieldType := fun k => match k with
  | 0 => .object "java/lang/String"
  | 1 => .int
  | 2 => .int
  | 3 => .int
  | 4 => .int
  | _ => .boolean
abbrev wsX100 : List Cond := u_ws RX10 TX10 6
theorem nmX10 : ∀ a, a < 6 → ∀ b, b < 6 → a ≠ b → (TX10 a).2.1 ≠ (TX10 b).2.1 := by decide +kernel
theorem tyX10_ok : ∀ k, k < 6 → parseFieldDescriptor (TX10 k).2.2.1 = some (tyX10 k) := by decide +kernel
abbrev cX10_init : ByteArray := prog_13_method_1_code
def yX10_init : MethodName := ⟨RX10, "<init>", "(Ljava/lang/String;II)V"⟩
def dkwX10_init_0 : List UInt8 := [42, 43, 183, 0, 1, 42, 28, 181, 0, 7, 42, 29, 181, 0, 13, 177]
abbrev dktX10_init_0 : List UInt8 := dkwX10_init_0 ++ []
theorem dksX10_init_0 : cX10_init.data.toList.drop 0 = dktX10_init_0 := by decide +kernel
theorem dX10_init_0 : decode cX10_init 0 = .ok (.aload_n 0, 1) := dk_42 (dk_at dksX10_init_0 0 rfl rfl)
theorem dX10_init_1 : decode cX10_init 1 = .ok (.aload_n 1, 1) := dk_43 (dk_at dksX10_init_0 1 rfl rfl)
theorem dX10_init_2 : decode cX10_init 2 = .ok (.invokespecial 1, 3) := dk_183 0 1 (dk_at dksX10_init_0 2 rfl rfl)
theorem dX10_init_5 : decode cX10_init 5 = .ok (.aload_n 0, 1) := dk_42 (dk_at dksX10_init_0 5 rfl rfl)
theorem dX10_init_6 : decode cX10_init 6 = .ok (.iload_n 2, 1) := dk_28 (dk_at dksX10_init_0 6 rfl rfl)
theorem dX10_init_7 : decode cX10_init 7 = .ok (.putfield 7, 3) := dk_181 0 7 (dk_at dksX10_init_0 7 rfl rfl)
theorem dX10_init_10 : decode cX10_init 10 = .ok (.aload_n 0, 1) := dk_42 (dk_at dksX10_init_0 10 rfl rfl)
theorem dX10_init_11 : decode cX10_init 11 = .ok (.iload_n 3, 1) := dk_29 (dk_at dksX10_init_0 11 rfl rfl)
theorem dX10_init_12 : decode cX10_init 12 = .ok (.putfield 13, 3) := dk_181 0 13 (dk_at dksX10_init_0 12 rfl rfl)
theorem dX10_init_15 : decode cX10_init 15 = .ok (.return_, 1) := dk_177 (dk_at dksX10_init_0 15 rfl rfl)
theorem q137 : (Jvm.Cond.initialized "InchBorders$Land") ∈ lw_all := lw_g (lw_at lw_m1 26 rfl) rfl
theorem q928 : (Jvm.Cond.instantiable "InchBorders$Land" (6 : Nat)) ∈ lw_all := lw_g (lw_at lw_m4 97 rfl) rfl
theorem q930 : (Jvm.Cond.instanceMethod ({ cls := "InchBorders$Land", name := "<init>", desc := "(Ljava/lang/String;II)V" } : Jvm.MethodName)) ∈ lw_all := lw_g (lw_at lw_m4 99 rfl) rfl
theorem q931 : (Jvm.Cond.code ({ cls := "InchBorders$Land", name := "<init>", desc := "(Ljava/lang/String;II)V" } : Jvm.MethodName) prog_13_method_1_code (4 : Nat) (Option.none : Option Jvm.ClassFile.FieldType)) ∈ lw_all := lw_g (lw_at lw_m4 100 rfl) rfl
theorem q932 : (Jvm.Cond.methodLink "InchBorders$Land" (1 : Nat) ({ cls := "InchBorders$Named", name := "<init>", desc := "(Ljava/lang/String;)V" } : Jvm.MethodName)) ∈ lw_all := lw_g (lw_at lw_m4 101 rfl) rfl
theorem q936 : (Jvm.Cond.fieldLink "InchBorders$Land" (7 : Nat) "InchBorders$Land" "take" "I") ∈ lw_all := lw_g (lw_at lw_m4 105 rfl) rfl
theorem q938 : (Jvm.Cond.fieldLink "InchBorders$Land" (13 : Nat) "InchBorders$Land" "give" "I") ∈ lw_all := lw_g (lw_at lw_m4 107 rfl) rfl
theorem q951 : (Jvm.Cond.sameField "InchBorders$Land" "InchBorders$Named" "name" "Ljava/lang/String;") ∈ lw_all := lw_g (lw_at lw_m4 120 rfl) rfl
theorem q952 : (Jvm.Cond.laysFinal "InchBorders$Land" "InchBorders$Land" "take" "I") ∈ lw_all := lw_g (lw_at lw_m4 121 rfl) rfl
theorem q953 : (Jvm.Cond.soleField "InchBorders$Land" "take") ∈ lw_all := lw_g (lw_at lw_m4 122 rfl) rfl
theorem q954 : (Jvm.Cond.laysFinal "InchBorders$Land" "InchBorders$Land" "give" "I") ∈ lw_all := lw_g (lw_at lw_m4 123 rfl) rfl
theorem q955 : (Jvm.Cond.soleField "InchBorders$Land" "give") ∈ lw_all := lw_g (lw_at lw_m4 124 rfl) rfl
theorem q956 : (Jvm.Cond.lays "InchBorders$Land" "InchBorders$Land" "store" "I") ∈ lw_all := lw_g (lw_at lw_m4 125 rfl) rfl
theorem q957 : (Jvm.Cond.soleField "InchBorders$Land" "store") ∈ lw_all := lw_g (lw_at lw_m4 126 rfl) rfl
theorem q958 : (Jvm.Cond.lays "InchBorders$Land" "InchBorders$Land" "spares" "I") ∈ lw_all := lw_g (lw_at lw_m4 127 rfl) rfl
theorem q959 : (Jvm.Cond.soleField "InchBorders$Land" "spares") ∈ lw_all := lw_g (lw_at lw_m4 128 rfl) rfl
theorem q960 : (Jvm.Cond.lays "InchBorders$Land" "InchBorders$Land" "told" "Z") ∈ lw_all := lw_g (lw_at lw_m4 129 rfl) rfl
theorem q961 : (Jvm.Cond.soleField "InchBorders$Land" "told") ∈ lw_all := lw_g (lw_at lw_m4 130 rfl) rfl
theorem q962 : (Jvm.Cond.laysFinal "InchBorders$Land" "InchBorders$Named" "name" "Ljava/lang/String;") ∈ lw_all := lw_g (lw_at lw_m4 131 rfl) rfl
theorem q964 : (Jvm.Cond.superclass "InchBorders$Land" "InchBorders$Named") ∈ lw_all := lw_g (lw_at lw_m4 133 rfl) rfl
theorem q998 : (Jvm.Cond.selects "InchBorders$Land" ({ cls := "java/lang/Object", name := "getClass", desc := "()Ljava/lang/Class;" } : Jvm.MethodName) ({ cls := "java/lang/Object", name := "getClass", desc := "()Ljava/lang/Class;" } : Jvm.MethodName)) ∈ lw_all := lw_g (lw_at lw_m4 167 rfl) rfl
theorem q2724 : (Jvm.Cond.castable "InchBorders$Land" "InchBorders$Named") ∈ lw_tbl := lw_at lw_m11 213 rfl
theorem q2741 : (Jvm.Cond.castable "InchBorders$Land" "java/lang/Object") ∈ lw_tbl := lw_at lw_m11 230 rfl
theorem in_X10 : ∀ w ∈ wsX100, w ∈ lw_all := lw_in wsX100 [962, 952, 954, 956, 958, 960] (by decide +kernel) (by decide +kernel)

/-! InchBorders$Road -/
set_option maxRecDepth 100000
def RX11 : String := "InchBorders$Road"
def TX11 : u_T := fun k => match k with
  | 0 => ("InchBorders$Road", "a", "I", true)
  | 1 => ("InchBorders$Road", "b", "I", true)
  | 2 => ("InchBorders$Road", "low", "I", true)
  | _ => ("InchBorders$Road", "high", "I", true)
def tyX11 : Nat → FieldType := fun k => match k with
  | 0 => .int
  | 1 => .int
  | 2 => .int
  | _ => .int
abbrev wsX110 : List Cond := u_ws RX11 TX11 4
theorem nmX11 : ∀ a, a < 4 → ∀ b, b < 4 → a ≠ b → (TX11 a).2.1 ≠ (TX11 b).2.1 := by decide +kernel
theorem tyX11_ok : ∀ k, k < 4 → parseFieldDescriptor (TX11 k).2.2.1 = some (tyX11 k) := by decide +kernel
abbrev cX11_is : ByteArray := prog_24_method_2_code
def yX11_is : MethodName := ⟨RX11, "is", "(II)Z"⟩
def dkwX11_is_1 : List UInt8 := [42, 180, 0, 13, 27, 160, 0, 7, 4, 167, 0, 4, 3, 172]
abbrev dktX11_is_1 : List UInt8 := dkwX11_is_1 ++ []
def dkwX11_is_0 : List UInt8 := [42, 180, 0, 7, 27, 160, 0, 11, 42, 180, 0, 13, 28, 159, 0, 19, 42, 180, 0, 7, 28, 160, 0, 15]
abbrev dktX11_is_0 : List UInt8 := dkwX11_is_0 ++ dktX11_is_1
theorem dksX11_is_0 : cX11_is.data.toList.drop 0 = dktX11_is_0 := by decide +kernel
theorem dksX11_is_1 : cX11_is.data.toList.drop 24 = dktX11_is_1 := dk_seg dksX11_is_0 24 rfl rfl
theorem dX11_is_0 : decode cX11_is 0 = .ok (.aload_n 0, 1) := dk_42 (dk_at dksX11_is_0 0 rfl rfl)
theorem dX11_is_1 : decode cX11_is 1 = .ok (.getfield 7, 3) := dk_180 0 7 (dk_at dksX11_is_0 1 rfl rfl)
theorem dX11_is_4 : decode cX11_is 4 = .ok (.iload_n 1, 1) := dk_27 (dk_at dksX11_is_0 4 rfl rfl)
theorem dX11_is_5 : decode cX11_is 5 = .ok (.if_icmp .ne 11, 3) := dk_160 0 11 (dk_at dksX11_is_0 5 rfl rfl)
theorem dX11_is_8 : decode cX11_is 8 = .ok (.aload_n 0, 1) := dk_42 (dk_at dksX11_is_0 8 rfl rfl)
theorem dX11_is_9 : decode cX11_is 9 = .ok (.getfield 13, 3) := dk_180 0 13 (dk_at dksX11_is_0 9 rfl rfl)
theorem dX11_is_12 : decode cX11_is 12 = .ok (.iload_n 2, 1) := dk_28 (dk_at dksX11_is_0 12 rfl rfl)
theorem dX11_is_13 : decode cX11_is 13 = .ok (.if_icmp .eq 19, 3) := dk_159 0 19 (dk_at dksX11_is_0 13 rfl rfl)
theorem dX11_is_16 : decode cX11_is 16 = .ok (.aload_n 0, 1) := dk_42 (dk_at dksX11_is_0 16 rfl rfl)
theorem dX11_is_17 : decode cX11_is 17 = .ok (.getfield 7, 3) := dk_180 0 7 (dk_at dksX11_is_0 17 rfl rfl)
theorem dX11_is_20 : decode cX11_is 20 = .ok (.iload_n 2, 1) := dk_28 (dk_at dksX11_is_0 20 rfl rfl)
theorem dX11_is_21 : decode cX11_is 21 = .ok (.if_icmp .ne 15, 3) := dk_160 0 15 (dk_at dksX11_is_0 21 rfl rfl)
theorem dX11_is_24 : decode cX11_is 24 = .ok (.aload_n 0, 1) := dk_42 (dk_at dksX11_is_1 0 rfl rfl)
theorem dX11_is_25 : decode cX11_is 25 = .ok (.getfield 13, 3) := dk_180 0 13 (dk_at dksX11_is_1 1 rfl rfl)
theorem dX11_is_28 : decode cX11_is 28 = .ok (.iload_n 1, 1) := dk_27 (dk_at dksX11_is_1 4 rfl rfl)
theorem dX11_is_29 : decode cX11_is 29 = .ok (.if_icmp .ne 7, 3) := dk_160 0 7 (dk_at dksX11_is_1 5 rfl rfl)
theorem dX11_is_32 : decode cX11_is 32 = .ok (.iconst 1, 1) := dk_4 (dk_at dksX11_is_1 8 rfl rfl)
theorem dX11_is_33 : decode cX11_is 33 = .ok (.goto 4, 3) := dk_167 0 4 (dk_at dksX11_is_1 9 rfl rfl)
theorem dX11_is_36 : decode cX11_is 36 = .ok (.iconst 0, 1) := dk_3 (dk_at dksX11_is_1 12 rfl rfl)
theorem dX11_is_37 : decode cX11_is 37 = .ok (.ireturn, 1) := dk_172 (dk_at dksX11_is_1 13 rfl rfl)
abbrev cX11_init : ByteArray := prog_24_method_1_code
def yX11_init : MethodName := ⟨RX11, "<init>", "(IIII)V"⟩
def dkwX11_init_1 : List UInt8 := [181, 0, 19, 177]
abbrev dktX11_init_1 : List UInt8 := dkwX11_init_1 ++ []
def dkwX11_init_0 : List UInt8 := [42, 183, 0, 1, 42, 27, 181, 0, 7, 42, 28, 181, 0, 13, 42, 29, 181, 0, 16, 42, 21, 4]
abbrev dktX11_init_0 : List UInt8 := dkwX11_init_0 ++ dktX11_init_1
theorem dksX11_init_0 : cX11_init.data.toList.drop 0 = dktX11_init_0 := by decide +kernel
theorem dksX11_init_1 : cX11_init.data.toList.drop 22 = dktX11_init_1 := dk_seg dksX11_init_0 22 rfl rfl
theorem dX11_init_0 : decode cX11_init 0 = .ok (.aload_n 0, 1) := dk_42 (dk_at dksX11_init_0 0 rfl rfl)
theorem dX11_init_1 : decode cX11_init 1 = .ok (.invokespecial 1, 3) := dk_183 0 1 (dk_at dksX11_init_0 1 rfl rfl)
theorem dX11_init_4 : decode cX11_init 4 = .ok (.aload_n 0, 1) := dk_42 (dk_at dksX11_init_0 4 rfl rfl)
theorem dX11_init_5 : decode cX11_init 5 = .ok (.iload_n 1, 1) := dk_27 (dk_at dksX11_init_0 5 rfl rfl)
theorem dX11_init_6 : decode cX11_init 6 = .ok (.putfield 7, 3) := dk_181 0 7 (dk_at dksX11_init_0 6 rfl rfl)
theorem dX11_init_9 : decode cX11_init 9 = .ok (.aload_n 0, 1) := dk_42 (dk_at dksX11_init_0 9 rfl rfl)
theorem dX11_init_10 : decode cX11_init 10 = .ok (.iload_n 2, 1) := dk_28 (dk_at dksX11_init_0 10 rfl rfl)
theorem dX11_init_11 : decode cX11_init 11 = .ok (.putfield 13, 3) := dk_181 0 13 (dk_at dksX11_init_0 11 rfl rfl)
theorem dX11_init_14 : decode cX11_init 14 = .ok (.aload_n 0, 1) := dk_42 (dk_at dksX11_init_0 14 rfl rfl)
theorem dX11_init_15 : decode cX11_init 15 = .ok (.iload_n 3, 1) := dk_29 (dk_at dksX11_init_0 15 rfl rfl)
theorem dX11_init_16 : decode cX11_init 16 = .ok (.putfield 16, 3) := dk_181 0 16 (dk_at dksX11_init_0 16 rfl rfl)
theorem dX11_init_19 : decode cX11_init 19 = .ok (.aload_n 0, 1) := dk_42 (dk_at dksX11_init_0 19 rfl rfl)
theorem dX11_init_20 : decode cX11_init 20 = .ok (.iload 4, 2) := dk_21 4 (dk_at dksX11_init_0 20 rfl rfl)
theorem dX11_init_22 : decode cX11_init 22 = .ok (.putfield 19, 3) := dk_181 0 19 (dk_at dksX11_init_1 0 rfl rfl)
theorem dX11_init_25 : decode cX11_init 25 = .ok (.return_, 1) := dk_177 (dk_at dksX11_init_1 3 rfl rfl)
theorem q138 : (Jvm.Cond.initialized "InchBorders$Road") ∈ lw_all := lw_g (lw_at lw_m1 27 rfl) rfl
theorem q1006 : (Jvm.Cond.selects "InchBorders$Road" ({ cls := "java/lang/Object", name := "getClass", desc := "()Ljava/lang/Class;" } : Jvm.MethodName) ({ cls := "java/lang/Object", name := "getClass", desc := "()Ljava/lang/Class;" } : Jvm.MethodName)) ∈ lw_all := lw_g (lw_at lw_m4 175 rfl) rfl
theorem q1059 : (Jvm.Cond.instanceMethod ({ cls := "InchBorders$Road", name := "is", desc := "(II)Z" } : Jvm.MethodName)) ∈ lw_all := lw_g (lw_at lw_m4 228 rfl) rfl
theorem q1060 : (Jvm.Cond.selects "InchBorders$Road" ({ cls := "InchBorders$Road", name := "is", desc := "(II)Z" } : Jvm.MethodName) ({ cls := "InchBorders$Road", name := "is", desc := "(II)Z" } : Jvm.MethodName)) ∈ lw_all := lw_g (lw_at lw_m4 229 rfl) rfl
theorem q1061 : (Jvm.Cond.code ({ cls := "InchBorders$Road", name := "is", desc := "(II)Z" } : Jvm.MethodName) prog_24_method_2_code (3 : Nat) (Option.some Jvm.ClassFile.FieldType.boolean)) ∈ lw_all := lw_g (lw_at lw_m4 230 rfl) rfl
theorem q1063 : (Jvm.Cond.instantiable "InchBorders$Road" (4 : Nat)) ∈ lw_all := lw_g (lw_at lw_m4 232 rfl) rfl
theorem q1065 : (Jvm.Cond.instanceMethod ({ cls := "InchBorders$Road", name := "<init>", desc := "(IIII)V" } : Jvm.MethodName)) ∈ lw_all := lw_g (lw_at lw_m4 234 rfl) rfl
theorem q1066 : (Jvm.Cond.code ({ cls := "InchBorders$Road", name := "<init>", desc := "(IIII)V" } : Jvm.MethodName) prog_24_method_1_code (5 : Nat) (Option.none : Option Jvm.ClassFile.FieldType)) ∈ lw_all := lw_g (lw_at lw_m4 235 rfl) rfl
theorem q1067 : (Jvm.Cond.methodLink "InchBorders$Road" (1 : Nat) ({ cls := "java/lang/Object", name := "<init>", desc := "()V" } : Jvm.MethodName)) ∈ lw_all := lw_g (lw_at lw_m4 236 rfl) rfl
theorem q1068 : (Jvm.Cond.fieldLink "InchBorders$Road" (7 : Nat) "InchBorders$Road" "a" "I") ∈ lw_all := lw_g (lw_at lw_m4 237 rfl) rfl
theorem q1070 : (Jvm.Cond.fieldLink "InchBorders$Road" (13 : Nat) "InchBorders$Road" "b" "I") ∈ lw_all := lw_g (lw_at lw_m4 239 rfl) rfl
theorem q1072 : (Jvm.Cond.fieldLink "InchBorders$Road" (16 : Nat) "InchBorders$Road" "low" "I") ∈ lw_all := lw_g (lw_at lw_m5 1 rfl) rfl
theorem q1075 : (Jvm.Cond.fieldLink "InchBorders$Road" (19 : Nat) "InchBorders$Road" "high" "I") ∈ lw_all := lw_g (lw_at lw_m5 4 rfl) rfl
theorem q1078 : (Jvm.Cond.laysFinal "InchBorders$Road" "InchBorders$Road" "a" "I") ∈ lw_all := lw_g (lw_at lw_m5 7 rfl) rfl
theorem q1079 : (Jvm.Cond.soleField "InchBorders$Road" "a") ∈ lw_all := lw_g (lw_at lw_m5 8 rfl) rfl
theorem q1080 : (Jvm.Cond.laysFinal "InchBorders$Road" "InchBorders$Road" "b" "I") ∈ lw_all := lw_g (lw_at lw_m5 9 rfl) rfl
theorem q1081 : (Jvm.Cond.soleField "InchBorders$Road" "b") ∈ lw_all := lw_g (lw_at lw_m5 10 rfl) rfl
theorem q1082 : (Jvm.Cond.laysFinal "InchBorders$Road" "InchBorders$Road" "low" "I") ∈ lw_all := lw_g (lw_at lw_m5 11 rfl) rfl
theorem q1083 : (Jvm.Cond.soleField "InchBorders$Road" "low") ∈ lw_all := lw_g (lw_at lw_m5 12 rfl) rfl
theorem q1084 : (Jvm.Cond.laysFinal "InchBorders$Road" "InchBorders$Road" "high" "I") ∈ lw_all := lw_g (lw_at lw_m5 13 rfl) rfl
theorem q1085 : (Jvm.Cond.soleField "InchBorders$Road" "high") ∈ lw_all := lw_g (lw_at lw_m5 14 rfl) rfl
theorem q1086 : (Jvm.Cond.superclass "InchBorders$Road" "java/lang/Object") ∈ lw_all := lw_g (lw_at lw_m5 15 rfl) rfl
theorem q2742 : (Jvm.Cond.castable "InchBorders$Road" "java/lang/Object") ∈ lw_tbl := lw_at lw_m11 231 rfl
theorem in_X11 : ∀ w ∈ wsX110, w ∈ lw_all := lw_in wsX110 [1078, 1080, 1082, 1084] (by decide +kernel) (by decide +kernel)

/-! InchBorders$Person -/
set_option maxRecDepth 100000
def RX12 : String := "InchBorders$Person"
def TX12 : u_T := fun k => match k with
  | 0 => ("InchBorders$Named", "name", "Ljava/lang/String;", true)
  | 1 => ("InchBorders$Person", "home", "I", true)
  | _ => ("InchBorders$Person", "tall", "I", true)
def tyX12 : Nat → FieldType := fun k => match k with
  | 0 => .object "java/lang/String"
  | 1 => .int
  | _ => .int
abbrev wsX120 : List Cond := u_ws RX12 TX12 3
theorem nmX12 : ∀ a, a < 3 → ∀ b, b < 3 → a ≠ b → (TX12 a).2.1 ≠ (TX12 b).2.1 := by decide +kernel
theorem tyX12_ok : ∀ k, k < 3 → parseFieldDescriptor (TX12 k).2.2.1 = some (tyX12 k) := by decide +kernel
abbrev cX12_init : ByteArray := prog_22_method_1_code
def yX12_init : MethodName := ⟨RX12, "<init>", "(Ljava/lang/String;II)V"⟩
def dkwX12_init_0 : List UInt8 := [42, 43, 183, 0, 1, 42, 28, 181, 0, 7, 42, 29, 181, 0, 13, 177]
abbrev dktX12_init_0 : List UInt8 := dkwX12_init_0 ++ []
theorem dksX12_init_0 : cX12_init.data.toList.drop 0 = dktX12_init_0 := by decide +kernel
theorem dX12_init_0 : decode cX12_init 0 = .ok (.aload_n 0, 1) := dk_42 (dk_at dksX12_init_0 0 rfl rfl)
theorem dX12_init_1 : decode cX12_init 1 = .ok (.aload_n 1, 1) := dk_43 (dk_at dksX12_init_0 1 rfl rfl)
theorem dX12_init_2 : decode cX12_init 2 = .ok (.invokespecial 1, 3) := dk_183 0 1 (dk_at dksX12_init_0 2 rfl rfl)
theorem dX12_init_5 : decode cX12_init 5 = .ok (.aload_n 0, 1) := dk_42 (dk_at dksX12_init_0 5 rfl rfl)
theorem dX12_init_6 : decode cX12_init 6 = .ok (.iload_n 2, 1) := dk_28 (dk_at dksX12_init_0 6 rfl rfl)
theorem dX12_init_7 : decode cX12_init 7 = .ok (.putfield 7, 3) := dk_181 0 7 (dk_at dksX12_init_0 7 rfl rfl)
theorem dX12_init_10 : decode cX12_init 10 = .ok (.aload_n 0, 1) := dk_42 (dk_at dksX12_init_0 10 rfl rfl)
theorem dX12_init_11 : decode cX12_init 11 = .ok (.iload_n 3, 1) := dk_29 (dk_at dksX12_init_0 11 rfl rfl)
theorem dX12_init_12 : decode cX12_init 12 = .ok (.putfield 13, 3) := dk_181 0 13 (dk_at dksX12_init_0 12 rfl rfl)
theorem dX12_init_15 : decode cX12_init 15 = .ok (.return_, 1) := dk_177 (dk_at dksX12_init_0 15 rfl rfl)
theorem q139 : (Jvm.Cond.initialized "InchBorders$Person") ∈ lw_all := lw_g (lw_at lw_m1 28 rfl) rfl
theorem q949 : (Jvm.Cond.sameField "InchBorders$Person" "InchBorders$Named" "name" "Ljava/lang/String;") ∈ lw_all := lw_g (lw_at lw_m4 118 rfl) rfl
theorem q1005 : (Jvm.Cond.selects "InchBorders$Person" ({ cls := "java/lang/Object", name := "getClass", desc := "()Ljava/lang/Class;" } : Jvm.MethodName) ({ cls := "java/lang/Object", name := "getClass", desc := "()Ljava/lang/Class;" } : Jvm.MethodName)) ∈ lw_all := lw_g (lw_at lw_m4 174 rfl) rfl
theorem q1101 : (Jvm.Cond.instantiable "InchBorders$Person" (3 : Nat)) ∈ lw_all := lw_g (lw_at lw_m5 30 rfl) rfl
theorem q1103 : (Jvm.Cond.instanceMethod ({ cls := "InchBorders$Person", name := "<init>", desc := "(Ljava/lang/String;II)V" } : Jvm.MethodName)) ∈ lw_all := lw_g (lw_at lw_m5 32 rfl) rfl
theorem q1104 : (Jvm.Cond.code ({ cls := "InchBorders$Person", name := "<init>", desc := "(Ljava/lang/String;II)V" } : Jvm.MethodName) prog_22_method_1_code (4 : Nat) (Option.none : Option Jvm.ClassFile.FieldType)) ∈ lw_all := lw_g (lw_at lw_m5 33 rfl) rfl
theorem q1105 : (Jvm.Cond.methodLink "InchBorders$Person" (1 : Nat) ({ cls := "InchBorders$Named", name := "<init>", desc := "(Ljava/lang/String;)V" } : Jvm.MethodName)) ∈ lw_all := lw_g (lw_at lw_m5 34 rfl) rfl
theorem q1106 : (Jvm.Cond.fieldLink "InchBorders$Person" (7 : Nat) "InchBorders$Person" "home" "I") ∈ lw_all := lw_g (lw_at lw_m5 35 rfl) rfl
theorem q1108 : (Jvm.Cond.fieldLink "InchBorders$Person" (13 : Nat) "InchBorders$Person" "tall" "I") ∈ lw_all := lw_g (lw_at lw_m5 37 rfl) rfl
theorem q1110 : (Jvm.Cond.laysFinal "InchBorders$Person" "InchBorders$Person" "home" "I") ∈ lw_all := lw_g (lw_at lw_m5 39 rfl) rfl
theorem q1111 : (Jvm.Cond.soleField "InchBorders$Person" "home") ∈ lw_all := lw_g (lw_at lw_m5 40 rfl) rfl
theorem q1112 : (Jvm.Cond.laysFinal "InchBorders$Person" "InchBorders$Person" "tall" "I") ∈ lw_all := lw_g (lw_at lw_m5 41 rfl) rfl
theorem q1113 : (Jvm.Cond.soleField "InchBorders$Person" "tall") ∈ lw_all := lw_g (lw_at lw_m5 42 rfl) rfl
theorem q1114 : (Jvm.Cond.laysFinal "InchBorders$Person" "InchBorders$Named" "name" "Ljava/lang/String;") ∈ lw_all := lw_g (lw_at lw_m5 43 rfl) rfl
theorem q1115 : (Jvm.Cond.superclass "InchBorders$Person" "InchBorders$Named") ∈ lw_all := lw_g (lw_at lw_m5 44 rfl) rfl
theorem q2725 : (Jvm.Cond.castable "InchBorders$Person" "InchBorders$Named") ∈ lw_tbl := lw_at lw_m11 214 rfl
theorem q2743 : (Jvm.Cond.castable "InchBorders$Person" "java/lang/Object") ∈ lw_tbl := lw_at lw_m11 232 rfl
theorem in_X12 : ∀ w ∈ wsX120, w ∈ lw_all := lw_in wsX120 [1114, 1110, 1112] (by decide +kernel) (by decide +kernel)

/-! InchBorders$Act -/
set_option maxRecDepth 100000
def RX13 : String := "InchBorders$Act"
abbrev cX13_init : ByteArray := prog_2_method_1_code
def yX13_init : MethodName := ⟨RX13, "<init>", "()V"⟩
theorem dX13_init_0 : decode cX13_init 0 = .ok (.aload_n 0, 1) := by decide +kernel
theorem dX13_init_1 : decode cX13_init 1 = .ok (.invokespecial 1, 3) := by decide +kernel
theorem dX13_init_4 : decode cX13_init 4 = .ok (.return_, 1) := by decide +kernel
abbrev cX13_told : ByteArray := prog_2_method_3_code
def yX13_told : MethodName := ⟨RX13, "told", "(II)I"⟩
def dkwX13_told_0 : List UInt8 := [26, 154, 0, 7, 3, 167, 0, 6, 27, 26, 96, 172]
abbrev dktX13_told_0 : List UInt8 := dkwX13_told_0 ++ []
theorem dksX13_told_0 : cX13_told.data.toList.drop 0 = dktX13_told_0 := by decide +kernel
theorem dX13_told_0 : decode cX13_told 0 = .ok (.iload_n 0, 1) := dk_26 (dk_at dksX13_told_0 0 rfl rfl)
theorem dX13_told_1 : decode cX13_told 1 = .ok (.ifCond .ne 7, 3) := dk_154 0 7 (dk_at dksX13_told_0 1 rfl rfl)
theorem dX13_told_4 : decode cX13_told 4 = .ok (.iconst 0, 1) := dk_3 (dk_at dksX13_told_0 4 rfl rfl)
theorem dX13_told_5 : decode cX13_told 5 = .ok (.goto 6, 3) := dk_167 0 6 (dk_at dksX13_told_0 5 rfl rfl)
theorem dX13_told_8 : decode cX13_told 8 = .ok (.iload_n 1, 1) := dk_27 (dk_at dksX13_told_0 8 rfl rfl)
theorem dX13_told_9 : decode cX13_told 9 = .ok (.iload_n 0, 1) := dk_26 (dk_at dksX13_told_0 9 rfl rfl)
theorem dX13_told_10 : decode cX13_told 10 = .ok (.iadd, 1) := dk_96 (dk_at dksX13_told_0 10 rfl rfl)
theorem dX13_told_11 : decode cX13_told 11 = .ok (.ireturn, 1) := dk_172 (dk_at dksX13_told_0 11 rfl rfl)
theorem q144 : (Jvm.Cond.initialized "InchBorders$Act") ∈ lw_all := lw_g (lw_at lw_m1 33 rfl) rfl
theorem q1222 : (Jvm.Cond.instanceMethod ({ cls := "InchBorders$Act", name := "<init>", desc := "()V" } : Jvm.MethodName)) ∈ lw_all := lw_g (lw_at lw_m5 151 rfl) rfl
theorem q1223 : (Jvm.Cond.code ({ cls := "InchBorders$Act", name := "<init>", desc := "()V" } : Jvm.MethodName) prog_2_method_1_code (1 : Nat) (Option.none : Option Jvm.ClassFile.FieldType)) ∈ lw_all := lw_g (lw_at lw_m5 152 rfl) rfl
theorem q1224 : (Jvm.Cond.methodLink "InchBorders$Act" (1 : Nat) ({ cls := "java/lang/Object", name := "<init>", desc := "()V" } : Jvm.MethodName)) ∈ lw_all := lw_g (lw_at lw_m5 153 rfl) rfl
theorem q1245 : (Jvm.Cond.declares ({ cls := "InchBorders$Act", name := "does", desc := "(LInchBorders$Times;)I" } : Jvm.MethodName)) ∈ lw_tbl := lw_at lw_m5 174 rfl
theorem q1246 : (Jvm.Cond.sameMethod "InchBorders$Act" "InchBorders$Act" "does" "(LInchBorders$Times;)I") ∈ lw_all := lw_g (lw_at lw_m5 175 rfl) rfl
theorem q1254 : (Jvm.Cond.static ({ cls := "InchBorders$Act", name := "told", desc := "(II)I" } : Jvm.MethodName)) ∈ lw_all := lw_g (lw_at lw_m5 183 rfl) rfl
theorem q1255 : (Jvm.Cond.code ({ cls := "InchBorders$Act", name := "told", desc := "(II)I" } : Jvm.MethodName) prog_2_method_3_code (2 : Nat) (Option.some Jvm.ClassFile.FieldType.int)) ∈ lw_all := lw_g (lw_at lw_m5 184 rfl) rfl

/-! InchBorders$Crosses -/
set_option maxRecDepth 100000
def RX14 : String := "InchBorders$Crosses"
def TX14 : u_T := fun k => match k with
  | 0 => ("InchBorders$Crosses", "person", "I", true)
  | _ => ("InchBorders$Crosses", "land", "I", true)
def tyX14 : Nat → FieldType := fun k => match k with
  | 0 => .int
  | _ => .int
abbrev wsX140 : List Cond := u_ws RX14 TX14 2
theorem nmX14 : ∀ a, a < 2 → ∀ b, b < 2 → a ≠ b → (TX14 a).2.1 ≠ (TX14 b).2.1 := by decide +kernel
theorem tyX14_ok : ∀ k, k < 2 → parseFieldDescriptor (TX14 k).2.2.1 = some (tyX14 k) := by decide +kernel
abbrev cX14_init : ByteArray := prog_8_method_1_code
def yX14_init : MethodName := ⟨RX14, "<init>", "(II)V"⟩
def dkwX14_init_0 : List UInt8 := [42, 183, 0, 1, 42, 27, 181, 0, 7, 42, 28, 181, 0, 13, 177]
abbrev dktX14_init_0 : List UInt8 := dkwX14_init_0 ++ []
theorem dksX14_init_0 : cX14_init.data.toList.drop 0 = dktX14_init_0 := by decide +kernel
theorem dX14_init_0 : decode cX14_init 0 = .ok (.aload_n 0, 1) := dk_42 (dk_at dksX14_init_0 0 rfl rfl)
theorem dX14_init_1 : decode cX14_init 1 = .ok (.invokespecial 1, 3) := dk_183 0 1 (dk_at dksX14_init_0 1 rfl rfl)
theorem dX14_init_4 : decode cX14_init 4 = .ok (.aload_n 0, 1) := dk_42 (dk_at dksX14_init_0 4 rfl rfl)
theorem dX14_init_5 : decode cX14_init 5 = .ok (.iload_n 1, 1) := dk_27 (dk_at dksX14_init_0 5 rfl rfl)
theorem dX14_init_6 : decode cX14_init 6 = .ok (.putfield 7, 3) := dk_181 0 7 (dk_at dksX14_init_0 6 rfl rfl)
theorem dX14_init_9 : decode cX14_init 9 = .ok (.aload_n 0, 1) := dk_42 (dk_at dksX14_init_0 9 rfl rfl)
theorem dX14_init_10 : decode cX14_init 10 = .ok (.iload_n 2, 1) := dk_28 (dk_at dksX14_init_0 10 rfl rfl)
theorem dX14_init_11 : decode cX14_init 11 = .ok (.putfield 13, 3) := dk_181 0 13 (dk_at dksX14_init_0 11 rfl rfl)
theorem dX14_init_14 : decode cX14_init 14 = .ok (.return_, 1) := dk_177 (dk_at dksX14_init_0 14 rfl rfl)
abbrev cX14_does : ByteArray := prog_8_method_2_code
def yX14_does : MethodName := ⟨RX14, "does", "(LInchBorders$Times;)I"⟩
def dkwX14_does_1 : List UInt8 := [180, 0, 13, 182, 0, 22, 28, 172]
abbrev dktX14_does_1 : List UInt8 := dkwX14_does_1 ++ []
def dkwX14_does_0 : List UInt8 := [43, 42, 180, 0, 7, 42, 180, 0, 13, 182, 0, 16, 61, 28, 154, 0, 15, 43, 42, 180, 0, 7, 42]
abbrev dktX14_does_0 : List UInt8 := dkwX14_does_0 ++ dktX14_does_1
theorem dksX14_does_0 : cX14_does.data.toList.drop 0 = dktX14_does_0 := by decide +kernel
theorem dksX14_does_1 : cX14_does.data.toList.drop 23 = dktX14_does_1 := dk_seg dksX14_does_0 23 rfl rfl
theorem dX14_does_0 : decode cX14_does 0 = .ok (.aload_n 1, 1) := dk_43 (dk_at dksX14_does_0 0 rfl rfl)
theorem dX14_does_1 : decode cX14_does 1 = .ok (.aload_n 0, 1) := dk_42 (dk_at dksX14_does_0 1 rfl rfl)
theorem dX14_does_2 : decode cX14_does 2 = .ok (.getfield 7, 3) := dk_180 0 7 (dk_at dksX14_does_0 2 rfl rfl)
theorem dX14_does_5 : decode cX14_does 5 = .ok (.aload_n 0, 1) := dk_42 (dk_at dksX14_does_0 5 rfl rfl)
theorem dX14_does_6 : decode cX14_does 6 = .ok (.getfield 13, 3) := dk_180 0 13 (dk_at dksX14_does_0 6 rfl rfl)
theorem dX14_does_9 : decode cX14_does 9 = .ok (.invokevirtual 16, 3) := dk_182 0 16 (dk_at dksX14_does_0 9 rfl rfl)
theorem dX14_does_12 : decode cX14_does 12 = .ok (.istore_n 2, 1) := dk_61 (dk_at dksX14_does_0 12 rfl rfl)
theorem dX14_does_13 : decode cX14_does 13 = .ok (.iload_n 2, 1) := dk_28 (dk_at dksX14_does_0 13 rfl rfl)
theorem dX14_does_14 : decode cX14_does 14 = .ok (.ifCond .ne 15, 3) := dk_154 0 15 (dk_at dksX14_does_0 14 rfl rfl)
theorem dX14_does_17 : decode cX14_does 17 = .ok (.aload_n 1, 1) := dk_43 (dk_at dksX14_does_0 17 rfl rfl)
theorem dX14_does_18 : decode cX14_does 18 = .ok (.aload_n 0, 1) := dk_42 (dk_at dksX14_does_0 18 rfl rfl)
theorem dX14_does_19 : decode cX14_does 19 = .ok (.getfield 7, 3) := dk_180 0 7 (dk_at dksX14_does_0 19 rfl rfl)
theorem dX14_does_22 : decode cX14_does 22 = .ok (.aload_n 0, 1) := dk_42 (dk_at dksX14_does_0 22 rfl rfl)
theorem dX14_does_23 : decode cX14_does 23 = .ok (.getfield 13, 3) := dk_180 0 13 (dk_at dksX14_does_1 0 rfl rfl)
theorem dX14_does_26 : decode cX14_does 26 = .ok (.invokevirtual 22, 3) := dk_182 0 22 (dk_at dksX14_does_1 3 rfl rfl)
theorem dX14_does_29 : decode cX14_does 29 = .ok (.iload_n 2, 1) := dk_28 (dk_at dksX14_does_1 6 rfl rfl)
theorem dX14_does_30 : decode cX14_does 30 = .ok (.ireturn, 1) := dk_172 (dk_at dksX14_does_1 7 rfl rfl)
theorem q145 : (Jvm.Cond.initialized "InchBorders$Crosses") ∈ lw_all := lw_g (lw_at lw_m1 34 rfl) rfl
theorem q993 : (Jvm.Cond.selects "InchBorders$Crosses" ({ cls := "java/lang/Object", name := "getClass", desc := "()Ljava/lang/Class;" } : Jvm.MethodName) ({ cls := "java/lang/Object", name := "getClass", desc := "()Ljava/lang/Class;" } : Jvm.MethodName)) ∈ lw_all := lw_g (lw_at lw_m4 162 rfl) rfl
theorem q1217 : (Jvm.Cond.instantiable "InchBorders$Crosses" (2 : Nat)) ∈ lw_all := lw_g (lw_at lw_m5 146 rfl) rfl
theorem q1219 : (Jvm.Cond.instanceMethod ({ cls := "InchBorders$Crosses", name := "<init>", desc := "(II)V" } : Jvm.MethodName)) ∈ lw_all := lw_g (lw_at lw_m5 148 rfl) rfl
theorem q1220 : (Jvm.Cond.code ({ cls := "InchBorders$Crosses", name := "<init>", desc := "(II)V" } : Jvm.MethodName) prog_8_method_1_code (3 : Nat) (Option.none : Option Jvm.ClassFile.FieldType)) ∈ lw_all := lw_g (lw_at lw_m5 149 rfl) rfl
theorem q1221 : (Jvm.Cond.methodLinkNest "InchBorders$Crosses" (1 : Nat) ({ cls := "InchBorders$Act", name := "<init>", desc := "()V" } : Jvm.MethodName) "InchBorders") ∈ lw_tbl := lw_at lw_m5 150 rfl
theorem q1225 : (Jvm.Cond.fieldLink "InchBorders$Crosses" (7 : Nat) "InchBorders$Crosses" "person" "I") ∈ lw_all := lw_g (lw_at lw_m5 154 rfl) rfl
theorem q1226 : (Jvm.Cond.fieldLink "InchBorders$Crosses" (13 : Nat) "InchBorders$Crosses" "land" "I") ∈ lw_all := lw_g (lw_at lw_m5 155 rfl) rfl
theorem q1227 : (Jvm.Cond.laysFinal "InchBorders$Crosses" "InchBorders$Crosses" "person" "I") ∈ lw_all := lw_g (lw_at lw_m5 156 rfl) rfl
theorem q1228 : (Jvm.Cond.soleField "InchBorders$Crosses" "person") ∈ lw_all := lw_g (lw_at lw_m5 157 rfl) rfl
theorem q1229 : (Jvm.Cond.laysFinal "InchBorders$Crosses" "InchBorders$Crosses" "land" "I") ∈ lw_all := lw_g (lw_at lw_m5 158 rfl) rfl
theorem q1230 : (Jvm.Cond.soleField "InchBorders$Crosses" "land") ∈ lw_all := lw_g (lw_at lw_m5 159 rfl) rfl
theorem q1231 : (Jvm.Cond.superclass "InchBorders$Crosses" "InchBorders$Act") ∈ lw_all := lw_g (lw_at lw_m5 160 rfl) rfl
theorem q1256 : (Jvm.Cond.selects "InchBorders$Crosses" ({ cls := "InchBorders$Act", name := "does", desc := "(LInchBorders$Times;)I" } : Jvm.MethodName) ({ cls := "InchBorders$Crosses", name := "does", desc := "(LInchBorders$Times;)I" } : Jvm.MethodName)) ∈ lw_all := lw_g (lw_at lw_m5 185 rfl) rfl
theorem q1257 : (Jvm.Cond.instanceMethod ({ cls := "InchBorders$Crosses", name := "does", desc := "(LInchBorders$Times;)I" } : Jvm.MethodName)) ∈ lw_all := lw_g (lw_at lw_m5 186 rfl) rfl
theorem q1258 : (Jvm.Cond.code ({ cls := "InchBorders$Crosses", name := "does", desc := "(LInchBorders$Times;)I" } : Jvm.MethodName) prog_8_method_2_code (3 : Nat) (Option.some Jvm.ClassFile.FieldType.int)) ∈ lw_all := lw_g (lw_at lw_m5 187 rfl) rfl
theorem q1259 : (Jvm.Cond.methodLink "InchBorders$Crosses" (16 : Nat) ({ cls := "InchBorders$Times", name := "whyCross", desc := "(II)I" } : Jvm.MethodName)) ∈ lw_all := lw_g (lw_at lw_m5 188 rfl) rfl
theorem q1260 : (Jvm.Cond.methodLink "InchBorders$Crosses" (22 : Nat) ({ cls := "InchBorders$Times", name := "cross", desc := "(II)V" } : Jvm.MethodName)) ∈ lw_all := lw_g (lw_at lw_m5 189 rfl) rfl
theorem q2727 : (Jvm.Cond.castable "InchBorders$Crosses" "InchBorders$Act") ∈ lw_tbl := lw_at lw_m11 216 rfl
theorem q2745 : (Jvm.Cond.castable "InchBorders$Crosses" "java/lang/Object") ∈ lw_tbl := lw_at lw_m11 234 rfl
theorem in_X14 : ∀ w ∈ wsX140, w ∈ lw_all := lw_in wsX140 [1227, 1229] (by decide +kernel) (by decide +kernel)

/-! InchBorders$Closes -/
set_option maxRecDepth 100000
def RX15 : String := "InchBorders$Closes"
def TX15 : u_T := fun k => match k with
  | 0 => ("InchBorders$Closes", "road", "I", true)
  | _ => ("InchBorders$Closes", "close", "Z", true)
def tyX15 : Nat → FieldType := fun k => match k with
  | 0 => .int
  | _ => .boolean
abbrev wsX150 : List Cond := u_ws RX15 TX15 2
theorem nmX15 : ∀ a, a < 2 → ∀ b, b < 2 → a ≠ b → (TX15 a).2.1 ≠ (TX15 b).2.1 := by decide +kernel
theorem tyX15_ok : ∀ k, k < 2 → parseFieldDescriptor (TX15 k).2.2.1 = some (tyX15 k) := by decide +kernel
abbrev cX15_does : ByteArray := prog_6_method_2_code
def yX15_does : MethodName := ⟨RX15, "does", "(LInchBorders$Times;)I"⟩
def dkwX15_does_3 : List UInt8 := [167, 0, 5, 16, 40, 184, 0, 38, 172]
abbrev dktX15_does_3 : List UInt8 := dkwX15_does_3 ++ []
def dkwX15_does_2 : List UInt8 := [89, 180, 0, 29, 4, 42, 180, 0, 7, 120, 130, 181, 0, 29, 28, 42, 180, 0, 13, 153, 0, 8, 16, 30]
abbrev dktX15_does_2 : List UInt8 := dkwX15_does_2 ++ dktX15_does_3
def dkwX15_does_1 : List UInt8 := [180, 0, 7, 184, 0, 32, 42, 180, 0, 13, 160, 0, 7, 5, 167, 0, 4, 3, 61, 28, 154, 0, 18, 43]
abbrev dktX15_does_1 : List UInt8 := dkwX15_does_1 ++ dktX15_does_2
def dkwX15_does_0 : List UInt8 := [43, 180, 0, 17, 42, 180, 0, 7, 182, 0, 23, 154, 0, 7, 4, 167, 0, 26, 43, 180, 0, 29, 42]
abbrev dktX15_does_0 : List UInt8 := dkwX15_does_0 ++ dktX15_does_1
theorem dksX15_does_0 : cX15_does.data.toList.drop 0 = dktX15_does_0 := by decide +kernel
theorem dksX15_does_1 : cX15_does.data.toList.drop 23 = dktX15_does_1 := dk_seg dksX15_does_0 23 rfl rfl
theorem dksX15_does_2 : cX15_does.data.toList.drop 47 = dktX15_does_2 := dk_seg dksX15_does_1 24 rfl rfl
theorem dksX15_does_3 : cX15_does.data.toList.drop 71 = dktX15_does_3 := dk_seg dksX15_does_2 24 rfl rfl
theorem dX15_does_0 : decode cX15_does 0 = .ok (.aload_n 1, 1) := dk_43 (dk_at dksX15_does_0 0 rfl rfl)
theorem dX15_does_1 : decode cX15_does 1 = .ok (.getfield 17, 3) := dk_180 0 17 (dk_at dksX15_does_0 1 rfl rfl)
theorem dX15_does_4 : decode cX15_does 4 = .ok (.aload_n 0, 1) := dk_42 (dk_at dksX15_does_0 4 rfl rfl)
theorem dX15_does_5 : decode cX15_does 5 = .ok (.getfield 7, 3) := dk_180 0 7 (dk_at dksX15_does_0 5 rfl rfl)
theorem dX15_does_8 : decode cX15_does 8 = .ok (.invokevirtual 23, 3) := dk_182 0 23 (dk_at dksX15_does_0 8 rfl rfl)
theorem dX15_does_11 : decode cX15_does 11 = .ok (.ifCond .ne 7, 3) := dk_154 0 7 (dk_at dksX15_does_0 11 rfl rfl)
theorem dX15_does_14 : decode cX15_does 14 = .ok (.iconst 1, 1) := dk_4 (dk_at dksX15_does_0 14 rfl rfl)
theorem dX15_does_15 : decode cX15_does 15 = .ok (.goto 26, 3) := dk_167 0 26 (dk_at dksX15_does_0 15 rfl rfl)
theorem dX15_does_18 : decode cX15_does 18 = .ok (.aload_n 1, 1) := dk_43 (dk_at dksX15_does_0 18 rfl rfl)
theorem dX15_does_19 : decode cX15_does 19 = .ok (.getfield 29, 3) := dk_180 0 29 (dk_at dksX15_does_0 19 rfl rfl)
theorem dX15_does_22 : decode cX15_does 22 = .ok (.aload_n 0, 1) := dk_42 (dk_at dksX15_does_0 22 rfl rfl)
theorem dX15_does_23 : decode cX15_does 23 = .ok (.getfield 7, 3) := dk_180 0 7 (dk_at dksX15_does_1 0 rfl rfl)
theorem dX15_does_26 : decode cX15_does 26 = .ok (.invokestatic 32, 3) := dk_184 0 32 (dk_at dksX15_does_1 3 rfl rfl)
theorem dX15_does_29 : decode cX15_does 29 = .ok (.aload_n 0, 1) := dk_42 (dk_at dksX15_does_1 6 rfl rfl)
theorem dX15_does_30 : decode cX15_does 30 = .ok (.getfield 13, 3) := dk_180 0 13 (dk_at dksX15_does_1 7 rfl rfl)
theorem dX15_does_33 : decode cX15_does 33 = .ok (.if_icmp .ne 7, 3) := dk_160 0 7 (dk_at dksX15_does_1 10 rfl rfl)
theorem dX15_does_36 : decode cX15_does 36 = .ok (.iconst 2, 1) := dk_5 (dk_at dksX15_does_1 13 rfl rfl)
theorem dX15_does_37 : decode cX15_does 37 = .ok (.goto 4, 3) := dk_167 0 4 (dk_at dksX15_does_1 14 rfl rfl)
theorem dX15_does_40 : decode cX15_does 40 = .ok (.iconst 0, 1) := dk_3 (dk_at dksX15_does_1 17 rfl rfl)
theorem dX15_does_41 : decode cX15_does 41 = .ok (.istore_n 2, 1) := dk_61 (dk_at dksX15_does_1 18 rfl rfl)
theorem dX15_does_42 : decode cX15_does 42 = .ok (.iload_n 2, 1) := dk_28 (dk_at dksX15_does_1 19 rfl rfl)
theorem dX15_does_43 : decode cX15_does 43 = .ok (.ifCond .ne 18, 3) := dk_154 0 18 (dk_at dksX15_does_1 20 rfl rfl)
theorem dX15_does_46 : decode cX15_does 46 = .ok (.aload_n 1, 1) := dk_43 (dk_at dksX15_does_1 23 rfl rfl)
theorem dX15_does_47 : decode cX15_does 47 = .ok (.dup, 1) := dk_89 (dk_at dksX15_does_2 0 rfl rfl)
theorem dX15_does_48 : decode cX15_does 48 = .ok (.getfield 29, 3) := dk_180 0 29 (dk_at dksX15_does_2 1 rfl rfl)
theorem dX15_does_51 : decode cX15_does 51 = .ok (.iconst 1, 1) := dk_4 (dk_at dksX15_does_2 4 rfl rfl)
theorem dX15_does_52 : decode cX15_does 52 = .ok (.aload_n 0, 1) := dk_42 (dk_at dksX15_does_2 5 rfl rfl)
theorem dX15_does_53 : decode cX15_does 53 = .ok (.getfield 7, 3) := dk_180 0 7 (dk_at dksX15_does_2 6 rfl rfl)
theorem dX15_does_56 : decode cX15_does 56 = .ok (.ishl, 1) := dk_120 (dk_at dksX15_does_2 9 rfl rfl)
theorem dX15_does_57 : decode cX15_does 57 = .ok (.ixor, 1) := dk_130 (dk_at dksX15_does_2 10 rfl rfl)
theorem dX15_does_58 : decode cX15_does 58 = .ok (.putfield 29, 3) := dk_181 0 29 (dk_at dksX15_does_2 11 rfl rfl)
theorem dX15_does_61 : decode cX15_does 61 = .ok (.iload_n 2, 1) := dk_28 (dk_at dksX15_does_2 14 rfl rfl)
theorem dX15_does_62 : decode cX15_does 62 = .ok (.aload_n 0, 1) := dk_42 (dk_at dksX15_does_2 15 rfl rfl)
theorem dX15_does_63 : decode cX15_does 63 = .ok (.getfield 13, 3) := dk_180 0 13 (dk_at dksX15_does_2 16 rfl rfl)
theorem dX15_does_66 : decode cX15_does 66 = .ok (.ifCond .eq 8, 3) := dk_153 0 8 (dk_at dksX15_does_2 19 rfl rfl)
theorem dX15_does_69 : decode cX15_does 69 = .ok (.bipush 30, 2) := dk_16 30 (dk_at dksX15_does_2 22 rfl rfl)
theorem dX15_does_71 : decode cX15_does 71 = .ok (.goto 5, 3) := dk_167 0 5 (dk_at dksX15_does_3 0 rfl rfl)
theorem dX15_does_74 : decode cX15_does 74 = .ok (.bipush 40, 2) := dk_16 40 (dk_at dksX15_does_3 3 rfl rfl)
theorem dX15_does_76 : decode cX15_does 76 = .ok (.invokestatic 38, 3) := dk_184 0 38 (dk_at dksX15_does_3 5 rfl rfl)
theorem dX15_does_79 : decode cX15_does 79 = .ok (.ireturn, 1) := dk_172 (dk_at dksX15_does_3 8 rfl rfl)
abbrev cX15_init : ByteArray := prog_6_method_1_code
def yX15_init : MethodName := ⟨RX15, "<init>", "(IZ)V"⟩
def dkwX15_init_0 : List UInt8 := [42, 183, 0, 1, 42, 27, 181, 0, 7, 42, 28, 181, 0, 13, 177]
abbrev dktX15_init_0 : List UInt8 := dkwX15_init_0 ++ []
theorem dksX15_init_0 : cX15_init.data.toList.drop 0 = dktX15_init_0 := by decide +kernel
theorem dX15_init_0 : decode cX15_init 0 = .ok (.aload_n 0, 1) := dk_42 (dk_at dksX15_init_0 0 rfl rfl)
theorem dX15_init_1 : decode cX15_init 1 = .ok (.invokespecial 1, 3) := dk_183 0 1 (dk_at dksX15_init_0 1 rfl rfl)
theorem dX15_init_4 : decode cX15_init 4 = .ok (.aload_n 0, 1) := dk_42 (dk_at dksX15_init_0 4 rfl rfl)
theorem dX15_init_5 : decode cX15_init 5 = .ok (.iload_n 1, 1) := dk_27 (dk_at dksX15_init_0 5 rfl rfl)
theorem dX15_init_6 : decode cX15_init 6 = .ok (.putfield 7, 3) := dk_181 0 7 (dk_at dksX15_init_0 6 rfl rfl)
theorem dX15_init_9 : decode cX15_init 9 = .ok (.aload_n 0, 1) := dk_42 (dk_at dksX15_init_0 9 rfl rfl)
theorem dX15_init_10 : decode cX15_init 10 = .ok (.iload_n 2, 1) := dk_28 (dk_at dksX15_init_0 10 rfl rfl)
theorem dX15_init_11 : decode cX15_init 11 = .ok (.putfield 13, 3) := dk_181 0 13 (dk_at dksX15_init_0 11 rfl rfl)
theorem dX15_init_14 : decode cX15_init 14 = .ok (.return_, 1) := dk_177 (dk_at dksX15_init_0 14 rfl rfl)
theorem q146 : (Jvm.Cond.initialized "InchBorders$Closes") ∈ lw_all := lw_g (lw_at lw_m1 35 rfl) rfl
theorem q237 : (Jvm.Cond.fieldLinkNest "InchBorders$Closes" (17 : Nat) "InchBorders$Times" "a" "LInchBorders$Atlas;" "InchBorders") ∈ lw_tbl := lw_at lw_m1 126 rfl
theorem q247 : (Jvm.Cond.fieldLinkNest "InchBorders$Closes" (29 : Nat) "InchBorders$Times" "closed" "I" "InchBorders") ∈ lw_tbl := lw_at lw_m1 136 rfl
theorem q992 : (Jvm.Cond.selects "InchBorders$Closes" ({ cls := "java/lang/Object", name := "getClass", desc := "()Ljava/lang/Class;" } : Jvm.MethodName) ({ cls := "java/lang/Object", name := "getClass", desc := "()Ljava/lang/Class;" } : Jvm.MethodName)) ∈ lw_all := lw_g (lw_at lw_m4 161 rfl) rfl
theorem q1247 : (Jvm.Cond.selects "InchBorders$Closes" ({ cls := "InchBorders$Act", name := "does", desc := "(LInchBorders$Times;)I" } : Jvm.MethodName) ({ cls := "InchBorders$Closes", name := "does", desc := "(LInchBorders$Times;)I" } : Jvm.MethodName)) ∈ lw_all := lw_g (lw_at lw_m5 176 rfl) rfl
theorem q1248 : (Jvm.Cond.instanceMethod ({ cls := "InchBorders$Closes", name := "does", desc := "(LInchBorders$Times;)I" } : Jvm.MethodName)) ∈ lw_all := lw_g (lw_at lw_m5 177 rfl) rfl
theorem q1249 : (Jvm.Cond.code ({ cls := "InchBorders$Closes", name := "does", desc := "(LInchBorders$Times;)I" } : Jvm.MethodName) prog_6_method_2_code (3 : Nat) (Option.some Jvm.ClassFile.FieldType.int)) ∈ lw_all := lw_g (lw_at lw_m5 178 rfl) rfl
theorem q1250 : (Jvm.Cond.methodLink "InchBorders$Closes" (23 : Nat) ({ cls := "InchBorders$Atlas", name := "isRoad", desc := "(I)Z" } : Jvm.MethodName)) ∈ lw_all := lw_g (lw_at lw_m5 179 rfl) rfl
theorem q1251 : (Jvm.Cond.methodLinkNest "InchBorders$Closes" (32 : Nat) ({ cls := "InchBorders", name := "isOf", desc := "(II)Z" } : Jvm.MethodName) "InchBorders") ∈ lw_tbl := lw_at lw_m5 180 rfl
theorem q1252 : (Jvm.Cond.methodLink "InchBorders$Closes" (38 : Nat) ({ cls := "InchBorders$Closes", name := "told", desc := "(II)I" } : Jvm.MethodName)) ∈ lw_all := lw_g (lw_at lw_m5 181 rfl) rfl
theorem q1253 : (Jvm.Cond.sameMethod "InchBorders$Closes" "InchBorders$Act" "told" "(II)I") ∈ lw_all := lw_g (lw_at lw_m5 182 rfl) rfl
theorem q1352 : (Jvm.Cond.instantiable "InchBorders$Closes" (2 : Nat)) ∈ lw_all := lw_g (lw_at lw_m6 41 rfl) rfl
theorem q1354 : (Jvm.Cond.instanceMethod ({ cls := "InchBorders$Closes", name := "<init>", desc := "(IZ)V" } : Jvm.MethodName)) ∈ lw_all := lw_g (lw_at lw_m6 43 rfl) rfl
theorem q1355 : (Jvm.Cond.code ({ cls := "InchBorders$Closes", name := "<init>", desc := "(IZ)V" } : Jvm.MethodName) prog_6_method_1_code (3 : Nat) (Option.none : Option Jvm.ClassFile.FieldType)) ∈ lw_all := lw_g (lw_at lw_m6 44 rfl) rfl
theorem q1356 : (Jvm.Cond.methodLinkNest "InchBorders$Closes" (1 : Nat) ({ cls := "InchBorders$Act", name := "<init>", desc := "()V" } : Jvm.MethodName) "InchBorders") ∈ lw_tbl := lw_at lw_m6 45 rfl
theorem q1357 : (Jvm.Cond.fieldLink "InchBorders$Closes" (7 : Nat) "InchBorders$Closes" "road" "I") ∈ lw_all := lw_g (lw_at lw_m6 46 rfl) rfl
theorem q1358 : (Jvm.Cond.fieldLink "InchBorders$Closes" (13 : Nat) "InchBorders$Closes" "close" "Z") ∈ lw_all := lw_g (lw_at lw_m6 47 rfl) rfl
theorem q1359 : (Jvm.Cond.laysFinal "InchBorders$Closes" "InchBorders$Closes" "road" "I") ∈ lw_all := lw_g (lw_at lw_m6 48 rfl) rfl
theorem q1360 : (Jvm.Cond.soleField "InchBorders$Closes" "road") ∈ lw_all := lw_g (lw_at lw_m6 49 rfl) rfl
theorem q1361 : (Jvm.Cond.laysFinal "InchBorders$Closes" "InchBorders$Closes" "close" "Z") ∈ lw_all := lw_g (lw_at lw_m6 50 rfl) rfl
theorem q1362 : (Jvm.Cond.soleField "InchBorders$Closes" "close") ∈ lw_all := lw_g (lw_at lw_m6 51 rfl) rfl
theorem q1363 : (Jvm.Cond.superclass "InchBorders$Closes" "InchBorders$Act") ∈ lw_all := lw_g (lw_at lw_m6 52 rfl) rfl
theorem q2726 : (Jvm.Cond.castable "InchBorders$Closes" "InchBorders$Act") ∈ lw_tbl := lw_at lw_m11 215 rfl
theorem q2747 : (Jvm.Cond.castable "InchBorders$Closes" "java/lang/Object") ∈ lw_tbl := lw_at lw_m11 236 rfl
theorem in_X15 : ∀ w ∈ wsX150, w ∈ lw_all := lw_in wsX150 [1359, 1361] (by decide +kernel) (by decide +kernel)

/-! InchBorders$OfTwo -/
set_option maxRecDepth 100000
def RX16 : String := "InchBorders$OfTwo"
abbrev cX16_init : ByteArray := prog_20_method_1_code
def yX16_init : MethodName := ⟨RX16, "<init>", "(II)V"⟩
def dkwX16_init_0 : List UInt8 := [42, 183, 0, 1, 42, 27, 181, 0, 7, 42, 28, 181, 0, 13, 177]
abbrev dktX16_init_0 : List UInt8 := dkwX16_init_0 ++ []
theorem dksX16_init_0 : cX16_init.data.toList.drop 0 = dktX16_init_0 := by decide +kernel
theorem dX16_init_0 : decode cX16_init 0 = .ok (.aload_n 0, 1) := dk_42 (dk_at dksX16_init_0 0 rfl rfl)
theorem dX16_init_1 : decode cX16_init 1 = .ok (.invokespecial 1, 3) := dk_183 0 1 (dk_at dksX16_init_0 1 rfl rfl)
theorem dX16_init_4 : decode cX16_init 4 = .ok (.aload_n 0, 1) := dk_42 (dk_at dksX16_init_0 4 rfl rfl)
theorem dX16_init_5 : decode cX16_init 5 = .ok (.iload_n 1, 1) := dk_27 (dk_at dksX16_init_0 5 rfl rfl)
theorem dX16_init_6 : decode cX16_init 6 = .ok (.putfield 7, 3) := dk_181 0 7 (dk_at dksX16_init_0 6 rfl rfl)
theorem dX16_init_9 : decode cX16_init 9 = .ok (.aload_n 0, 1) := dk_42 (dk_at dksX16_init_0 9 rfl rfl)
theorem dX16_init_10 : decode cX16_init 10 = .ok (.iload_n 2, 1) := dk_28 (dk_at dksX16_init_0 10 rfl rfl)
theorem dX16_init_11 : decode cX16_init 11 = .ok (.putfield 13, 3) := dk_181 0 13 (dk_at dksX16_init_0 11 rfl rfl)
theorem dX16_init_14 : decode cX16_init 14 = .ok (.return_, 1) := dk_177 (dk_at dksX16_init_0 14 rfl rfl)
theorem q147 : (Jvm.Cond.initialized "InchBorders$OfTwo") ∈ lw_all := lw_g (lw_at lw_m1 36 rfl) rfl
theorem q1317 : (Jvm.Cond.instanceMethod ({ cls := "InchBorders$OfTwo", name := "<init>", desc := "(II)V" } : Jvm.MethodName)) ∈ lw_all := lw_g (lw_at lw_m6 6 rfl) rfl
theorem q1318 : (Jvm.Cond.code ({ cls := "InchBorders$OfTwo", name := "<init>", desc := "(II)V" } : Jvm.MethodName) prog_20_method_1_code (3 : Nat) (Option.none : Option Jvm.ClassFile.FieldType)) ∈ lw_all := lw_g (lw_at lw_m6 7 rfl) rfl
theorem q1319 : (Jvm.Cond.methodLinkNest "InchBorders$OfTwo" (1 : Nat) ({ cls := "InchBorders$Act", name := "<init>", desc := "()V" } : Jvm.MethodName) "InchBorders") ∈ lw_tbl := lw_at lw_m6 8 rfl
theorem q1321 : (Jvm.Cond.fieldLink "InchBorders$OfTwo" (7 : Nat) "InchBorders$OfTwo" "one" "I") ∈ lw_all := lw_g (lw_at lw_m6 10 rfl) rfl
theorem q1326 : (Jvm.Cond.fieldLink "InchBorders$OfTwo" (13 : Nat) "InchBorders$OfTwo" "other" "I") ∈ lw_all := lw_g (lw_at lw_m6 15 rfl) rfl
theorem q1334 : (Jvm.Cond.soleField "InchBorders$OfTwo" "one") ∈ lw_all := lw_g (lw_at lw_m6 23 rfl) rfl
theorem q1336 : (Jvm.Cond.soleField "InchBorders$OfTwo" "other") ∈ lw_all := lw_g (lw_at lw_m6 25 rfl) rfl

/-! InchBorders$Lends -/
set_option maxRecDepth 100000
def RX17 : String := "InchBorders$Lends"
def TX17 : u_T := fun k => match k with
  | 0 => ("InchBorders$OfTwo", "one", "I", true)
  | 1 => ("InchBorders$OfTwo", "other", "I", true)
  | _ => ("InchBorders$Lends", "many", "I", true)
def tyX17 : Nat → FieldType := fun k => match k with
  | 0 => .int
  | 1 => .int
  | _ => .int
abbrev wsX170 : List Cond := u_ws RX17 TX17 3
theorem nmX17 : ∀ a, a < 3 → ∀ b, b < 3 → a ≠ b → (TX17 a).2.1 ≠ (TX17 b).2.1 := by decide +kernel
theorem tyX17_ok : ∀ k, k < 3 → parseFieldDescriptor (TX17 k).2.2.1 = some (tyX17 k) := by decide +kernel
abbrev cX17_does : ByteArray := prog_14_method_2_code
def yX17_does : MethodName := ⟨RX17, "does", "(LInchBorders$Times;)I"⟩
def dkwX17_does_3 : List UInt8 := [92, 46, 42, 180, 0, 7, 96, 79, 3, 172]
abbrev dktX17_does_3 : List UInt8 := dkwX17_does_3 ++ []
def dkwX17_does_2 : List UInt8 := [43, 180, 0, 19, 42, 180, 0, 13, 92, 46, 42, 180, 0, 7, 100, 79, 43, 180, 0, 19, 42, 180, 0, 16]
abbrev dktX17_does_2 : List UInt8 := dkwX17_does_2 ++ dktX17_does_3
def dkwX17_does_1 : List UInt8 := [42, 180, 0, 7, 162, 0, 7, 5, 167, 0, 4, 3, 61, 28, 153, 0, 10, 28, 16, 50, 184, 0, 25, 172]
abbrev dktX17_does_1 : List UInt8 := dkwX17_does_1 ++ dktX17_does_2
def dkwX17_does_0 : List UInt8 := [42, 180, 0, 13, 42, 180, 0, 16, 160, 0, 7, 4, 167, 0, 24, 43, 180, 0, 19, 42, 180, 0, 13, 46]
abbrev dktX17_does_0 : List UInt8 := dkwX17_does_0 ++ dktX17_does_1
theorem dksX17_does_0 : cX17_does.data.toList.drop 0 = dktX17_does_0 := by decide +kernel
theorem dksX17_does_1 : cX17_does.data.toList.drop 24 = dktX17_does_1 := dk_seg dksX17_does_0 24 rfl rfl
theorem dksX17_does_2 : cX17_does.data.toList.drop 48 = dktX17_does_2 := dk_seg dksX17_does_1 24 rfl rfl
theorem dksX17_does_3 : cX17_does.data.toList.drop 72 = dktX17_does_3 := dk_seg dksX17_does_2 24 rfl rfl
theorem dX17_does_0 : decode cX17_does 0 = .ok (.aload_n 0, 1) := dk_42 (dk_at dksX17_does_0 0 rfl rfl)
theorem dX17_does_1 : decode cX17_does 1 = .ok (.getfield 13, 3) := dk_180 0 13 (dk_at dksX17_does_0 1 rfl rfl)
theorem dX17_does_4 : decode cX17_does 4 = .ok (.aload_n 0, 1) := dk_42 (dk_at dksX17_does_0 4 rfl rfl)
theorem dX17_does_5 : decode cX17_does 5 = .ok (.getfield 16, 3) := dk_180 0 16 (dk_at dksX17_does_0 5 rfl rfl)
theorem dX17_does_8 : decode cX17_does 8 = .ok (.if_icmp .ne 7, 3) := dk_160 0 7 (dk_at dksX17_does_0 8 rfl rfl)
theorem dX17_does_11 : decode cX17_does 11 = .ok (.iconst 1, 1) := dk_4 (dk_at dksX17_does_0 11 rfl rfl)
theorem dX17_does_12 : decode cX17_does 12 = .ok (.goto 24, 3) := dk_167 0 24 (dk_at dksX17_does_0 12 rfl rfl)
theorem dX17_does_15 : decode cX17_does 15 = .ok (.aload_n 1, 1) := dk_43 (dk_at dksX17_does_0 15 rfl rfl)
theorem dX17_does_16 : decode cX17_does 16 = .ok (.getfield 19, 3) := dk_180 0 19 (dk_at dksX17_does_0 16 rfl rfl)
theorem dX17_does_19 : decode cX17_does 19 = .ok (.aload_n 0, 1) := dk_42 (dk_at dksX17_does_0 19 rfl rfl)
theorem dX17_does_20 : decode cX17_does 20 = .ok (.getfield 13, 3) := dk_180 0 13 (dk_at dksX17_does_0 20 rfl rfl)
theorem dX17_does_23 : decode cX17_does 23 = .ok (.iaload, 1) := dk_46 (dk_at dksX17_does_0 23 rfl rfl)
theorem dX17_does_24 : decode cX17_does 24 = .ok (.aload_n 0, 1) := dk_42 (dk_at dksX17_does_1 0 rfl rfl)
theorem dX17_does_25 : decode cX17_does 25 = .ok (.getfield 7, 3) := dk_180 0 7 (dk_at dksX17_does_1 1 rfl rfl)
theorem dX17_does_28 : decode cX17_does 28 = .ok (.if_icmp .ge 7, 3) := dk_162 0 7 (dk_at dksX17_does_1 4 rfl rfl)
theorem dX17_does_31 : decode cX17_does 31 = .ok (.iconst 2, 1) := dk_5 (dk_at dksX17_does_1 7 rfl rfl)
theorem dX17_does_32 : decode cX17_does 32 = .ok (.goto 4, 3) := dk_167 0 4 (dk_at dksX17_does_1 8 rfl rfl)
theorem dX17_does_35 : decode cX17_does 35 = .ok (.iconst 0, 1) := dk_3 (dk_at dksX17_does_1 11 rfl rfl)
theorem dX17_does_36 : decode cX17_does 36 = .ok (.istore_n 2, 1) := dk_61 (dk_at dksX17_does_1 12 rfl rfl)
theorem dX17_does_37 : decode cX17_does 37 = .ok (.iload_n 2, 1) := dk_28 (dk_at dksX17_does_1 13 rfl rfl)
theorem dX17_does_38 : decode cX17_does 38 = .ok (.ifCond .eq 10, 3) := dk_153 0 10 (dk_at dksX17_does_1 14 rfl rfl)
theorem dX17_does_41 : decode cX17_does 41 = .ok (.iload_n 2, 1) := dk_28 (dk_at dksX17_does_1 17 rfl rfl)
theorem dX17_does_42 : decode cX17_does 42 = .ok (.bipush 50, 2) := dk_16 50 (dk_at dksX17_does_1 18 rfl rfl)
theorem dX17_does_44 : decode cX17_does 44 = .ok (.invokestatic 25, 3) := dk_184 0 25 (dk_at dksX17_does_1 20 rfl rfl)
theorem dX17_does_47 : decode cX17_does 47 = .ok (.ireturn, 1) := dk_172 (dk_at dksX17_does_1 23 rfl rfl)
theorem dX17_does_48 : decode cX17_does 48 = .ok (.aload_n 1, 1) := dk_43 (dk_at dksX17_does_2 0 rfl rfl)
theorem dX17_does_49 : decode cX17_does 49 = .ok (.getfield 19, 3) := dk_180 0 19 (dk_at dksX17_does_2 1 rfl rfl)
theorem dX17_does_52 : decode cX17_does 52 = .ok (.aload_n 0, 1) := dk_42 (dk_at dksX17_does_2 4 rfl rfl)
theorem dX17_does_53 : decode cX17_does 53 = .ok (.getfield 13, 3) := dk_180 0 13 (dk_at dksX17_does_2 5 rfl rfl)
theorem dX17_does_56 : decode cX17_does 56 = .ok (.dup2, 1) := dk_92 (dk_at dksX17_does_2 8 rfl rfl)
theorem dX17_does_57 : decode cX17_does 57 = .ok (.iaload, 1) := dk_46 (dk_at dksX17_does_2 9 rfl rfl)
theorem dX17_does_58 : decode cX17_does 58 = .ok (.aload_n 0, 1) := dk_42 (dk_at dksX17_does_2 10 rfl rfl)
theorem dX17_does_59 : decode cX17_does 59 = .ok (.getfield 7, 3) := dk_180 0 7 (dk_at dksX17_does_2 11 rfl rfl)
theorem dX17_does_62 : decode cX17_does 62 = .ok (.isub, 1) := dk_100 (dk_at dksX17_does_2 14 rfl rfl)
theorem dX17_does_63 : decode cX17_does 63 = .ok (.iastore, 1) := dk_79 (dk_at dksX17_does_2 15 rfl rfl)
theorem dX17_does_64 : decode cX17_does 64 = .ok (.aload_n 1, 1) := dk_43 (dk_at dksX17_does_2 16 rfl rfl)
theorem dX17_does_65 : decode cX17_does 65 = .ok (.getfield 19, 3) := dk_180 0 19 (dk_at dksX17_does_2 17 rfl rfl)
theorem dX17_does_68 : decode cX17_does 68 = .ok (.aload_n 0, 1) := dk_42 (dk_at dksX17_does_2 20 rfl rfl)
theorem dX17_does_69 : decode cX17_does 69 = .ok (.getfield 16, 3) := dk_180 0 16 (dk_at dksX17_does_2 21 rfl rfl)
theorem dX17_does_72 : decode cX17_does 72 = .ok (.dup2, 1) := dk_92 (dk_at dksX17_does_3 0 rfl rfl)
theorem dX17_does_73 : decode cX17_does 73 = .ok (.iaload, 1) := dk_46 (dk_at dksX17_does_3 1 rfl rfl)
theorem dX17_does_74 : decode cX17_does 74 = .ok (.aload_n 0, 1) := dk_42 (dk_at dksX17_does_3 2 rfl rfl)
theorem dX17_does_75 : decode cX17_does 75 = .ok (.getfield 7, 3) := dk_180 0 7 (dk_at dksX17_does_3 3 rfl rfl)
theorem dX17_does_78 : decode cX17_does 78 = .ok (.iadd, 1) := dk_96 (dk_at dksX17_does_3 6 rfl rfl)
theorem dX17_does_79 : decode cX17_does 79 = .ok (.iastore, 1) := dk_79 (dk_at dksX17_does_3 7 rfl rfl)
theorem dX17_does_80 : decode cX17_does 80 = .ok (.iconst 0, 1) := dk_3 (dk_at dksX17_does_3 8 rfl rfl)
theorem dX17_does_81 : decode cX17_does 81 = .ok (.ireturn, 1) := dk_172 (dk_at dksX17_does_3 9 rfl rfl)
abbrev cX17_init : ByteArray := prog_14_method_1_code
def yX17_init : MethodName := ⟨RX17, "<init>", "(III)V"⟩
def dkwX17_init_0 : List UInt8 := [42, 27, 28, 183, 0, 1, 42, 29, 181, 0, 7, 177]
abbrev dktX17_init_0 : List UInt8 := dkwX17_init_0 ++ []
theorem dksX17_init_0 : cX17_init.data.toList.drop 0 = dktX17_init_0 := by decide +kernel
theorem dX17_init_0 : decode cX17_init 0 = .ok (.aload_n 0, 1) := dk_42 (dk_at dksX17_init_0 0 rfl rfl)
theorem dX17_init_1 : decode cX17_init 1 = .ok (.iload_n 1, 1) := dk_27 (dk_at dksX17_init_0 1 rfl rfl)
theorem dX17_init_2 : decode cX17_init 2 = .ok (.iload_n 2, 1) := dk_28 (dk_at dksX17_init_0 2 rfl rfl)
theorem dX17_init_3 : decode cX17_init 3 = .ok (.invokespecial 1, 3) := dk_183 0 1 (dk_at dksX17_init_0 3 rfl rfl)
theorem dX17_init_6 : decode cX17_init 6 = .ok (.aload_n 0, 1) := dk_42 (dk_at dksX17_init_0 6 rfl rfl)
theorem dX17_init_7 : decode cX17_init 7 = .ok (.iload_n 3, 1) := dk_29 (dk_at dksX17_init_0 7 rfl rfl)
theorem dX17_init_8 : decode cX17_init 8 = .ok (.putfield 7, 3) := dk_181 0 7 (dk_at dksX17_init_0 8 rfl rfl)
theorem dX17_init_11 : decode cX17_init 11 = .ok (.return_, 1) := dk_177 (dk_at dksX17_init_0 11 rfl rfl)
theorem q148 : (Jvm.Cond.initialized "InchBorders$Lends") ∈ lw_all := lw_g (lw_at lw_m1 37 rfl) rfl
theorem q250 : (Jvm.Cond.fieldLinkNest "InchBorders$Lends" (19 : Nat) "InchBorders$Times" "store" "[I" "InchBorders") ∈ lw_tbl := lw_at lw_m1 139 rfl
theorem q999 : (Jvm.Cond.selects "InchBorders$Lends" ({ cls := "java/lang/Object", name := "getClass", desc := "()Ljava/lang/Class;" } : Jvm.MethodName) ({ cls := "java/lang/Object", name := "getClass", desc := "()Ljava/lang/Class;" } : Jvm.MethodName)) ∈ lw_all := lw_g (lw_at lw_m4 168 rfl) rfl
theorem q1269 : (Jvm.Cond.selects "InchBorders$Lends" ({ cls := "InchBorders$Act", name := "does", desc := "(LInchBorders$Times;)I" } : Jvm.MethodName) ({ cls := "InchBorders$Lends", name := "does", desc := "(LInchBorders$Times;)I" } : Jvm.MethodName)) ∈ lw_all := lw_g (lw_at lw_m5 198 rfl) rfl
theorem q1270 : (Jvm.Cond.instanceMethod ({ cls := "InchBorders$Lends", name := "does", desc := "(LInchBorders$Times;)I" } : Jvm.MethodName)) ∈ lw_all := lw_g (lw_at lw_m5 199 rfl) rfl
theorem q1271 : (Jvm.Cond.code ({ cls := "InchBorders$Lends", name := "does", desc := "(LInchBorders$Times;)I" } : Jvm.MethodName) prog_14_method_2_code (3 : Nat) (Option.some Jvm.ClassFile.FieldType.int)) ∈ lw_all := lw_g (lw_at lw_m5 200 rfl) rfl
theorem q1272 : (Jvm.Cond.methodLink "InchBorders$Lends" (25 : Nat) ({ cls := "InchBorders$Lends", name := "told", desc := "(II)I" } : Jvm.MethodName)) ∈ lw_all := lw_g (lw_at lw_m5 201 rfl) rfl
theorem q1273 : (Jvm.Cond.sameMethod "InchBorders$Lends" "InchBorders$Act" "told" "(II)I") ∈ lw_all := lw_g (lw_at lw_m5 202 rfl) rfl
theorem q1322 : (Jvm.Cond.fieldLink "InchBorders$Lends" (13 : Nat) "InchBorders$Lends" "one" "I") ∈ lw_all := lw_g (lw_at lw_m6 11 rfl) rfl
theorem q1323 : (Jvm.Cond.sameField "InchBorders$Lends" "InchBorders$OfTwo" "one" "I") ∈ lw_all := lw_g (lw_at lw_m6 12 rfl) rfl
theorem q1327 : (Jvm.Cond.fieldLink "InchBorders$Lends" (16 : Nat) "InchBorders$Lends" "other" "I") ∈ lw_all := lw_g (lw_at lw_m6 16 rfl) rfl
theorem q1328 : (Jvm.Cond.sameField "InchBorders$Lends" "InchBorders$OfTwo" "other" "I") ∈ lw_all := lw_g (lw_at lw_m6 17 rfl) rfl
theorem q1373 : (Jvm.Cond.instantiable "InchBorders$Lends" (3 : Nat)) ∈ lw_all := lw_g (lw_at lw_m6 62 rfl) rfl
theorem q1375 : (Jvm.Cond.instanceMethod ({ cls := "InchBorders$Lends", name := "<init>", desc := "(III)V" } : Jvm.MethodName)) ∈ lw_all := lw_g (lw_at lw_m6 64 rfl) rfl
theorem q1376 : (Jvm.Cond.code ({ cls := "InchBorders$Lends", name := "<init>", desc := "(III)V" } : Jvm.MethodName) prog_14_method_1_code (4 : Nat) (Option.none : Option Jvm.ClassFile.FieldType)) ∈ lw_all := lw_g (lw_at lw_m6 65 rfl) rfl
theorem q1377 : (Jvm.Cond.methodLink "InchBorders$Lends" (1 : Nat) ({ cls := "InchBorders$OfTwo", name := "<init>", desc := "(II)V" } : Jvm.MethodName)) ∈ lw_all := lw_g (lw_at lw_m6 66 rfl) rfl
theorem q1378 : (Jvm.Cond.fieldLink "InchBorders$Lends" (7 : Nat) "InchBorders$Lends" "many" "I") ∈ lw_all := lw_g (lw_at lw_m6 67 rfl) rfl
theorem q1379 : (Jvm.Cond.laysFinal "InchBorders$Lends" "InchBorders$Lends" "many" "I") ∈ lw_all := lw_g (lw_at lw_m6 68 rfl) rfl
theorem q1380 : (Jvm.Cond.soleField "InchBorders$Lends" "many") ∈ lw_all := lw_g (lw_at lw_m6 69 rfl) rfl
theorem q1381 : (Jvm.Cond.laysFinal "InchBorders$Lends" "InchBorders$OfTwo" "one" "I") ∈ lw_all := lw_g (lw_at lw_m6 70 rfl) rfl
theorem q1382 : (Jvm.Cond.laysFinal "InchBorders$Lends" "InchBorders$OfTwo" "other" "I") ∈ lw_all := lw_g (lw_at lw_m6 71 rfl) rfl
theorem q1383 : (Jvm.Cond.superclass "InchBorders$Lends" "InchBorders$OfTwo") ∈ lw_all := lw_g (lw_at lw_m6 72 rfl) rfl
theorem q2728 : (Jvm.Cond.castable "InchBorders$Lends" "InchBorders$Act") ∈ lw_tbl := lw_at lw_m11 217 rfl
theorem q2748 : (Jvm.Cond.castable "InchBorders$Lends" "java/lang/Object") ∈ lw_tbl := lw_at lw_m11 237 rfl
theorem in_X17 : ∀ w ∈ wsX170, w ∈ lw_all := lw_in wsX170 [1381, 1382, 1379] (by decide +kernel) (by decide +kernel)

/-! InchBorders$Treats -/
set_option maxRecDepth 100000
def RX18 : String := "InchBorders$Treats"
def TX18 : u_T := fun k => match k with
  | 0 => ("InchBorders$OfTwo", "one", "I", true)
  | 1 => ("InchBorders$OfTwo", "other", "I", true)
  | _ => ("InchBorders$Treats", "pact", "Z", true)
def tyX18 : Nat → FieldType := fun k => match k with
  | 0 => .int
  | 1 => .int
  | _ => .boolean
abbrev wsX180 : List Cond := u_ws RX18 TX18 3
theorem nmX18 : ∀ a, a < 3 → ∀ b, b < 3 → a ≠ b → (TX18 a).2.1 ≠ (TX18 b).2.1 := by decide +kernel
theorem tyX18_ok : ∀ k, k < 3 → parseFieldDescriptor (TX18 k).2.2.1 = some (tyX18 k) := by decide +kernel
abbrev cX18_does : ByteArray := prog_28_method_2_code
def yX18_does : MethodName := ⟨RX18, "does", "(LInchBorders$Times;)I"⟩
def dkwX18_does_4 : List UInt8 := [167, 0, 5, 16, 20, 184, 0, 32, 172]
abbrev dktX18_does_4 : List UInt8 := dkwX18_does_4 ++ []
def dkwX18_does_3 : List UInt8 := [180, 0, 19, 92, 46, 4, 42, 180, 0, 23, 120, 130, 79, 29, 42, 180, 0, 7, 153, 0, 8, 16, 10]
abbrev dktX18_does_3 : List UInt8 := dkwX18_does_3 ++ dktX18_does_4
def dkwX18_does_2 : List UInt8 := [167, 0, 12, 28, 153, 0, 7, 5, 167, 0, 4, 3, 62, 29, 154, 0, 21, 43, 180, 0, 13, 42]
abbrev dktX18_does_2 : List UInt8 := dkwX18_does_2 ++ dktX18_does_3
def dkwX18_does_1 : List UInt8 := [28, 153, 0, 7, 3, 167, 0, 31, 4, 167, 0, 27, 42, 180, 0, 19, 42, 180, 0, 23, 160, 0, 7, 4]
abbrev dktX18_does_1 : List UInt8 := dkwX18_does_1 ++ dktX18_does_2
def dkwX18_does_0 : List UInt8 := [43, 180, 0, 13, 42, 180, 0, 19, 46, 42, 180, 0, 23, 184, 0, 26, 61, 42, 180, 0, 7, 154, 0, 15]
abbrev dktX18_does_0 : List UInt8 := dkwX18_does_0 ++ dktX18_does_1
theorem dksX18_does_0 : cX18_does.data.toList.drop 0 = dktX18_does_0 := by decide +kernel
theorem dksX18_does_1 : cX18_does.data.toList.drop 24 = dktX18_does_1 := dk_seg dksX18_does_0 24 rfl rfl
theorem dksX18_does_2 : cX18_does.data.toList.drop 48 = dktX18_does_2 := dk_seg dksX18_does_1 24 rfl rfl
theorem dksX18_does_3 : cX18_does.data.toList.drop 70 = dktX18_does_3 := dk_seg dksX18_does_2 22 rfl rfl
theorem dksX18_does_4 : cX18_does.data.toList.drop 93 = dktX18_does_4 := dk_seg dksX18_does_3 23 rfl rfl
theorem dX18_does_0 : decode cX18_does 0 = .ok (.aload_n 1, 1) := dk_43 (dk_at dksX18_does_0 0 rfl rfl)
theorem dX18_does_1 : decode cX18_does 1 = .ok (.getfield 13, 3) := dk_180 0 13 (dk_at dksX18_does_0 1 rfl rfl)
theorem dX18_does_4 : decode cX18_does 4 = .ok (.aload_n 0, 1) := dk_42 (dk_at dksX18_does_0 4 rfl rfl)
theorem dX18_does_5 : decode cX18_does 5 = .ok (.getfield 19, 3) := dk_180 0 19 (dk_at dksX18_does_0 5 rfl rfl)
theorem dX18_does_8 : decode cX18_does 8 = .ok (.iaload, 1) := dk_46 (dk_at dksX18_does_0 8 rfl rfl)
theorem dX18_does_9 : decode cX18_does 9 = .ok (.aload_n 0, 1) := dk_42 (dk_at dksX18_does_0 9 rfl rfl)
theorem dX18_does_10 : decode cX18_does 10 = .ok (.getfield 23, 3) := dk_180 0 23 (dk_at dksX18_does_0 10 rfl rfl)
theorem dX18_does_13 : decode cX18_does 13 = .ok (.invokestatic 26, 3) := dk_184 0 26 (dk_at dksX18_does_0 13 rfl rfl)
theorem dX18_does_16 : decode cX18_does 16 = .ok (.istore_n 2, 1) := dk_61 (dk_at dksX18_does_0 16 rfl rfl)
theorem dX18_does_17 : decode cX18_does 17 = .ok (.aload_n 0, 1) := dk_42 (dk_at dksX18_does_0 17 rfl rfl)
theorem dX18_does_18 : decode cX18_does 18 = .ok (.getfield 7, 3) := dk_180 0 7 (dk_at dksX18_does_0 18 rfl rfl)
theorem dX18_does_21 : decode cX18_does 21 = .ok (.ifCond .ne 15, 3) := dk_154 0 15 (dk_at dksX18_does_0 21 rfl rfl)
theorem dX18_does_24 : decode cX18_does 24 = .ok (.iload_n 2, 1) := dk_28 (dk_at dksX18_does_1 0 rfl rfl)
theorem dX18_does_25 : decode cX18_does 25 = .ok (.ifCond .eq 7, 3) := dk_153 0 7 (dk_at dksX18_does_1 1 rfl rfl)
theorem dX18_does_28 : decode cX18_does 28 = .ok (.iconst 0, 1) := dk_3 (dk_at dksX18_does_1 4 rfl rfl)
theorem dX18_does_29 : decode cX18_does 29 = .ok (.goto 31, 3) := dk_167 0 31 (dk_at dksX18_does_1 5 rfl rfl)
theorem dX18_does_32 : decode cX18_does 32 = .ok (.iconst 1, 1) := dk_4 (dk_at dksX18_does_1 8 rfl rfl)
theorem dX18_does_33 : decode cX18_does 33 = .ok (.goto 27, 3) := dk_167 0 27 (dk_at dksX18_does_1 9 rfl rfl)
theorem dX18_does_36 : decode cX18_does 36 = .ok (.aload_n 0, 1) := dk_42 (dk_at dksX18_does_1 12 rfl rfl)
theorem dX18_does_37 : decode cX18_does 37 = .ok (.getfield 19, 3) := dk_180 0 19 (dk_at dksX18_does_1 13 rfl rfl)
theorem dX18_does_40 : decode cX18_does 40 = .ok (.aload_n 0, 1) := dk_42 (dk_at dksX18_does_1 16 rfl rfl)
theorem dX18_does_41 : decode cX18_does 41 = .ok (.getfield 23, 3) := dk_180 0 23 (dk_at dksX18_does_1 17 rfl rfl)
theorem dX18_does_44 : decode cX18_does 44 = .ok (.if_icmp .ne 7, 3) := dk_160 0 7 (dk_at dksX18_does_1 20 rfl rfl)
theorem dX18_does_47 : decode cX18_does 47 = .ok (.iconst 1, 1) := dk_4 (dk_at dksX18_does_1 23 rfl rfl)
theorem dX18_does_48 : decode cX18_does 48 = .ok (.goto 12, 3) := dk_167 0 12 (dk_at dksX18_does_2 0 rfl rfl)
theorem dX18_does_51 : decode cX18_does 51 = .ok (.iload_n 2, 1) := dk_28 (dk_at dksX18_does_2 3 rfl rfl)
theorem dX18_does_52 : decode cX18_does 52 = .ok (.ifCond .eq 7, 3) := dk_153 0 7 (dk_at dksX18_does_2 4 rfl rfl)
theorem dX18_does_55 : decode cX18_does 55 = .ok (.iconst 2, 1) := dk_5 (dk_at dksX18_does_2 7 rfl rfl)
theorem dX18_does_56 : decode cX18_does 56 = .ok (.goto 4, 3) := dk_167 0 4 (dk_at dksX18_does_2 8 rfl rfl)
theorem dX18_does_59 : decode cX18_does 59 = .ok (.iconst 0, 1) := dk_3 (dk_at dksX18_does_2 11 rfl rfl)
theorem dX18_does_60 : decode cX18_does 60 = .ok (.istore_n 3, 1) := dk_62 (dk_at dksX18_does_2 12 rfl rfl)
theorem dX18_does_61 : decode cX18_does 61 = .ok (.iload_n 3, 1) := dk_29 (dk_at dksX18_does_2 13 rfl rfl)
theorem dX18_does_62 : decode cX18_does 62 = .ok (.ifCond .ne 21, 3) := dk_154 0 21 (dk_at dksX18_does_2 14 rfl rfl)
theorem dX18_does_65 : decode cX18_does 65 = .ok (.aload_n 1, 1) := dk_43 (dk_at dksX18_does_2 17 rfl rfl)
theorem dX18_does_66 : decode cX18_does 66 = .ok (.getfield 13, 3) := dk_180 0 13 (dk_at dksX18_does_2 18 rfl rfl)
theorem dX18_does_69 : decode cX18_does 69 = .ok (.aload_n 0, 1) := dk_42 (dk_at dksX18_does_2 21 rfl rfl)
theorem dX18_does_70 : decode cX18_does 70 = .ok (.getfield 19, 3) := dk_180 0 19 (dk_at dksX18_does_3 0 rfl rfl)
theorem dX18_does_73 : decode cX18_does 73 = .ok (.dup2, 1) := dk_92 (dk_at dksX18_does_3 3 rfl rfl)
theorem dX18_does_74 : decode cX18_does 74 = .ok (.iaload, 1) := dk_46 (dk_at dksX18_does_3 4 rfl rfl)
theorem dX18_does_75 : decode cX18_does 75 = .ok (.iconst 1, 1) := dk_4 (dk_at dksX18_does_3 5 rfl rfl)
theorem dX18_does_76 : decode cX18_does 76 = .ok (.aload_n 0, 1) := dk_42 (dk_at dksX18_does_3 6 rfl rfl)
theorem dX18_does_77 : decode cX18_does 77 = .ok (.getfield 23, 3) := dk_180 0 23 (dk_at dksX18_does_3 7 rfl rfl)
theorem dX18_does_80 : decode cX18_does 80 = .ok (.ishl, 1) := dk_120 (dk_at dksX18_does_3 10 rfl rfl)
theorem dX18_does_81 : decode cX18_does 81 = .ok (.ixor, 1) := dk_130 (dk_at dksX18_does_3 11 rfl rfl)
theorem dX18_does_82 : decode cX18_does 82 = .ok (.iastore, 1) := dk_79 (dk_at dksX18_does_3 12 rfl rfl)
theorem dX18_does_83 : decode cX18_does 83 = .ok (.iload_n 3, 1) := dk_29 (dk_at dksX18_does_3 13 rfl rfl)
theorem dX18_does_84 : decode cX18_does 84 = .ok (.aload_n 0, 1) := dk_42 (dk_at dksX18_does_3 14 rfl rfl)
theorem dX18_does_85 : decode cX18_does 85 = .ok (.getfield 7, 3) := dk_180 0 7 (dk_at dksX18_does_3 15 rfl rfl)
theorem dX18_does_88 : decode cX18_does 88 = .ok (.ifCond .eq 8, 3) := dk_153 0 8 (dk_at dksX18_does_3 18 rfl rfl)
theorem dX18_does_91 : decode cX18_does 91 = .ok (.bipush 10, 2) := dk_16 10 (dk_at dksX18_does_3 21 rfl rfl)
theorem dX18_does_93 : decode cX18_does 93 = .ok (.goto 5, 3) := dk_167 0 5 (dk_at dksX18_does_4 0 rfl rfl)
theorem dX18_does_96 : decode cX18_does 96 = .ok (.bipush 20, 2) := dk_16 20 (dk_at dksX18_does_4 3 rfl rfl)
theorem dX18_does_98 : decode cX18_does 98 = .ok (.invokestatic 32, 3) := dk_184 0 32 (dk_at dksX18_does_4 5 rfl rfl)
theorem dX18_does_101 : decode cX18_does 101 = .ok (.ireturn, 1) := dk_172 (dk_at dksX18_does_4 8 rfl rfl)
abbrev cX18_init : ByteArray := prog_28_method_1_code
def yX18_init : MethodName := ⟨RX18, "<init>", "(IIZ)V"⟩
def dkwX18_init_0 : List UInt8 := [42, 27, 28, 183, 0, 1, 42, 29, 181, 0, 7, 177]
abbrev dktX18_init_0 : List UInt8 := dkwX18_init_0 ++ []
theorem dksX18_init_0 : cX18_init.data.toList.drop 0 = dktX18_init_0 := by decide +kernel
theorem dX18_init_0 : decode cX18_init 0 = .ok (.aload_n 0, 1) := dk_42 (dk_at dksX18_init_0 0 rfl rfl)
theorem dX18_init_1 : decode cX18_init 1 = .ok (.iload_n 1, 1) := dk_27 (dk_at dksX18_init_0 1 rfl rfl)
theorem dX18_init_2 : decode cX18_init 2 = .ok (.iload_n 2, 1) := dk_28 (dk_at dksX18_init_0 2 rfl rfl)
theorem dX18_init_3 : decode cX18_init 3 = .ok (.invokespecial 1, 3) := dk_183 0 1 (dk_at dksX18_init_0 3 rfl rfl)
theorem dX18_init_6 : decode cX18_init 6 = .ok (.aload_n 0, 1) := dk_42 (dk_at dksX18_init_0 6 rfl rfl)
theorem dX18_init_7 : decode cX18_init 7 = .ok (.iload_n 3, 1) := dk_29 (dk_at dksX18_init_0 7 rfl rfl)
theorem dX18_init_8 : decode cX18_init 8 = .ok (.putfield 7, 3) := dk_181 0 7 (dk_at dksX18_init_0 8 rfl rfl)
theorem dX18_init_11 : decode cX18_init 11 = .ok (.return_, 1) := dk_177 (dk_at dksX18_init_0 11 rfl rfl)
theorem q149 : (Jvm.Cond.initialized "InchBorders$Treats") ∈ lw_all := lw_g (lw_at lw_m1 38 rfl) rfl
theorem q255 : (Jvm.Cond.fieldLinkNest "InchBorders$Treats" (13 : Nat) "InchBorders$Times" "spares" "[I" "InchBorders") ∈ lw_tbl := lw_at lw_m1 144 rfl
theorem q1010 : (Jvm.Cond.selects "InchBorders$Treats" ({ cls := "java/lang/Object", name := "getClass", desc := "()Ljava/lang/Class;" } : Jvm.MethodName) ({ cls := "java/lang/Object", name := "getClass", desc := "()Ljava/lang/Class;" } : Jvm.MethodName)) ∈ lw_all := lw_g (lw_at lw_m4 179 rfl) rfl
theorem q1293 : (Jvm.Cond.selects "InchBorders$Treats" ({ cls := "InchBorders$Act", name := "does", desc := "(LInchBorders$Times;)I" } : Jvm.MethodName) ({ cls := "InchBorders$Treats", name := "does", desc := "(LInchBorders$Times;)I" } : Jvm.MethodName)) ∈ lw_all := lw_g (lw_at lw_m5 222 rfl) rfl
theorem q1294 : (Jvm.Cond.instanceMethod ({ cls := "InchBorders$Treats", name := "does", desc := "(LInchBorders$Times;)I" } : Jvm.MethodName)) ∈ lw_all := lw_g (lw_at lw_m5 223 rfl) rfl
theorem q1295 : (Jvm.Cond.code ({ cls := "InchBorders$Treats", name := "does", desc := "(LInchBorders$Times;)I" } : Jvm.MethodName) prog_28_method_2_code (4 : Nat) (Option.some Jvm.ClassFile.FieldType.int)) ∈ lw_all := lw_g (lw_at lw_m5 224 rfl) rfl
theorem q1296 : (Jvm.Cond.methodLinkNest "InchBorders$Treats" (26 : Nat) ({ cls := "InchBorders", name := "isOf", desc := "(II)Z" } : Jvm.MethodName) "InchBorders") ∈ lw_tbl := lw_at lw_m5 225 rfl
theorem q1297 : (Jvm.Cond.methodLink "InchBorders$Treats" (32 : Nat) ({ cls := "InchBorders$Treats", name := "told", desc := "(II)I" } : Jvm.MethodName)) ∈ lw_all := lw_g (lw_at lw_m5 226 rfl) rfl
theorem q1298 : (Jvm.Cond.sameMethod "InchBorders$Treats" "InchBorders$Act" "told" "(II)I") ∈ lw_all := lw_g (lw_at lw_m5 227 rfl) rfl
theorem q1312 : (Jvm.Cond.instantiable "InchBorders$Treats" (3 : Nat)) ∈ lw_all := lw_g (lw_at lw_m6 1 rfl) rfl
theorem q1314 : (Jvm.Cond.instanceMethod ({ cls := "InchBorders$Treats", name := "<init>", desc := "(IIZ)V" } : Jvm.MethodName)) ∈ lw_all := lw_g (lw_at lw_m6 3 rfl) rfl
theorem q1315 : (Jvm.Cond.code ({ cls := "InchBorders$Treats", name := "<init>", desc := "(IIZ)V" } : Jvm.MethodName) prog_28_method_1_code (4 : Nat) (Option.none : Option Jvm.ClassFile.FieldType)) ∈ lw_all := lw_g (lw_at lw_m6 4 rfl) rfl
theorem q1316 : (Jvm.Cond.methodLink "InchBorders$Treats" (1 : Nat) ({ cls := "InchBorders$OfTwo", name := "<init>", desc := "(II)V" } : Jvm.MethodName)) ∈ lw_all := lw_g (lw_at lw_m6 5 rfl) rfl
theorem q1320 : (Jvm.Cond.fieldLink "InchBorders$Treats" (7 : Nat) "InchBorders$Treats" "pact" "Z") ∈ lw_all := lw_g (lw_at lw_m6 9 rfl) rfl
theorem q1324 : (Jvm.Cond.fieldLink "InchBorders$Treats" (19 : Nat) "InchBorders$Treats" "one" "I") ∈ lw_all := lw_g (lw_at lw_m6 13 rfl) rfl
theorem q1325 : (Jvm.Cond.sameField "InchBorders$Treats" "InchBorders$OfTwo" "one" "I") ∈ lw_all := lw_g (lw_at lw_m6 14 rfl) rfl
theorem q1329 : (Jvm.Cond.fieldLink "InchBorders$Treats" (23 : Nat) "InchBorders$Treats" "other" "I") ∈ lw_all := lw_g (lw_at lw_m6 18 rfl) rfl
theorem q1330 : (Jvm.Cond.sameField "InchBorders$Treats" "InchBorders$OfTwo" "other" "I") ∈ lw_all := lw_g (lw_at lw_m6 19 rfl) rfl
theorem q1331 : (Jvm.Cond.laysFinal "InchBorders$Treats" "InchBorders$Treats" "pact" "Z") ∈ lw_all := lw_g (lw_at lw_m6 20 rfl) rfl
theorem q1332 : (Jvm.Cond.soleField "InchBorders$Treats" "pact") ∈ lw_all := lw_g (lw_at lw_m6 21 rfl) rfl
theorem q1333 : (Jvm.Cond.laysFinal "InchBorders$Treats" "InchBorders$OfTwo" "one" "I") ∈ lw_all := lw_g (lw_at lw_m6 22 rfl) rfl
theorem q1335 : (Jvm.Cond.laysFinal "InchBorders$Treats" "InchBorders$OfTwo" "other" "I") ∈ lw_all := lw_g (lw_at lw_m6 24 rfl) rfl
theorem q1337 : (Jvm.Cond.superclass "InchBorders$Treats" "InchBorders$OfTwo") ∈ lw_all := lw_g (lw_at lw_m6 26 rfl) rfl
theorem q2730 : (Jvm.Cond.castable "InchBorders$Treats" "InchBorders$Act") ∈ lw_tbl := lw_at lw_m11 219 rfl
theorem q2746 : (Jvm.Cond.castable "InchBorders$Treats" "java/lang/Object") ∈ lw_tbl := lw_at lw_m11 235 rfl
theorem in_X18 : ∀ w ∈ wsX180, w ∈ lw_all := lw_in wsX180 [1333, 1335, 1331] (by decide +kernel) (by decide +kernel)

/-! InchBorders$Walk -/
set_option maxRecDepth 100000
def RX19 : String := "InchBorders$Walk"
abbrev cX19_init : ByteArray := prog_30_method_1_code
def yX19_init : MethodName := ⟨RX19, "<init>", "(LInchBorders$Times;II)V"⟩
def dkwX19_init_2 : List UInt8 := [128, 181, 0, 37, 177]
abbrev dktX19_init_2 : List UInt8 := dkwX19_init_2 ++ []
def dkwX19_init_1 : List UInt8 := [182, 0, 25, 181, 0, 31, 42, 43, 180, 0, 34, 42, 180, 0, 31, 46, 4, 42, 180, 0, 31, 120, 128, 29]
abbrev dktX19_init_1 : List UInt8 := dkwX19_init_1 ++ dktX19_init_2
def dkwX19_init_0 : List UInt8 := [42, 183, 0, 3, 42, 8, 188, 10, 181, 0, 9, 42, 43, 181, 0, 15, 42, 43, 180, 0, 19, 28]
abbrev dktX19_init_0 : List UInt8 := dkwX19_init_0 ++ dktX19_init_1
theorem dksX19_init_0 : cX19_init.data.toList.drop 0 = dktX19_init_0 := by decide +kernel
theorem dksX19_init_1 : cX19_init.data.toList.drop 22 = dktX19_init_1 := dk_seg dksX19_init_0 22 rfl rfl
theorem dksX19_init_2 : cX19_init.data.toList.drop 46 = dktX19_init_2 := dk_seg dksX19_init_1 24 rfl rfl
theorem dX19_init_0 : decode cX19_init 0 = .ok (.aload_n 0, 1) := dk_42 (dk_at dksX19_init_0 0 rfl rfl)
theorem dX19_init_1 : decode cX19_init 1 = .ok (.invokespecial 3, 3) := dk_183 0 3 (dk_at dksX19_init_0 1 rfl rfl)
theorem dX19_init_4 : decode cX19_init 4 = .ok (.aload_n 0, 1) := dk_42 (dk_at dksX19_init_0 4 rfl rfl)
theorem dX19_init_5 : decode cX19_init 5 = .ok (.iconst 5, 1) := dk_8 (dk_at dksX19_init_0 5 rfl rfl)
theorem dX19_init_6 : decode cX19_init 6 = .ok (.newarray .int, 2) := dk_188_10 (dk_at dksX19_init_0 6 rfl rfl)
theorem dX19_init_8 : decode cX19_init 8 = .ok (.putfield 9, 3) := dk_181 0 9 (dk_at dksX19_init_0 8 rfl rfl)
theorem dX19_init_11 : decode cX19_init 11 = .ok (.aload_n 0, 1) := dk_42 (dk_at dksX19_init_0 11 rfl rfl)
theorem dX19_init_12 : decode cX19_init 12 = .ok (.aload_n 1, 1) := dk_43 (dk_at dksX19_init_0 12 rfl rfl)
theorem dX19_init_13 : decode cX19_init 13 = .ok (.putfield 15, 3) := dk_181 0 15 (dk_at dksX19_init_0 13 rfl rfl)
theorem dX19_init_16 : decode cX19_init 16 = .ok (.aload_n 0, 1) := dk_42 (dk_at dksX19_init_0 16 rfl rfl)
theorem dX19_init_17 : decode cX19_init 17 = .ok (.aload_n 1, 1) := dk_43 (dk_at dksX19_init_0 17 rfl rfl)
theorem dX19_init_18 : decode cX19_init 18 = .ok (.getfield 19, 3) := dk_180 0 19 (dk_at dksX19_init_0 18 rfl rfl)
theorem dX19_init_21 : decode cX19_init 21 = .ok (.iload_n 2, 1) := dk_28 (dk_at dksX19_init_0 21 rfl rfl)
theorem dX19_init_22 : decode cX19_init 22 = .ok (.invokevirtual 25, 3) := dk_182 0 25 (dk_at dksX19_init_1 0 rfl rfl)
theorem dX19_init_25 : decode cX19_init 25 = .ok (.putfield 31, 3) := dk_181 0 31 (dk_at dksX19_init_1 3 rfl rfl)
theorem dX19_init_28 : decode cX19_init 28 = .ok (.aload_n 0, 1) := dk_42 (dk_at dksX19_init_1 6 rfl rfl)
theorem dX19_init_29 : decode cX19_init 29 = .ok (.aload_n 1, 1) := dk_43 (dk_at dksX19_init_1 7 rfl rfl)
theorem dX19_init_30 : decode cX19_init 30 = .ok (.getfield 34, 3) := dk_180 0 34 (dk_at dksX19_init_1 8 rfl rfl)
theorem dX19_init_33 : decode cX19_init 33 = .ok (.aload_n 0, 1) := dk_42 (dk_at dksX19_init_1 11 rfl rfl)
theorem dX19_init_34 : decode cX19_init 34 = .ok (.getfield 31, 3) := dk_180 0 31 (dk_at dksX19_init_1 12 rfl rfl)
theorem dX19_init_37 : decode cX19_init 37 = .ok (.iaload, 1) := dk_46 (dk_at dksX19_init_1 15 rfl rfl)
theorem dX19_init_38 : decode cX19_init 38 = .ok (.iconst 1, 1) := dk_4 (dk_at dksX19_init_1 16 rfl rfl)
theorem dX19_init_39 : decode cX19_init 39 = .ok (.aload_n 0, 1) := dk_42 (dk_at dksX19_init_1 17 rfl rfl)
theorem dX19_init_40 : decode cX19_init 40 = .ok (.getfield 31, 3) := dk_180 0 31 (dk_at dksX19_init_1 18 rfl rfl)
theorem dX19_init_43 : decode cX19_init 43 = .ok (.ishl, 1) := dk_120 (dk_at dksX19_init_1 21 rfl rfl)
theorem dX19_init_44 : decode cX19_init 44 = .ok (.ior, 1) := dk_128 (dk_at dksX19_init_1 22 rfl rfl)
theorem dX19_init_45 : decode cX19_init 45 = .ok (.iload_n 3, 1) := dk_29 (dk_at dksX19_init_1 23 rfl rfl)
theorem dX19_init_46 : decode cX19_init 46 = .ok (.ior, 1) := dk_128 (dk_at dksX19_init_2 0 rfl rfl)
theorem dX19_init_47 : decode cX19_init 47 = .ok (.putfield 37, 3) := dk_181 0 37 (dk_at dksX19_init_2 1 rfl rfl)
theorem dX19_init_50 : decode cX19_init 50 = .ok (.return_, 1) := dk_177 (dk_at dksX19_init_2 4 rfl rfl)
abbrev cX19_starts : ByteArray := prog_30_method_4_code
def yX19_starts : MethodName := ⟨RX19, "starts", "(II)Z"⟩
def dkwX19_starts_1 : List UInt8 := [180, 0, 15, 180, 0, 73, 42, 180, 0, 31, 46, 182, 0, 63, 172]
abbrev dktX19_starts_1 : List UInt8 := dkwX19_starts_1 ++ []
def dkwX19_starts_0 : List UInt8 := [42, 3, 28, 42, 180, 0, 15, 180, 0, 67, 27, 46, 42, 180, 0, 15, 180, 0, 70, 27, 46, 42]
abbrev dktX19_starts_0 : List UInt8 := dkwX19_starts_0 ++ dktX19_starts_1
theorem dksX19_starts_0 : cX19_starts.data.toList.drop 0 = dktX19_starts_0 := by decide +kernel
theorem dksX19_starts_1 : cX19_starts.data.toList.drop 22 = dktX19_starts_1 := dk_seg dksX19_starts_0 22 rfl rfl
theorem dX19_starts_0 : decode cX19_starts 0 = .ok (.aload_n 0, 1) := dk_42 (dk_at dksX19_starts_0 0 rfl rfl)
theorem dX19_starts_1 : decode cX19_starts 1 = .ok (.iconst 0, 1) := dk_3 (dk_at dksX19_starts_0 1 rfl rfl)
theorem dX19_starts_2 : decode cX19_starts 2 = .ok (.iload_n 2, 1) := dk_28 (dk_at dksX19_starts_0 2 rfl rfl)
theorem dX19_starts_3 : decode cX19_starts 3 = .ok (.aload_n 0, 1) := dk_42 (dk_at dksX19_starts_0 3 rfl rfl)
theorem dX19_starts_4 : decode cX19_starts 4 = .ok (.getfield 15, 3) := dk_180 0 15 (dk_at dksX19_starts_0 4 rfl rfl)
theorem dX19_starts_7 : decode cX19_starts 7 = .ok (.getfield 67, 3) := dk_180 0 67 (dk_at dksX19_starts_0 7 rfl rfl)
theorem dX19_starts_10 : decode cX19_starts 10 = .ok (.iload_n 1, 1) := dk_27 (dk_at dksX19_starts_0 10 rfl rfl)
theorem dX19_starts_11 : decode cX19_starts 11 = .ok (.iaload, 1) := dk_46 (dk_at dksX19_starts_0 11 rfl rfl)
theorem dX19_starts_12 : decode cX19_starts 12 = .ok (.aload_n 0, 1) := dk_42 (dk_at dksX19_starts_0 12 rfl rfl)
theorem dX19_starts_13 : decode cX19_starts 13 = .ok (.getfield 15, 3) := dk_180 0 15 (dk_at dksX19_starts_0 13 rfl rfl)
theorem dX19_starts_16 : decode cX19_starts 16 = .ok (.getfield 70, 3) := dk_180 0 70 (dk_at dksX19_starts_0 16 rfl rfl)
theorem dX19_starts_19 : decode cX19_starts 19 = .ok (.iload_n 1, 1) := dk_27 (dk_at dksX19_starts_0 19 rfl rfl)
theorem dX19_starts_20 : decode cX19_starts 20 = .ok (.iaload, 1) := dk_46 (dk_at dksX19_starts_0 20 rfl rfl)
theorem dX19_starts_21 : decode cX19_starts 21 = .ok (.aload_n 0, 1) := dk_42 (dk_at dksX19_starts_0 21 rfl rfl)
theorem dX19_starts_22 : decode cX19_starts 22 = .ok (.getfield 15, 3) := dk_180 0 15 (dk_at dksX19_starts_1 0 rfl rfl)
theorem dX19_starts_25 : decode cX19_starts 25 = .ok (.getfield 73, 3) := dk_180 0 73 (dk_at dksX19_starts_1 3 rfl rfl)
theorem dX19_starts_28 : decode cX19_starts 28 = .ok (.aload_n 0, 1) := dk_42 (dk_at dksX19_starts_1 6 rfl rfl)
theorem dX19_starts_29 : decode cX19_starts 29 = .ok (.getfield 31, 3) := dk_180 0 31 (dk_at dksX19_starts_1 7 rfl rfl)
theorem dX19_starts_32 : decode cX19_starts 32 = .ok (.iaload, 1) := dk_46 (dk_at dksX19_starts_1 10 rfl rfl)
theorem dX19_starts_33 : decode cX19_starts 33 = .ok (.invokevirtual 63, 3) := dk_182 0 63 (dk_at dksX19_starts_1 11 rfl rfl)
theorem dX19_starts_36 : decode cX19_starts 36 = .ok (.ireturn, 1) := dk_172 (dk_at dksX19_starts_1 14 rfl rfl)
abbrev cX19_goes : ByteArray := prog_30_method_3_code
def yX19_goes : MethodName := ⟨RX19, "goes", "(IIIII)Z"⟩
def dkwX19_goes_6 : List UInt8 := [100, 182, 0, 63, 153, 0, 5, 4, 172, 132, 6, 1, 167, 255, 121, 3, 172]
abbrev dktX19_goes_6 : List UInt8 := dkwX19_goes_6 ++ []
def dkwX19_goes_5 : List UInt8 := [182, 0, 60, 54, 8, 42, 27, 4, 96, 28, 21, 6, 21, 4, 21, 7, 96, 21, 8, 100, 21, 5, 21, 7]
abbrev dktX19_goes_5 : List UInt8 := dkwX19_goes_5 ++ dktX19_goes_6
def dkwX19_goes_4 : List UInt8 := [42, 180, 0, 37, 21, 6, 184, 0, 48, 153, 0, 7, 3, 167, 0, 12, 42, 180, 0, 15, 21, 6]
abbrev dktX19_goes_4 : List UInt8 := dkwX19_goes_4 ++ dktX19_goes_5
def dkwX19_goes_3 : List UInt8 := [160, 0, 21, 42, 180, 0, 15, 42, 180, 0, 31, 21, 4, 21, 5, 182, 0, 56, 167, 0, 4, 3, 54, 7]
abbrev dktX19_goes_3 : List UInt8 := dkwX19_goes_3 ++ dktX19_goes_4
def dkwX19_goes_2 : List UInt8 := [182, 0, 52, 153, 0, 6, 167, 0, 96, 42, 180, 0, 9, 27, 21, 6, 79, 21, 6, 42, 180, 0, 31]
abbrev dktX19_goes_2 : List UInt8 := dkwX19_goes_2 ++ dktX19_goes_3
def dkwX19_goes_1 : List UInt8 := [182, 0, 44, 162, 0, 129, 42, 180, 0, 15, 29, 21, 6, 21, 4, 42, 180, 0, 37, 21, 6, 184, 0, 48]
abbrev dktX19_goes_1 : List UInt8 := dkwX19_goes_1 ++ dktX19_goes_2
def dkwX19_goes_0 : List UInt8 := [27, 28, 160, 0, 12, 42, 27, 29, 21, 4, 182, 0, 40, 172, 3, 54, 6, 21, 6, 42, 180, 0, 15]
abbrev dktX19_goes_0 : List UInt8 := dkwX19_goes_0 ++ dktX19_goes_1
theorem dksX19_goes_0 : cX19_goes.data.toList.drop 0 = dktX19_goes_0 := by decide +kernel
theorem dksX19_goes_1 : cX19_goes.data.toList.drop 23 = dktX19_goes_1 := dk_seg dksX19_goes_0 23 rfl rfl
theorem dksX19_goes_2 : cX19_goes.data.toList.drop 47 = dktX19_goes_2 := dk_seg dksX19_goes_1 24 rfl rfl
theorem dksX19_goes_3 : cX19_goes.data.toList.drop 70 = dktX19_goes_3 := dk_seg dksX19_goes_2 23 rfl rfl
theorem dksX19_goes_4 : cX19_goes.data.toList.drop 94 = dktX19_goes_4 := dk_seg dksX19_goes_3 24 rfl rfl
theorem dksX19_goes_5 : cX19_goes.data.toList.drop 116 = dktX19_goes_5 := dk_seg dksX19_goes_4 22 rfl rfl
theorem dksX19_goes_6 : cX19_goes.data.toList.drop 140 = dktX19_goes_6 := dk_seg dksX19_goes_5 24 rfl rfl
theorem dX19_goes_0 : decode cX19_goes 0 = .ok (.iload_n 1, 1) := dk_27 (dk_at dksX19_goes_0 0 rfl rfl)
theorem dX19_goes_1 : decode cX19_goes 1 = .ok (.iload_n 2, 1) := dk_28 (dk_at dksX19_goes_0 1 rfl rfl)
theorem dX19_goes_2 : decode cX19_goes 2 = .ok (.if_icmp .ne 12, 3) := dk_160 0 12 (dk_at dksX19_goes_0 2 rfl rfl)
theorem dX19_goes_5 : decode cX19_goes 5 = .ok (.aload_n 0, 1) := dk_42 (dk_at dksX19_goes_0 5 rfl rfl)
theorem dX19_goes_6 : decode cX19_goes 6 = .ok (.iload_n 1, 1) := dk_27 (dk_at dksX19_goes_0 6 rfl rfl)
theorem dX19_goes_7 : decode cX19_goes 7 = .ok (.iload_n 3, 1) := dk_29 (dk_at dksX19_goes_0 7 rfl rfl)
theorem dX19_goes_8 : decode cX19_goes 8 = .ok (.iload 4, 2) := dk_21 4 (dk_at dksX19_goes_0 8 rfl rfl)
theorem dX19_goes_10 : decode cX19_goes 10 = .ok (.invokevirtual 40, 3) := dk_182 0 40 (dk_at dksX19_goes_0 10 rfl rfl)
theorem dX19_goes_13 : decode cX19_goes 13 = .ok (.ireturn, 1) := dk_172 (dk_at dksX19_goes_0 13 rfl rfl)
theorem dX19_goes_14 : decode cX19_goes 14 = .ok (.iconst 0, 1) := dk_3 (dk_at dksX19_goes_0 14 rfl rfl)
theorem dX19_goes_15 : decode cX19_goes 15 = .ok (.istore 6, 2) := dk_54 6 (dk_at dksX19_goes_0 15 rfl rfl)
theorem dX19_goes_17 : decode cX19_goes 17 = .ok (.iload 6, 2) := dk_21 6 (dk_at dksX19_goes_0 17 rfl rfl)
theorem dX19_goes_19 : decode cX19_goes 19 = .ok (.aload_n 0, 1) := dk_42 (dk_at dksX19_goes_0 19 rfl rfl)
theorem dX19_goes_20 : decode cX19_goes 20 = .ok (.getfield 15, 3) := dk_180 0 15 (dk_at dksX19_goes_0 20 rfl rfl)
theorem dX19_goes_23 : decode cX19_goes 23 = .ok (.invokevirtual 44, 3) := dk_182 0 44 (dk_at dksX19_goes_1 0 rfl rfl)
theorem dX19_goes_26 : decode cX19_goes 26 = .ok (.if_icmp .ge 129, 3) := dk_162 0 129 (dk_at dksX19_goes_1 3 rfl rfl)
theorem dX19_goes_29 : decode cX19_goes 29 = .ok (.aload_n 0, 1) := dk_42 (dk_at dksX19_goes_1 6 rfl rfl)
theorem dX19_goes_30 : decode cX19_goes 30 = .ok (.getfield 15, 3) := dk_180 0 15 (dk_at dksX19_goes_1 7 rfl rfl)
theorem dX19_goes_33 : decode cX19_goes 33 = .ok (.iload_n 3, 1) := dk_29 (dk_at dksX19_goes_1 10 rfl rfl)
theorem dX19_goes_34 : decode cX19_goes 34 = .ok (.iload 6, 2) := dk_21 6 (dk_at dksX19_goes_1 11 rfl rfl)
theorem dX19_goes_36 : decode cX19_goes 36 = .ok (.iload 4, 2) := dk_21 4 (dk_at dksX19_goes_1 13 rfl rfl)
theorem dX19_goes_38 : decode cX19_goes 38 = .ok (.aload_n 0, 1) := dk_42 (dk_at dksX19_goes_1 15 rfl rfl)
theorem dX19_goes_39 : decode cX19_goes 39 = .ok (.getfield 37, 3) := dk_180 0 37 (dk_at dksX19_goes_1 16 rfl rfl)
theorem dX19_goes_42 : decode cX19_goes 42 = .ok (.iload 6, 2) := dk_21 6 (dk_at dksX19_goes_1 19 rfl rfl)
theorem dX19_goes_44 : decode cX19_goes 44 = .ok (.invokestatic 48, 3) := dk_184 0 48 (dk_at dksX19_goes_1 21 rfl rfl)
theorem dX19_goes_47 : decode cX19_goes 47 = .ok (.invokevirtual 52, 3) := dk_182 0 52 (dk_at dksX19_goes_2 0 rfl rfl)
theorem dX19_goes_50 : decode cX19_goes 50 = .ok (.ifCond .eq 6, 3) := dk_153 0 6 (dk_at dksX19_goes_2 3 rfl rfl)
theorem dX19_goes_53 : decode cX19_goes 53 = .ok (.goto 96, 3) := dk_167 0 96 (dk_at dksX19_goes_2 6 rfl rfl)
theorem dX19_goes_56 : decode cX19_goes 56 = .ok (.aload_n 0, 1) := dk_42 (dk_at dksX19_goes_2 9 rfl rfl)
theorem dX19_goes_57 : decode cX19_goes 57 = .ok (.getfield 9, 3) := dk_180 0 9 (dk_at dksX19_goes_2 10 rfl rfl)
theorem dX19_goes_60 : decode cX19_goes 60 = .ok (.iload_n 1, 1) := dk_27 (dk_at dksX19_goes_2 13 rfl rfl)
theorem dX19_goes_61 : decode cX19_goes 61 = .ok (.iload 6, 2) := dk_21 6 (dk_at dksX19_goes_2 14 rfl rfl)
theorem dX19_goes_63 : decode cX19_goes 63 = .ok (.iastore, 1) := dk_79 (dk_at dksX19_goes_2 16 rfl rfl)
theorem dX19_goes_64 : decode cX19_goes 64 = .ok (.iload 6, 2) := dk_21 6 (dk_at dksX19_goes_2 17 rfl rfl)
theorem dX19_goes_66 : decode cX19_goes 66 = .ok (.aload_n 0, 1) := dk_42 (dk_at dksX19_goes_2 19 rfl rfl)
theorem dX19_goes_67 : decode cX19_goes 67 = .ok (.getfield 31, 3) := dk_180 0 31 (dk_at dksX19_goes_2 20 rfl rfl)
theorem dX19_goes_70 : decode cX19_goes 70 = .ok (.if_icmp .ne 21, 3) := dk_160 0 21 (dk_at dksX19_goes_3 0 rfl rfl)
theorem dX19_goes_73 : decode cX19_goes 73 = .ok (.aload_n 0, 1) := dk_42 (dk_at dksX19_goes_3 3 rfl rfl)
theorem dX19_goes_74 : decode cX19_goes 74 = .ok (.getfield 15, 3) := dk_180 0 15 (dk_at dksX19_goes_3 4 rfl rfl)
theorem dX19_goes_77 : decode cX19_goes 77 = .ok (.aload_n 0, 1) := dk_42 (dk_at dksX19_goes_3 7 rfl rfl)
theorem dX19_goes_78 : decode cX19_goes 78 = .ok (.getfield 31, 3) := dk_180 0 31 (dk_at dksX19_goes_3 8 rfl rfl)
theorem dX19_goes_81 : decode cX19_goes 81 = .ok (.iload 4, 2) := dk_21 4 (dk_at dksX19_goes_3 11 rfl rfl)
theorem dX19_goes_83 : decode cX19_goes 83 = .ok (.iload 5, 2) := dk_21 5 (dk_at dksX19_goes_3 13 rfl rfl)
theorem dX19_goes_85 : decode cX19_goes 85 = .ok (.invokevirtual 56, 3) := dk_182 0 56 (dk_at dksX19_goes_3 15 rfl rfl)
theorem dX19_goes_88 : decode cX19_goes 88 = .ok (.goto 4, 3) := dk_167 0 4 (dk_at dksX19_goes_3 18 rfl rfl)
theorem dX19_goes_91 : decode cX19_goes 91 = .ok (.iconst 0, 1) := dk_3 (dk_at dksX19_goes_3 21 rfl rfl)
theorem dX19_goes_92 : decode cX19_goes 92 = .ok (.istore 7, 2) := dk_54 7 (dk_at dksX19_goes_3 22 rfl rfl)
theorem dX19_goes_94 : decode cX19_goes 94 = .ok (.aload_n 0, 1) := dk_42 (dk_at dksX19_goes_4 0 rfl rfl)
theorem dX19_goes_95 : decode cX19_goes 95 = .ok (.getfield 37, 3) := dk_180 0 37 (dk_at dksX19_goes_4 1 rfl rfl)
theorem dX19_goes_98 : decode cX19_goes 98 = .ok (.iload 6, 2) := dk_21 6 (dk_at dksX19_goes_4 4 rfl rfl)
theorem dX19_goes_100 : decode cX19_goes 100 = .ok (.invokestatic 48, 3) := dk_184 0 48 (dk_at dksX19_goes_4 6 rfl rfl)
theorem dX19_goes_103 : decode cX19_goes 103 = .ok (.ifCond .eq 7, 3) := dk_153 0 7 (dk_at dksX19_goes_4 9 rfl rfl)
theorem dX19_goes_106 : decode cX19_goes 106 = .ok (.iconst 0, 1) := dk_3 (dk_at dksX19_goes_4 12 rfl rfl)
theorem dX19_goes_107 : decode cX19_goes 107 = .ok (.goto 12, 3) := dk_167 0 12 (dk_at dksX19_goes_4 13 rfl rfl)
theorem dX19_goes_110 : decode cX19_goes 110 = .ok (.aload_n 0, 1) := dk_42 (dk_at dksX19_goes_4 16 rfl rfl)
theorem dX19_goes_111 : decode cX19_goes 111 = .ok (.getfield 15, 3) := dk_180 0 15 (dk_at dksX19_goes_4 17 rfl rfl)
theorem dX19_goes_114 : decode cX19_goes 114 = .ok (.iload 6, 2) := dk_21 6 (dk_at dksX19_goes_4 20 rfl rfl)
theorem dX19_goes_116 : decode cX19_goes 116 = .ok (.invokevirtual 60, 3) := dk_182 0 60 (dk_at dksX19_goes_5 0 rfl rfl)
theorem dX19_goes_119 : decode cX19_goes 119 = .ok (.istore 8, 2) := dk_54 8 (dk_at dksX19_goes_5 3 rfl rfl)
theorem dX19_goes_121 : decode cX19_goes 121 = .ok (.aload_n 0, 1) := dk_42 (dk_at dksX19_goes_5 5 rfl rfl)
theorem dX19_goes_122 : decode cX19_goes 122 = .ok (.iload_n 1, 1) := dk_27 (dk_at dksX19_goes_5 6 rfl rfl)
theorem dX19_goes_123 : decode cX19_goes 123 = .ok (.iconst 1, 1) := dk_4 (dk_at dksX19_goes_5 7 rfl rfl)
theorem dX19_goes_124 : decode cX19_goes 124 = .ok (.iadd, 1) := dk_96 (dk_at dksX19_goes_5 8 rfl rfl)
theorem dX19_goes_125 : decode cX19_goes 125 = .ok (.iload_n 2, 1) := dk_28 (dk_at dksX19_goes_5 9 rfl rfl)
theorem dX19_goes_126 : decode cX19_goes 126 = .ok (.iload 6, 2) := dk_21 6 (dk_at dksX19_goes_5 10 rfl rfl)
theorem dX19_goes_128 : decode cX19_goes 128 = .ok (.iload 4, 2) := dk_21 4 (dk_at dksX19_goes_5 12 rfl rfl)
theorem dX19_goes_130 : decode cX19_goes 130 = .ok (.iload 7, 2) := dk_21 7 (dk_at dksX19_goes_5 14 rfl rfl)
theorem dX19_goes_132 : decode cX19_goes 132 = .ok (.iadd, 1) := dk_96 (dk_at dksX19_goes_5 16 rfl rfl)
theorem dX19_goes_133 : decode cX19_goes 133 = .ok (.iload 8, 2) := dk_21 8 (dk_at dksX19_goes_5 17 rfl rfl)
theorem dX19_goes_135 : decode cX19_goes 135 = .ok (.isub, 1) := dk_100 (dk_at dksX19_goes_5 19 rfl rfl)
theorem dX19_goes_136 : decode cX19_goes 136 = .ok (.iload 5, 2) := dk_21 5 (dk_at dksX19_goes_5 20 rfl rfl)
theorem dX19_goes_138 : decode cX19_goes 138 = .ok (.iload 7, 2) := dk_21 7 (dk_at dksX19_goes_5 22 rfl rfl)
theorem dX19_goes_140 : decode cX19_goes 140 = .ok (.isub, 1) := dk_100 (dk_at dksX19_goes_6 0 rfl rfl)
theorem dX19_goes_141 : decode cX19_goes 141 = .ok (.invokevirtual 63, 3) := dk_182 0 63 (dk_at dksX19_goes_6 1 rfl rfl)
theorem dX19_goes_144 : decode cX19_goes 144 = .ok (.ifCond .eq 5, 3) := dk_153 0 5 (dk_at dksX19_goes_6 4 rfl rfl)
theorem dX19_goes_147 : decode cX19_goes 147 = .ok (.iconst 1, 1) := dk_4 (dk_at dksX19_goes_6 7 rfl rfl)
theorem dX19_goes_148 : decode cX19_goes 148 = .ok (.ireturn, 1) := dk_172 (dk_at dksX19_goes_6 8 rfl rfl)
theorem dX19_goes_149 : decode cX19_goes 149 = .ok (.iinc 6 1, 3) := dk_132 6 1 (dk_at dksX19_goes_6 9 rfl rfl)
theorem dX19_goes_152 : decode cX19_goes 152 = .ok (.goto (-135), 3) := dk_167 255 121 (dk_at dksX19_goes_6 12 rfl rfl)
theorem dX19_goes_155 : decode cX19_goes 155 = .ok (.iconst 0, 1) := dk_3 (dk_at dksX19_goes_6 15 rfl rfl)
theorem dX19_goes_156 : decode cX19_goes 156 = .ok (.ireturn, 1) := dk_172 (dk_at dksX19_goes_6 16 rfl rfl)
theorem q150 : (Jvm.Cond.initialized "InchBorders$Walk") ∈ lw_all := lw_g (lw_at lw_m1 39 rfl) rfl
theorem q236 : (Jvm.Cond.fieldLinkNest "InchBorders$Walk" (19 : Nat) "InchBorders$Times" "a" "LInchBorders$Atlas;" "InchBorders") ∈ lw_tbl := lw_at lw_m1 125 rfl
theorem q251 : (Jvm.Cond.fieldLinkNest "InchBorders$Walk" (73 : Nat) "InchBorders$Times" "store" "[I" "InchBorders") ∈ lw_tbl := lw_at lw_m1 140 rfl
theorem q254 : (Jvm.Cond.fieldLinkNest "InchBorders$Walk" (34 : Nat) "InchBorders$Times" "spares" "[I" "InchBorders") ∈ lw_tbl := lw_at lw_m1 143 rfl
theorem q262 : (Jvm.Cond.fieldLinkNest "InchBorders$Walk" (67 : Nat) "InchBorders$Times" "at" "[I" "InchBorders") ∈ lw_tbl := lw_at lw_m1 151 rfl
theorem q266 : (Jvm.Cond.fieldLinkNest "InchBorders$Walk" (70 : Nat) "InchBorders$Times" "tall" "[I" "InchBorders") ∈ lw_tbl := lw_at lw_m1 155 rfl
theorem q1408 : (Jvm.Cond.instanceMethod ({ cls := "InchBorders$Walk", name := "<init>", desc := "(LInchBorders$Times;II)V" } : Jvm.MethodName)) ∈ lw_all := lw_g (lw_at lw_m6 97 rfl) rfl
theorem q1409 : (Jvm.Cond.code ({ cls := "InchBorders$Walk", name := "<init>", desc := "(LInchBorders$Times;II)V" } : Jvm.MethodName) prog_30_method_1_code (4 : Nat) (Option.none : Option Jvm.ClassFile.FieldType)) ∈ lw_all := lw_g (lw_at lw_m6 98 rfl) rfl
theorem q1410 : (Jvm.Cond.methodLink "InchBorders$Walk" (3 : Nat) ({ cls := "java/lang/Object", name := "<init>", desc := "()V" } : Jvm.MethodName)) ∈ lw_all := lw_g (lw_at lw_m6 99 rfl) rfl
theorem q1411 : (Jvm.Cond.methodLink "InchBorders$Walk" (25 : Nat) ({ cls := "InchBorders$Atlas", name := "home", desc := "(I)I" } : Jvm.MethodName)) ∈ lw_all := lw_g (lw_at lw_m6 100 rfl) rfl
theorem q1414 : (Jvm.Cond.fieldLink "InchBorders$Walk" (15 : Nat) "InchBorders$Walk" "t" "LInchBorders$Times;") ∈ lw_all := lw_g (lw_at lw_m6 103 rfl) rfl
theorem q1415 : (Jvm.Cond.fieldLink "InchBorders$Walk" (31 : Nat) "InchBorders$Walk" "home" "I") ∈ lw_all := lw_g (lw_at lw_m6 104 rfl) rfl
theorem q1416 : (Jvm.Cond.fieldLink "InchBorders$Walk" (37 : Nat) "InchBorders$Walk" "spared" "I") ∈ lw_all := lw_g (lw_at lw_m6 105 rfl) rfl
theorem q1417 : (Jvm.Cond.fieldLink "InchBorders$Walk" (9 : Nat) "InchBorders$Walk" "path" "[I") ∈ lw_all := lw_g (lw_at lw_m6 106 rfl) rfl
theorem q1427 : (Jvm.Cond.soleField "InchBorders$Walk" "t") ∈ lw_all := lw_g (lw_at lw_m6 116 rfl) rfl
theorem q1429 : (Jvm.Cond.soleField "InchBorders$Walk" "home") ∈ lw_all := lw_g (lw_at lw_m6 118 rfl) rfl
theorem q1431 : (Jvm.Cond.soleField "InchBorders$Walk" "spared") ∈ lw_all := lw_g (lw_at lw_m6 120 rfl) rfl
theorem q1433 : (Jvm.Cond.soleField "InchBorders$Walk" "path") ∈ lw_all := lw_g (lw_at lw_m6 122 rfl) rfl
theorem q1441 : (Jvm.Cond.declares ({ cls := "InchBorders$Walk", name := "starts", desc := "(II)Z" } : Jvm.MethodName)) ∈ lw_tbl := lw_at lw_m6 130 rfl
theorem q1443 : (Jvm.Cond.instanceMethod ({ cls := "InchBorders$Walk", name := "starts", desc := "(II)Z" } : Jvm.MethodName)) ∈ lw_all := lw_g (lw_at lw_m6 132 rfl) rfl
theorem q1444 : (Jvm.Cond.code ({ cls := "InchBorders$Walk", name := "starts", desc := "(II)Z" } : Jvm.MethodName) prog_30_method_4_code (3 : Nat) (Option.some Jvm.ClassFile.FieldType.boolean)) ∈ lw_all := lw_g (lw_at lw_m6 133 rfl) rfl
theorem q1445 : (Jvm.Cond.methodLink "InchBorders$Walk" (63 : Nat) ({ cls := "InchBorders$Walk", name := "goes", desc := "(IIIII)Z" } : Jvm.MethodName)) ∈ lw_all := lw_g (lw_at lw_m6 134 rfl) rfl
theorem q1446 : (Jvm.Cond.instanceMethod ({ cls := "InchBorders$Walk", name := "goes", desc := "(IIIII)Z" } : Jvm.MethodName)) ∈ lw_all := lw_g (lw_at lw_m6 135 rfl) rfl
theorem q1447 : (Jvm.Cond.sameMethod "InchBorders$Walk" "InchBorders$Walk" "goes" "(IIIII)Z") ∈ lw_all := lw_g (lw_at lw_m6 136 rfl) rfl
theorem q1451 : (Jvm.Cond.code ({ cls := "InchBorders$Walk", name := "goes", desc := "(IIIII)Z" } : Jvm.MethodName) prog_30_method_3_code (9 : Nat) (Option.some Jvm.ClassFile.FieldType.boolean)) ∈ lw_all := lw_g (lw_at lw_m6 140 rfl) rfl
theorem q1452 : (Jvm.Cond.methodLink "InchBorders$Walk" (40 : Nat) ({ cls := "InchBorders$Walk", name := "ends", desc := "(III)Z" } : Jvm.MethodName)) ∈ lw_all := lw_g (lw_at lw_m6 141 rfl) rfl
theorem q1453 : (Jvm.Cond.declares ({ cls := "InchBorders$Walk", name := "ends", desc := "(III)Z" } : Jvm.MethodName)) ∈ lw_tbl := lw_at lw_m6 142 rfl
theorem q1454 : (Jvm.Cond.sameMethod "InchBorders$Walk" "InchBorders$Walk" "ends" "(III)Z") ∈ lw_all := lw_g (lw_at lw_m6 143 rfl) rfl
theorem q1466 : (Jvm.Cond.methodLink "InchBorders$Walk" (44 : Nat) ({ cls := "InchBorders$Times", name := "lands", desc := "()I" } : Jvm.MethodName)) ∈ lw_all := lw_g (lw_at lw_m6 155 rfl) rfl
theorem q1467 : (Jvm.Cond.methodLinkNest "InchBorders$Walk" (48 : Nat) ({ cls := "InchBorders", name := "isOf", desc := "(II)Z" } : Jvm.MethodName) "InchBorders") ∈ lw_tbl := lw_at lw_m6 156 rfl
theorem q1468 : (Jvm.Cond.methodLink "InchBorders$Walk" (52 : Nat) ({ cls := "InchBorders$Times", name := "why", desc := "(IIIZ)I" } : Jvm.MethodName)) ∈ lw_all := lw_g (lw_at lw_m6 157 rfl) rfl
theorem q1469 : (Jvm.Cond.methodLink "InchBorders$Walk" (56 : Nat) ({ cls := "InchBorders$Times", name := "gives", desc := "(III)I" } : Jvm.MethodName)) ∈ lw_all := lw_g (lw_at lw_m6 158 rfl) rfl
theorem q1470 : (Jvm.Cond.methodLink "InchBorders$Walk" (60 : Nat) ({ cls := "InchBorders$Times", name := "take", desc := "(I)I" } : Jvm.MethodName)) ∈ lw_all := lw_g (lw_at lw_m6 159 rfl) rfl

/-! InchBorders$Atlas -/
set_option maxRecDepth 100000
def RX2 : String := "InchBorders$Atlas"
def TX2 : u_T := fun k => match k with
  | 0 => ("InchBorders$Atlas", "lines", "I", false)
  | 1 => ("InchBorders$Atlas", "lands", "Ljava/util/ArrayList;", true)
  | 2 => ("InchBorders$Atlas", "roads", "Ljava/util/ArrayList;", true)
  | _ => ("InchBorders$Atlas", "persons", "Ljava/util/ArrayList;", true)
def tyX2 : Nat → FieldType := fun k => match k with
  | 0 => .int
  | 1 => .object "java/util/ArrayList"
  | 2 => .object "java/util/ArrayList"
  | _ => .object "java/util/ArrayList"
abbrev wsX20 : List Cond := u_ws RX2 TX2 4
theorem nmX2 : ∀ a, a < 4 → ∀ b, b < 4 → a ≠ b → (TX2 a).2.1 ≠ (TX2 b).2.1 := by decide +kernel
theorem tyX2_ok : ∀ k, k < 4 → parseFieldDescriptor (TX2 k).2.2.1 = some (tyX2 k) := by decide +kernel
abbrev cX2_init : ByteArray := prog_3_method_1_code
def yX2_init : MethodName := ⟨RX2, "<init>", "()V"⟩
def dkwX2_init_1 : List UInt8 := [181, 0, 18, 42, 187, 0, 9, 89, 183, 0, 11, 181, 0, 21, 177]
abbrev dktX2_init_1 : List UInt8 := dkwX2_init_1 ++ []
def dkwX2_init_0 : List UInt8 := [42, 183, 0, 3, 42, 187, 0, 9, 89, 183, 0, 11, 181, 0, 12, 42, 187, 0, 9, 89, 183, 0, 11]
abbrev dktX2_init_0 : List UInt8 := dkwX2_init_0 ++ dktX2_init_1
theorem dksX2_init_0 : cX2_init.data.toList.drop 0 = dktX2_init_0 := by decide +kernel
theorem dksX2_init_1 : cX2_init.data.toList.drop 23 = dktX2_init_1 := dk_seg dksX2_init_0 23 rfl rfl
theorem dX2_init_0 : decode cX2_init 0 = .ok (.aload_n 0, 1) := dk_42 (dk_at dksX2_init_0 0 rfl rfl)
theorem dX2_init_1 : decode cX2_init 1 = .ok (.invokespecial 3, 3) := dk_183 0 3 (dk_at dksX2_init_0 1 rfl rfl)
theorem dX2_init_4 : decode cX2_init 4 = .ok (.aload_n 0, 1) := dk_42 (dk_at dksX2_init_0 4 rfl rfl)
theorem dX2_init_5 : decode cX2_init 5 = .ok (.new 9, 3) := dk_187 0 9 (dk_at dksX2_init_0 5 rfl rfl)
theorem dX2_init_8 : decode cX2_init 8 = .ok (.dup, 1) := dk_89 (dk_at dksX2_init_0 8 rfl rfl)
theorem dX2_init_9 : decode cX2_init 9 = .ok (.invokespecial 11, 3) := dk_183 0 11 (dk_at dksX2_init_0 9 rfl rfl)
theorem dX2_init_12 : decode cX2_init 12 = .ok (.putfield 12, 3) := dk_181 0 12 (dk_at dksX2_init_0 12 rfl rfl)
theorem dX2_init_15 : decode cX2_init 15 = .ok (.aload_n 0, 1) := dk_42 (dk_at dksX2_init_0 15 rfl rfl)
theorem dX2_init_16 : decode cX2_init 16 = .ok (.new 9, 3) := dk_187 0 9 (dk_at dksX2_init_0 16 rfl rfl)
theorem dX2_init_19 : decode cX2_init 19 = .ok (.dup, 1) := dk_89 (dk_at dksX2_init_0 19 rfl rfl)
theorem dX2_init_20 : decode cX2_init 20 = .ok (.invokespecial 11, 3) := dk_183 0 11 (dk_at dksX2_init_0 20 rfl rfl)
theorem dX2_init_23 : decode cX2_init 23 = .ok (.putfield 18, 3) := dk_181 0 18 (dk_at dksX2_init_1 0 rfl rfl)
theorem dX2_init_26 : decode cX2_init 26 = .ok (.aload_n 0, 1) := dk_42 (dk_at dksX2_init_1 3 rfl rfl)
theorem dX2_init_27 : decode cX2_init 27 = .ok (.new 9, 3) := dk_187 0 9 (dk_at dksX2_init_1 4 rfl rfl)
theorem dX2_init_30 : decode cX2_init 30 = .ok (.dup, 1) := dk_89 (dk_at dksX2_init_1 7 rfl rfl)
theorem dX2_init_31 : decode cX2_init 31 = .ok (.invokespecial 11, 3) := dk_183 0 11 (dk_at dksX2_init_1 8 rfl rfl)
theorem dX2_init_34 : decode cX2_init 34 = .ok (.putfield 21, 3) := dk_181 0 21 (dk_at dksX2_init_1 11 rfl rfl)
theorem dX2_init_37 : decode cX2_init 37 = .ok (.return_, 1) := dk_177 (dk_at dksX2_init_1 14 rfl rfl)
abbrev cX2_home : ByteArray := prog_3_method_6_code
def yX2_home : MethodName := ⟨RX2, "home", "(I)I"⟩
def dkwX2_home_0 : List UInt8 := [42, 180, 0, 21, 27, 182, 0, 32, 192, 0, 42, 180, 0, 44, 172]
abbrev dktX2_home_0 : List UInt8 := dkwX2_home_0 ++ []
theorem dksX2_home_0 : cX2_home.data.toList.drop 0 = dktX2_home_0 := by decide +kernel
theorem dX2_home_0 : decode cX2_home 0 = .ok (.aload_n 0, 1) := dk_42 (dk_at dksX2_home_0 0 rfl rfl)
theorem dX2_home_1 : decode cX2_home 1 = .ok (.getfield 21, 3) := dk_180 0 21 (dk_at dksX2_home_0 1 rfl rfl)
theorem dX2_home_4 : decode cX2_home 4 = .ok (.iload_n 1, 1) := dk_27 (dk_at dksX2_home_0 4 rfl rfl)
theorem dX2_home_5 : decode cX2_home 5 = .ok (.invokevirtual 32, 3) := dk_182 0 32 (dk_at dksX2_home_0 5 rfl rfl)
theorem dX2_home_8 : decode cX2_home 8 = .ok (.checkcast 42, 3) := dk_192 0 42 (dk_at dksX2_home_0 8 rfl rfl)
theorem dX2_home_11 : decode cX2_home 11 = .ok (.getfield 44, 3) := dk_180 0 44 (dk_at dksX2_home_0 11 rfl rfl)
theorem dX2_home_14 : decode cX2_home 14 = .ok (.ireturn, 1) := dk_172 (dk_at dksX2_home_0 14 rfl rfl)
abbrev cX2_road : ByteArray := prog_3_method_5_code
def yX2_road : MethodName := ⟨RX2, "road", "(II)I"⟩
def dkwX2_road_1 : List UInt8 := [27, 28, 182, 0, 38, 153, 0, 5, 29, 172, 132, 3, 1, 167, 255, 221, 2, 172]
abbrev dktX2_road_1 : List UInt8 := dkwX2_road_1 ++ []
def dkwX2_road_0 : List UInt8 := [3, 62, 29, 42, 180, 0, 18, 182, 0, 24, 162, 0, 30, 42, 180, 0, 18, 29, 182, 0, 32, 192, 0, 36]
abbrev dktX2_road_0 : List UInt8 := dkwX2_road_0 ++ dktX2_road_1
theorem dksX2_road_0 : cX2_road.data.toList.drop 0 = dktX2_road_0 := by decide +kernel
theorem dksX2_road_1 : cX2_road.data.toList.drop 24 = dktX2_road_1 := dk_seg dksX2_road_0 24 rfl rfl
theorem dX2_road_0 : decode cX2_road 0 = .ok (.iconst 0, 1) := dk_3 (dk_at dksX2_road_0 0 rfl rfl)
theorem dX2_road_1 : decode cX2_road 1 = .ok (.istore_n 3, 1) := dk_62 (dk_at dksX2_road_0 1 rfl rfl)
theorem dX2_road_2 : decode cX2_road 2 = .ok (.iload_n 3, 1) := dk_29 (dk_at dksX2_road_0 2 rfl rfl)
theorem dX2_road_3 : decode cX2_road 3 = .ok (.aload_n 0, 1) := dk_42 (dk_at dksX2_road_0 3 rfl rfl)
theorem dX2_road_4 : decode cX2_road 4 = .ok (.getfield 18, 3) := dk_180 0 18 (dk_at dksX2_road_0 4 rfl rfl)
theorem dX2_road_7 : decode cX2_road 7 = .ok (.invokevirtual 24, 3) := dk_182 0 24 (dk_at dksX2_road_0 7 rfl rfl)
theorem dX2_road_10 : decode cX2_road 10 = .ok (.if_icmp .ge 30, 3) := dk_162 0 30 (dk_at dksX2_road_0 10 rfl rfl)
theorem dX2_road_13 : decode cX2_road 13 = .ok (.aload_n 0, 1) := dk_42 (dk_at dksX2_road_0 13 rfl rfl)
theorem dX2_road_14 : decode cX2_road 14 = .ok (.getfield 18, 3) := dk_180 0 18 (dk_at dksX2_road_0 14 rfl rfl)
theorem dX2_road_17 : decode cX2_road 17 = .ok (.iload_n 3, 1) := dk_29 (dk_at dksX2_road_0 17 rfl rfl)
theorem dX2_road_18 : decode cX2_road 18 = .ok (.invokevirtual 32, 3) := dk_182 0 32 (dk_at dksX2_road_0 18 rfl rfl)
theorem dX2_road_21 : decode cX2_road 21 = .ok (.checkcast 36, 3) := dk_192 0 36 (dk_at dksX2_road_0 21 rfl rfl)
theorem dX2_road_24 : decode cX2_road 24 = .ok (.iload_n 1, 1) := dk_27 (dk_at dksX2_road_1 0 rfl rfl)
theorem dX2_road_25 : decode cX2_road 25 = .ok (.iload_n 2, 1) := dk_28 (dk_at dksX2_road_1 1 rfl rfl)
theorem dX2_road_26 : decode cX2_road 26 = .ok (.invokevirtual 38, 3) := dk_182 0 38 (dk_at dksX2_road_1 2 rfl rfl)
theorem dX2_road_29 : decode cX2_road 29 = .ok (.ifCond .eq 5, 3) := dk_153 0 5 (dk_at dksX2_road_1 5 rfl rfl)
theorem dX2_road_32 : decode cX2_road 32 = .ok (.iload_n 3, 1) := dk_29 (dk_at dksX2_road_1 8 rfl rfl)
theorem dX2_road_33 : decode cX2_road 33 = .ok (.ireturn, 1) := dk_172 (dk_at dksX2_road_1 9 rfl rfl)
theorem dX2_road_34 : decode cX2_road 34 = .ok (.iinc 3 1, 3) := dk_132 3 1 (dk_at dksX2_road_1 10 rfl rfl)
theorem dX2_road_37 : decode cX2_road 37 = .ok (.goto (-35), 3) := dk_167 255 221 (dk_at dksX2_road_1 13 rfl rfl)
theorem dX2_road_40 : decode cX2_road 40 = .ok (.iconst (-1), 1) := dk_2 (dk_at dksX2_road_1 16 rfl rfl)
theorem dX2_road_41 : decode cX2_road 41 = .ok (.ireturn, 1) := dk_172 (dk_at dksX2_road_1 17 rfl rfl)
abbrev cX2_isLand : ByteArray := prog_3_method_2_code
def yX2_isLand : MethodName := ⟨RX2, "isLand", "(I)Z"⟩
def dkwX2_isLand_0 : List UInt8 := [27, 3, 42, 180, 0, 12, 182, 0, 24, 4, 100, 184, 0, 28, 172]
abbrev dktX2_isLand_0 : List UInt8 := dkwX2_isLand_0 ++ []
theorem dksX2_isLand_0 : cX2_isLand.data.toList.drop 0 = dktX2_isLand_0 := by decide +kernel
theorem dX2_isLand_0 : decode cX2_isLand 0 = .ok (.iload_n 1, 1) := dk_27 (dk_at dksX2_isLand_0 0 rfl rfl)
theorem dX2_isLand_1 : decode cX2_isLand 1 = .ok (.iconst 0, 1) := dk_3 (dk_at dksX2_isLand_0 1 rfl rfl)
theorem dX2_isLand_2 : decode cX2_isLand 2 = .ok (.aload_n 0, 1) := dk_42 (dk_at dksX2_isLand_0 2 rfl rfl)
theorem dX2_isLand_3 : decode cX2_isLand 3 = .ok (.getfield 12, 3) := dk_180 0 12 (dk_at dksX2_isLand_0 3 rfl rfl)
theorem dX2_isLand_6 : decode cX2_isLand 6 = .ok (.invokevirtual 24, 3) := dk_182 0 24 (dk_at dksX2_isLand_0 6 rfl rfl)
theorem dX2_isLand_9 : decode cX2_isLand 9 = .ok (.iconst 1, 1) := dk_4 (dk_at dksX2_isLand_0 9 rfl rfl)
theorem dX2_isLand_10 : decode cX2_isLand 10 = .ok (.isub, 1) := dk_100 (dk_at dksX2_isLand_0 10 rfl rfl)
theorem dX2_isLand_11 : decode cX2_isLand 11 = .ok (.invokestatic 28, 3) := dk_184 0 28 (dk_at dksX2_isLand_0 11 rfl rfl)
theorem dX2_isLand_14 : decode cX2_isLand 14 = .ok (.ireturn, 1) := dk_172 (dk_at dksX2_isLand_0 14 rfl rfl)
abbrev cX2_isRoad : ByteArray := prog_3_method_3_code
def yX2_isRoad : MethodName := ⟨RX2, "isRoad", "(I)Z"⟩
def dkwX2_isRoad_0 : List UInt8 := [27, 3, 42, 180, 0, 18, 182, 0, 24, 4, 100, 184, 0, 28, 172]
abbrev dktX2_isRoad_0 : List UInt8 := dkwX2_isRoad_0 ++ []
theorem dksX2_isRoad_0 : cX2_isRoad.data.toList.drop 0 = dktX2_isRoad_0 := by decide +kernel
theorem dX2_isRoad_0 : decode cX2_isRoad 0 = .ok (.iload_n 1, 1) := dk_27 (dk_at dksX2_isRoad_0 0 rfl rfl)
theorem dX2_isRoad_1 : decode cX2_isRoad 1 = .ok (.iconst 0, 1) := dk_3 (dk_at dksX2_isRoad_0 1 rfl rfl)
theorem dX2_isRoad_2 : decode cX2_isRoad 2 = .ok (.aload_n 0, 1) := dk_42 (dk_at dksX2_isRoad_0 2 rfl rfl)
theorem dX2_isRoad_3 : decode cX2_isRoad 3 = .ok (.getfield 18, 3) := dk_180 0 18 (dk_at dksX2_isRoad_0 3 rfl rfl)
theorem dX2_isRoad_6 : decode cX2_isRoad 6 = .ok (.invokevirtual 24, 3) := dk_182 0 24 (dk_at dksX2_isRoad_0 6 rfl rfl)
theorem dX2_isRoad_9 : decode cX2_isRoad 9 = .ok (.iconst 1, 1) := dk_4 (dk_at dksX2_isRoad_0 9 rfl rfl)
theorem dX2_isRoad_10 : decode cX2_isRoad 10 = .ok (.isub, 1) := dk_100 (dk_at dksX2_isRoad_0 10 rfl rfl)
theorem dX2_isRoad_11 : decode cX2_isRoad 11 = .ok (.invokestatic 28, 3) := dk_184 0 28 (dk_at dksX2_isRoad_0 11 rfl rfl)
theorem dX2_isRoad_14 : decode cX2_isRoad 14 = .ok (.ireturn, 1) := dk_172 (dk_at dksX2_isRoad_0 14 rfl rfl)
abbrev cX2_isPerson : ByteArray := prog_3_method_4_code
def yX2_isPerson : MethodName := ⟨RX2, "isPerson", "(I)Z"⟩
def dkwX2_isPerson_0 : List UInt8 := [27, 3, 42, 180, 0, 21, 182, 0, 24, 4, 100, 184, 0, 28, 172]
abbrev dktX2_isPerson_0 : List UInt8 := dkwX2_isPerson_0 ++ []
theorem dksX2_isPerson_0 : cX2_isPerson.data.toList.drop 0 = dktX2_isPerson_0 := by decide +kernel
theorem dX2_isPerson_0 : decode cX2_isPerson 0 = .ok (.iload_n 1, 1) := dk_27 (dk_at dksX2_isPerson_0 0 rfl rfl)
theorem dX2_isPerson_1 : decode cX2_isPerson 1 = .ok (.iconst 0, 1) := dk_3 (dk_at dksX2_isPerson_0 1 rfl rfl)
theorem dX2_isPerson_2 : decode cX2_isPerson 2 = .ok (.aload_n 0, 1) := dk_42 (dk_at dksX2_isPerson_0 2 rfl rfl)
theorem dX2_isPerson_3 : decode cX2_isPerson 3 = .ok (.getfield 21, 3) := dk_180 0 21 (dk_at dksX2_isPerson_0 3 rfl rfl)
theorem dX2_isPerson_6 : decode cX2_isPerson 6 = .ok (.invokevirtual 24, 3) := dk_182 0 24 (dk_at dksX2_isPerson_0 6 rfl rfl)
theorem dX2_isPerson_9 : decode cX2_isPerson 9 = .ok (.iconst 1, 1) := dk_4 (dk_at dksX2_isPerson_0 9 rfl rfl)
theorem dX2_isPerson_10 : decode cX2_isPerson 10 = .ok (.isub, 1) := dk_100 (dk_at dksX2_isPerson_0 10 rfl rfl)
theorem dX2_isPerson_11 : decode cX2_isPerson 11 = .ok (.invokestatic 28, 3) := dk_184 0 28 (dk_at dksX2_isPerson_0 11 rfl rfl)
theorem dX2_isPerson_14 : decode cX2_isPerson 14 = .ok (.ireturn, 1) := dk_172 (dk_at dksX2_isPerson_0 14 rfl rfl)
theorem q113 : (Jvm.Cond.initialized "InchBorders$Atlas") ∈ lw_all := lw_g (lw_at lw_m1 2 rfl) rfl
theorem q172 : (Jvm.Cond.instantiable "InchBorders$Atlas" (4 : Nat)) ∈ lw_all := lw_g (lw_at lw_m1 61 rfl) rfl
theorem q174 : (Jvm.Cond.instanceMethod ({ cls := "InchBorders$Atlas", name := "<init>", desc := "()V" } : Jvm.MethodName)) ∈ lw_all := lw_g (lw_at lw_m1 63 rfl) rfl
theorem q175 : (Jvm.Cond.code ({ cls := "InchBorders$Atlas", name := "<init>", desc := "()V" } : Jvm.MethodName) prog_3_method_1_code (1 : Nat) (Option.none : Option Jvm.ClassFile.FieldType)) ∈ lw_all := lw_g (lw_at lw_m1 64 rfl) rfl
theorem q176 : (Jvm.Cond.methodLink "InchBorders$Atlas" (3 : Nat) ({ cls := "java/lang/Object", name := "<init>", desc := "()V" } : Jvm.MethodName)) ∈ lw_all := lw_g (lw_at lw_m1 65 rfl) rfl
theorem q177 : (Jvm.Cond.classLink "InchBorders$Atlas" (9 : Nat) "java/util/ArrayList") ∈ lw_all := lw_g (lw_at lw_m1 66 rfl) rfl
theorem q179 : (Jvm.Cond.methodLink "InchBorders$Atlas" (11 : Nat) ({ cls := "java/util/ArrayList", name := "<init>", desc := "()V" } : Jvm.MethodName)) ∈ lw_all := lw_g (lw_at lw_m1 68 rfl) rfl
theorem q206 : (Jvm.Cond.fieldLink "InchBorders$Atlas" (12 : Nat) "InchBorders$Atlas" "lands" "Ljava/util/ArrayList;") ∈ lw_all := lw_g (lw_at lw_m1 95 rfl) rfl
theorem q212 : (Jvm.Cond.fieldLink "InchBorders$Atlas" (18 : Nat) "InchBorders$Atlas" "roads" "Ljava/util/ArrayList;") ∈ lw_all := lw_g (lw_at lw_m1 101 rfl) rfl
theorem q216 : (Jvm.Cond.fieldLink "InchBorders$Atlas" (21 : Nat) "InchBorders$Atlas" "persons" "Ljava/util/ArrayList;") ∈ lw_all := lw_g (lw_at lw_m1 105 rfl) rfl
theorem q221 : (Jvm.Cond.lays "InchBorders$Atlas" "InchBorders$Atlas" "lines" "I") ∈ lw_all := lw_g (lw_at lw_m1 110 rfl) rfl
theorem q222 : (Jvm.Cond.soleField "InchBorders$Atlas" "lines") ∈ lw_all := lw_g (lw_at lw_m1 111 rfl) rfl
theorem q223 : (Jvm.Cond.laysFinal "InchBorders$Atlas" "InchBorders$Atlas" "lands" "Ljava/util/ArrayList;") ∈ lw_all := lw_g (lw_at lw_m1 112 rfl) rfl
theorem q224 : (Jvm.Cond.soleField "InchBorders$Atlas" "lands") ∈ lw_all := lw_g (lw_at lw_m1 113 rfl) rfl
theorem q225 : (Jvm.Cond.laysFinal "InchBorders$Atlas" "InchBorders$Atlas" "roads" "Ljava/util/ArrayList;") ∈ lw_all := lw_g (lw_at lw_m1 114 rfl) rfl
theorem q226 : (Jvm.Cond.soleField "InchBorders$Atlas" "roads") ∈ lw_all := lw_g (lw_at lw_m1 115 rfl) rfl
theorem q227 : (Jvm.Cond.laysFinal "InchBorders$Atlas" "InchBorders$Atlas" "persons" "Ljava/util/ArrayList;") ∈ lw_all := lw_g (lw_at lw_m1 116 rfl) rfl
theorem q228 : (Jvm.Cond.soleField "InchBorders$Atlas" "persons") ∈ lw_all := lw_g (lw_at lw_m1 117 rfl) rfl
theorem q229 : (Jvm.Cond.superclass "InchBorders$Atlas" "java/lang/Object") ∈ lw_all := lw_g (lw_at lw_m1 118 rfl) rfl
theorem q341 : (Jvm.Cond.instanceMethod ({ cls := "InchBorders$Atlas", name := "home", desc := "(I)I" } : Jvm.MethodName)) ∈ lw_all := lw_g (lw_at lw_m1 230 rfl) rfl
theorem q342 : (Jvm.Cond.selects "InchBorders$Atlas" ({ cls := "InchBorders$Atlas", name := "home", desc := "(I)I" } : Jvm.MethodName) ({ cls := "InchBorders$Atlas", name := "home", desc := "(I)I" } : Jvm.MethodName)) ∈ lw_all := lw_g (lw_at lw_m1 231 rfl) rfl
theorem q343 : (Jvm.Cond.code ({ cls := "InchBorders$Atlas", name := "home", desc := "(I)I" } : Jvm.MethodName) prog_3_method_6_code (2 : Nat) (Option.some Jvm.ClassFile.FieldType.int)) ∈ lw_all := lw_g (lw_at lw_m1 232 rfl) rfl
theorem q344 : (Jvm.Cond.methodLink "InchBorders$Atlas" (32 : Nat) ({ cls := "java/util/ArrayList", name := "get", desc := "(I)Ljava/lang/Object;" } : Jvm.MethodName)) ∈ lw_all := lw_g (lw_at lw_m1 233 rfl) rfl
theorem q345 : (Jvm.Cond.classLink "InchBorders$Atlas" (42 : Nat) "InchBorders$Person") ∈ lw_all := lw_g (lw_at lw_m1 234 rfl) rfl
theorem q989 : (Jvm.Cond.selects "InchBorders$Atlas" ({ cls := "java/lang/Object", name := "getClass", desc := "()Ljava/lang/Class;" } : Jvm.MethodName) ({ cls := "java/lang/Object", name := "getClass", desc := "()Ljava/lang/Class;" } : Jvm.MethodName)) ∈ lw_all := lw_g (lw_at lw_m4 158 rfl) rfl
theorem q1053 : (Jvm.Cond.instanceMethod ({ cls := "InchBorders$Atlas", name := "road", desc := "(II)I" } : Jvm.MethodName)) ∈ lw_all := lw_g (lw_at lw_m4 222 rfl) rfl
theorem q1054 : (Jvm.Cond.selects "InchBorders$Atlas" ({ cls := "InchBorders$Atlas", name := "road", desc := "(II)I" } : Jvm.MethodName) ({ cls := "InchBorders$Atlas", name := "road", desc := "(II)I" } : Jvm.MethodName)) ∈ lw_all := lw_g (lw_at lw_m4 223 rfl) rfl
theorem q1055 : (Jvm.Cond.code ({ cls := "InchBorders$Atlas", name := "road", desc := "(II)I" } : Jvm.MethodName) prog_3_method_5_code (4 : Nat) (Option.some Jvm.ClassFile.FieldType.int)) ∈ lw_all := lw_g (lw_at lw_m4 224 rfl) rfl
theorem q1056 : (Jvm.Cond.methodLink "InchBorders$Atlas" (24 : Nat) ({ cls := "java/util/ArrayList", name := "size", desc := "()I" } : Jvm.MethodName)) ∈ lw_all := lw_g (lw_at lw_m4 225 rfl) rfl
theorem q1057 : (Jvm.Cond.classLink "InchBorders$Atlas" (36 : Nat) "InchBorders$Road") ∈ lw_all := lw_g (lw_at lw_m4 226 rfl) rfl
theorem q1058 : (Jvm.Cond.methodLink "InchBorders$Atlas" (38 : Nat) ({ cls := "InchBorders$Road", name := "is", desc := "(II)Z" } : Jvm.MethodName)) ∈ lw_all := lw_g (lw_at lw_m4 227 rfl) rfl
theorem q1107 : (Jvm.Cond.fieldLinkNest "InchBorders$Atlas" (44 : Nat) "InchBorders$Person" "home" "I" "InchBorders") ∈ lw_tbl := lw_at lw_m5 36 rfl
theorem q1135 : (Jvm.Cond.instanceMethod ({ cls := "InchBorders$Atlas", name := "isLand", desc := "(I)Z" } : Jvm.MethodName)) ∈ lw_all := lw_g (lw_at lw_m5 64 rfl) rfl
theorem q1136 : (Jvm.Cond.selects "InchBorders$Atlas" ({ cls := "InchBorders$Atlas", name := "isLand", desc := "(I)Z" } : Jvm.MethodName) ({ cls := "InchBorders$Atlas", name := "isLand", desc := "(I)Z" } : Jvm.MethodName)) ∈ lw_all := lw_g (lw_at lw_m5 65 rfl) rfl
theorem q1137 : (Jvm.Cond.code ({ cls := "InchBorders$Atlas", name := "isLand", desc := "(I)Z" } : Jvm.MethodName) prog_3_method_2_code (2 : Nat) (Option.some Jvm.ClassFile.FieldType.boolean)) ∈ lw_all := lw_g (lw_at lw_m5 66 rfl) rfl
theorem q1138 : (Jvm.Cond.methodLinkNest "InchBorders$Atlas" (28 : Nat) ({ cls := "InchBorders", name := "isIn", desc := "(III)Z" } : Jvm.MethodName) "InchBorders") ∈ lw_tbl := lw_at lw_m5 67 rfl
theorem q1155 : (Jvm.Cond.instanceMethod ({ cls := "InchBorders$Atlas", name := "isRoad", desc := "(I)Z" } : Jvm.MethodName)) ∈ lw_all := lw_g (lw_at lw_m5 84 rfl) rfl
theorem q1156 : (Jvm.Cond.selects "InchBorders$Atlas" ({ cls := "InchBorders$Atlas", name := "isRoad", desc := "(I)Z" } : Jvm.MethodName) ({ cls := "InchBorders$Atlas", name := "isRoad", desc := "(I)Z" } : Jvm.MethodName)) ∈ lw_all := lw_g (lw_at lw_m5 85 rfl) rfl
theorem q1157 : (Jvm.Cond.code ({ cls := "InchBorders$Atlas", name := "isRoad", desc := "(I)Z" } : Jvm.MethodName) prog_3_method_3_code (2 : Nat) (Option.some Jvm.ClassFile.FieldType.boolean)) ∈ lw_all := lw_g (lw_at lw_m5 86 rfl) rfl
theorem q1213 : (Jvm.Cond.instanceMethod ({ cls := "InchBorders$Atlas", name := "isPerson", desc := "(I)Z" } : Jvm.MethodName)) ∈ lw_all := lw_g (lw_at lw_m5 142 rfl) rfl
theorem q1214 : (Jvm.Cond.selects "InchBorders$Atlas" ({ cls := "InchBorders$Atlas", name := "isPerson", desc := "(I)Z" } : Jvm.MethodName) ({ cls := "InchBorders$Atlas", name := "isPerson", desc := "(I)Z" } : Jvm.MethodName)) ∈ lw_all := lw_g (lw_at lw_m5 143 rfl) rfl
theorem q1215 : (Jvm.Cond.code ({ cls := "InchBorders$Atlas", name := "isPerson", desc := "(I)Z" } : Jvm.MethodName) prog_3_method_4_code (2 : Nat) (Option.some Jvm.ClassFile.FieldType.boolean)) ∈ lw_all := lw_g (lw_at lw_m5 144 rfl) rfl
theorem q2734 : (Jvm.Cond.castable "InchBorders$Atlas" "java/lang/Object") ∈ lw_tbl := lw_at lw_m11 223 rfl
theorem in_X2 : ∀ w ∈ wsX20, w ∈ lw_all := lw_in wsX20 [221, 223, 225, 227] (by decide +kernel) (by decide +kernel)

/-! InchBorders$Goal -/
set_option maxRecDepth 100000
def RX20 : String := "InchBorders$Goal"
def TX20 : u_T := fun k => match k with
  | 0 => ("InchBorders$Walk", "t", "LInchBorders$Times;", true)
  | 1 => ("InchBorders$Walk", "home", "I", true)
  | 2 => ("InchBorders$Walk", "spared", "I", true)
  | 3 => ("InchBorders$Walk", "path", "[I", true)
  | 4 => ("InchBorders$Goal", "land", "I", true)
  | _ => ("InchBorders$Goal", "least", "I", true)
def tyX20 : Nat → FieldType := fun k => match k with
  | 0 => .object "InchBorders$Times"
  | 1 => .int
  | 2 => .int
  | 3 => .array .int
  | 4 => .int
  | _ => .int
abbrev wsX200 : List Cond := u_ws RX20 TX20 6
theorem nmX20 : ∀ a, a < 6 → ∀ b, b < 6 → a ≠ b → (TX20 a).2.1 ≠ (TX20 b).2.1 := by decide +kernel
theorem tyX20_ok : ∀ k, k < 6 → parseFieldDescriptor (TX20 k).2.2.1 = some (tyX20 k) := by decide +kernel
abbrev cX20_init : ByteArray := prog_10_method_1_code
def yX20_init : MethodName := ⟨RX20, "<init>", "(LInchBorders$Times;IIII)V"⟩
def dkwX20_init_0 : List UInt8 := [42, 43, 28, 29, 183, 0, 3, 42, 21, 4, 181, 0, 9, 42, 21, 5, 181, 0, 15, 177]
abbrev dktX20_init_0 : List UInt8 := dkwX20_init_0 ++ []
theorem dksX20_init_0 : cX20_init.data.toList.drop 0 = dktX20_init_0 := by decide +kernel
theorem dX20_init_0 : decode cX20_init 0 = .ok (.aload_n 0, 1) := dk_42 (dk_at dksX20_init_0 0 rfl rfl)
theorem dX20_init_1 : decode cX20_init 1 = .ok (.aload_n 1, 1) := dk_43 (dk_at dksX20_init_0 1 rfl rfl)
theorem dX20_init_2 : decode cX20_init 2 = .ok (.iload_n 2, 1) := dk_28 (dk_at dksX20_init_0 2 rfl rfl)
theorem dX20_init_3 : decode cX20_init 3 = .ok (.iload_n 3, 1) := dk_29 (dk_at dksX20_init_0 3 rfl rfl)
theorem dX20_init_4 : decode cX20_init 4 = .ok (.invokespecial 3, 3) := dk_183 0 3 (dk_at dksX20_init_0 4 rfl rfl)
theorem dX20_init_7 : decode cX20_init 7 = .ok (.aload_n 0, 1) := dk_42 (dk_at dksX20_init_0 7 rfl rfl)
theorem dX20_init_8 : decode cX20_init 8 = .ok (.iload 4, 2) := dk_21 4 (dk_at dksX20_init_0 8 rfl rfl)
theorem dX20_init_10 : decode cX20_init 10 = .ok (.putfield 9, 3) := dk_181 0 9 (dk_at dksX20_init_0 10 rfl rfl)
theorem dX20_init_13 : decode cX20_init 13 = .ok (.aload_n 0, 1) := dk_42 (dk_at dksX20_init_0 13 rfl rfl)
theorem dX20_init_14 : decode cX20_init 14 = .ok (.iload 5, 2) := dk_21 5 (dk_at dksX20_init_0 14 rfl rfl)
theorem dX20_init_16 : decode cX20_init 16 = .ok (.putfield 15, 3) := dk_181 0 15 (dk_at dksX20_init_0 16 rfl rfl)
theorem dX20_init_19 : decode cX20_init 19 = .ok (.return_, 1) := dk_177 (dk_at dksX20_init_0 19 rfl rfl)
abbrev cX20_fewest : ByteArray := prog_10_method_3_code
def yX20_fewest : MethodName := ⟨RX20, "fewest", "(I)I"⟩
def dkwX20_fewest_1 : List UInt8 := [2, 172]
abbrev dktX20_fewest_1 : List UInt8 := dkwX20_fewest_1 ++ []
def dkwX20_fewest_0 : List UInt8 := [3, 61, 28, 8, 163, 0, 20, 42, 27, 28, 182, 0, 18, 153, 0, 5, 28, 172, 132, 2, 1, 167, 255, 237]
abbrev dktX20_fewest_0 : List UInt8 := dkwX20_fewest_0 ++ dktX20_fewest_1
theorem dksX20_fewest_0 : cX20_fewest.data.toList.drop 0 = dktX20_fewest_0 := by decide +kernel
theorem dksX20_fewest_1 : cX20_fewest.data.toList.drop 24 = dktX20_fewest_1 := dk_seg dksX20_fewest_0 24 rfl rfl
theorem dX20_fewest_0 : decode cX20_fewest 0 = .ok (.iconst 0, 1) := dk_3 (dk_at dksX20_fewest_0 0 rfl rfl)
theorem dX20_fewest_1 : decode cX20_fewest 1 = .ok (.istore_n 2, 1) := dk_61 (dk_at dksX20_fewest_0 1 rfl rfl)
theorem dX20_fewest_2 : decode cX20_fewest 2 = .ok (.iload_n 2, 1) := dk_28 (dk_at dksX20_fewest_0 2 rfl rfl)
theorem dX20_fewest_3 : decode cX20_fewest 3 = .ok (.iconst 5, 1) := dk_8 (dk_at dksX20_fewest_0 3 rfl rfl)
theorem dX20_fewest_4 : decode cX20_fewest 4 = .ok (.if_icmp .gt 20, 3) := dk_163 0 20 (dk_at dksX20_fewest_0 4 rfl rfl)
theorem dX20_fewest_7 : decode cX20_fewest 7 = .ok (.aload_n 0, 1) := dk_42 (dk_at dksX20_fewest_0 7 rfl rfl)
theorem dX20_fewest_8 : decode cX20_fewest 8 = .ok (.iload_n 1, 1) := dk_27 (dk_at dksX20_fewest_0 8 rfl rfl)
theorem dX20_fewest_9 : decode cX20_fewest 9 = .ok (.iload_n 2, 1) := dk_28 (dk_at dksX20_fewest_0 9 rfl rfl)
theorem dX20_fewest_10 : decode cX20_fewest 10 = .ok (.invokevirtual 18, 3) := dk_182 0 18 (dk_at dksX20_fewest_0 10 rfl rfl)
theorem dX20_fewest_13 : decode cX20_fewest 13 = .ok (.ifCond .eq 5, 3) := dk_153 0 5 (dk_at dksX20_fewest_0 13 rfl rfl)
theorem dX20_fewest_16 : decode cX20_fewest 16 = .ok (.iload_n 2, 1) := dk_28 (dk_at dksX20_fewest_0 16 rfl rfl)
theorem dX20_fewest_17 : decode cX20_fewest 17 = .ok (.ireturn, 1) := dk_172 (dk_at dksX20_fewest_0 17 rfl rfl)
theorem dX20_fewest_18 : decode cX20_fewest 18 = .ok (.iinc 2 1, 3) := dk_132 2 1 (dk_at dksX20_fewest_0 18 rfl rfl)
theorem dX20_fewest_21 : decode cX20_fewest 21 = .ok (.goto (-19), 3) := dk_167 255 237 (dk_at dksX20_fewest_0 21 rfl rfl)
theorem dX20_fewest_24 : decode cX20_fewest 24 = .ok (.iconst (-1), 1) := dk_2 (dk_at dksX20_fewest_1 0 rfl rfl)
theorem dX20_fewest_25 : decode cX20_fewest 25 = .ok (.ireturn, 1) := dk_172 (dk_at dksX20_fewest_1 1 rfl rfl)
abbrev cX20_ends : ByteArray := prog_10_method_2_code
def yX20_ends : MethodName := ⟨RX20, "ends", "(III)Z"⟩
def dkwX20_ends_0 : List UInt8 := [28, 42, 180, 0, 9, 160, 0, 15, 29, 42, 180, 0, 15, 161, 0, 7, 4, 167, 0, 4, 3, 172]
abbrev dktX20_ends_0 : List UInt8 := dkwX20_ends_0 ++ []
theorem dksX20_ends_0 : cX20_ends.data.toList.drop 0 = dktX20_ends_0 := by decide +kernel
theorem dX20_ends_0 : decode cX20_ends 0 = .ok (.iload_n 2, 1) := dk_28 (dk_at dksX20_ends_0 0 rfl rfl)
theorem dX20_ends_1 : decode cX20_ends 1 = .ok (.aload_n 0, 1) := dk_42 (dk_at dksX20_ends_0 1 rfl rfl)
theorem dX20_ends_2 : decode cX20_ends 2 = .ok (.getfield 9, 3) := dk_180 0 9 (dk_at dksX20_ends_0 2 rfl rfl)
theorem dX20_ends_5 : decode cX20_ends 5 = .ok (.if_icmp .ne 15, 3) := dk_160 0 15 (dk_at dksX20_ends_0 5 rfl rfl)
theorem dX20_ends_8 : decode cX20_ends 8 = .ok (.iload_n 3, 1) := dk_29 (dk_at dksX20_ends_0 8 rfl rfl)
theorem dX20_ends_9 : decode cX20_ends 9 = .ok (.aload_n 0, 1) := dk_42 (dk_at dksX20_ends_0 9 rfl rfl)
theorem dX20_ends_10 : decode cX20_ends 10 = .ok (.getfield 15, 3) := dk_180 0 15 (dk_at dksX20_ends_0 10 rfl rfl)
theorem dX20_ends_13 : decode cX20_ends 13 = .ok (.if_icmp .lt 7, 3) := dk_161 0 7 (dk_at dksX20_ends_0 13 rfl rfl)
theorem dX20_ends_16 : decode cX20_ends 16 = .ok (.iconst 1, 1) := dk_4 (dk_at dksX20_ends_0 16 rfl rfl)
theorem dX20_ends_17 : decode cX20_ends 17 = .ok (.goto 4, 3) := dk_167 0 4 (dk_at dksX20_ends_0 17 rfl rfl)
theorem dX20_ends_20 : decode cX20_ends 20 = .ok (.iconst 0, 1) := dk_3 (dk_at dksX20_ends_0 20 rfl rfl)
theorem dX20_ends_21 : decode cX20_ends 21 = .ok (.ireturn, 1) := dk_172 (dk_at dksX20_ends_0 21 rfl rfl)
theorem q151 : (Jvm.Cond.initialized "InchBorders$Goal") ∈ lw_all := lw_g (lw_at lw_m1 40 rfl) rfl
theorem q995 : (Jvm.Cond.selects "InchBorders$Goal" ({ cls := "java/lang/Object", name := "getClass", desc := "()Ljava/lang/Class;" } : Jvm.MethodName) ({ cls := "java/lang/Object", name := "getClass", desc := "()Ljava/lang/Class;" } : Jvm.MethodName)) ∈ lw_all := lw_g (lw_at lw_m4 164 rfl) rfl
theorem q1403 : (Jvm.Cond.instantiable "InchBorders$Goal" (6 : Nat)) ∈ lw_all := lw_g (lw_at lw_m6 92 rfl) rfl
theorem q1405 : (Jvm.Cond.instanceMethod ({ cls := "InchBorders$Goal", name := "<init>", desc := "(LInchBorders$Times;IIII)V" } : Jvm.MethodName)) ∈ lw_all := lw_g (lw_at lw_m6 94 rfl) rfl
theorem q1406 : (Jvm.Cond.code ({ cls := "InchBorders$Goal", name := "<init>", desc := "(LInchBorders$Times;IIII)V" } : Jvm.MethodName) prog_10_method_1_code (6 : Nat) (Option.none : Option Jvm.ClassFile.FieldType)) ∈ lw_all := lw_g (lw_at lw_m6 95 rfl) rfl
theorem q1407 : (Jvm.Cond.methodLink "InchBorders$Goal" (3 : Nat) ({ cls := "InchBorders$Walk", name := "<init>", desc := "(LInchBorders$Times;II)V" } : Jvm.MethodName)) ∈ lw_all := lw_g (lw_at lw_m6 96 rfl) rfl
theorem q1412 : (Jvm.Cond.fieldLink "InchBorders$Goal" (9 : Nat) "InchBorders$Goal" "land" "I") ∈ lw_all := lw_g (lw_at lw_m6 101 rfl) rfl
theorem q1413 : (Jvm.Cond.fieldLink "InchBorders$Goal" (15 : Nat) "InchBorders$Goal" "least" "I") ∈ lw_all := lw_g (lw_at lw_m6 102 rfl) rfl
theorem q1421 : (Jvm.Cond.sameField "InchBorders$Goal" "InchBorders$Walk" "path" "[I") ∈ lw_all := lw_g (lw_at lw_m6 110 rfl) rfl
theorem q1422 : (Jvm.Cond.laysFinal "InchBorders$Goal" "InchBorders$Goal" "land" "I") ∈ lw_all := lw_g (lw_at lw_m6 111 rfl) rfl
theorem q1423 : (Jvm.Cond.soleField "InchBorders$Goal" "land") ∈ lw_all := lw_g (lw_at lw_m6 112 rfl) rfl
theorem q1424 : (Jvm.Cond.laysFinal "InchBorders$Goal" "InchBorders$Goal" "least" "I") ∈ lw_all := lw_g (lw_at lw_m6 113 rfl) rfl
theorem q1425 : (Jvm.Cond.soleField "InchBorders$Goal" "least") ∈ lw_all := lw_g (lw_at lw_m6 114 rfl) rfl
theorem q1426 : (Jvm.Cond.laysFinal "InchBorders$Goal" "InchBorders$Walk" "t" "LInchBorders$Times;") ∈ lw_all := lw_g (lw_at lw_m6 115 rfl) rfl
theorem q1428 : (Jvm.Cond.laysFinal "InchBorders$Goal" "InchBorders$Walk" "home" "I") ∈ lw_all := lw_g (lw_at lw_m6 117 rfl) rfl
theorem q1430 : (Jvm.Cond.laysFinal "InchBorders$Goal" "InchBorders$Walk" "spared" "I") ∈ lw_all := lw_g (lw_at lw_m6 119 rfl) rfl
theorem q1432 : (Jvm.Cond.laysFinal "InchBorders$Goal" "InchBorders$Walk" "path" "[I") ∈ lw_all := lw_g (lw_at lw_m6 121 rfl) rfl
theorem q1434 : (Jvm.Cond.superclass "InchBorders$Goal" "InchBorders$Walk") ∈ lw_all := lw_g (lw_at lw_m6 123 rfl) rfl
theorem q1436 : (Jvm.Cond.instanceMethod ({ cls := "InchBorders$Goal", name := "fewest", desc := "(I)I" } : Jvm.MethodName)) ∈ lw_all := lw_g (lw_at lw_m6 125 rfl) rfl
theorem q1437 : (Jvm.Cond.selects "InchBorders$Goal" ({ cls := "InchBorders$Goal", name := "fewest", desc := "(I)I" } : Jvm.MethodName) ({ cls := "InchBorders$Goal", name := "fewest", desc := "(I)I" } : Jvm.MethodName)) ∈ lw_all := lw_g (lw_at lw_m6 126 rfl) rfl
theorem q1438 : (Jvm.Cond.code ({ cls := "InchBorders$Goal", name := "fewest", desc := "(I)I" } : Jvm.MethodName) prog_10_method_3_code (3 : Nat) (Option.some Jvm.ClassFile.FieldType.int)) ∈ lw_all := lw_g (lw_at lw_m6 127 rfl) rfl
theorem q1439 : (Jvm.Cond.methodLink "InchBorders$Goal" (18 : Nat) ({ cls := "InchBorders$Goal", name := "starts", desc := "(II)Z" } : Jvm.MethodName)) ∈ lw_all := lw_g (lw_at lw_m6 128 rfl) rfl
theorem q1440 : (Jvm.Cond.sameMethod "InchBorders$Goal" "InchBorders$Walk" "starts" "(II)Z") ∈ lw_all := lw_g (lw_at lw_m6 129 rfl) rfl
theorem q1442 : (Jvm.Cond.selects "InchBorders$Goal" ({ cls := "InchBorders$Goal", name := "starts", desc := "(II)Z" } : Jvm.MethodName) ({ cls := "InchBorders$Walk", name := "starts", desc := "(II)Z" } : Jvm.MethodName)) ∈ lw_all := lw_g (lw_at lw_m6 131 rfl) rfl
theorem q1449 : (Jvm.Cond.selects "InchBorders$Goal" ({ cls := "InchBorders$Walk", name := "goes", desc := "(IIIII)Z" } : Jvm.MethodName) ({ cls := "InchBorders$Walk", name := "goes", desc := "(IIIII)Z" } : Jvm.MethodName)) ∈ lw_all := lw_g (lw_at lw_m6 138 rfl) rfl
theorem q1459 : (Jvm.Cond.selects "InchBorders$Goal" ({ cls := "InchBorders$Walk", name := "ends", desc := "(III)Z" } : Jvm.MethodName) ({ cls := "InchBorders$Goal", name := "ends", desc := "(III)Z" } : Jvm.MethodName)) ∈ lw_all := lw_g (lw_at lw_m6 148 rfl) rfl
theorem q1460 : (Jvm.Cond.instanceMethod ({ cls := "InchBorders$Goal", name := "ends", desc := "(III)Z" } : Jvm.MethodName)) ∈ lw_all := lw_g (lw_at lw_m6 149 rfl) rfl
theorem q1461 : (Jvm.Cond.code ({ cls := "InchBorders$Goal", name := "ends", desc := "(III)Z" } : Jvm.MethodName) prog_10_method_2_code (4 : Nat) (Option.some Jvm.ClassFile.FieldType.boolean)) ∈ lw_all := lw_g (lw_at lw_m6 150 rfl) rfl
theorem q2749 : (Jvm.Cond.castable "InchBorders$Goal" "java/lang/Object") ∈ lw_tbl := lw_at lw_m11 238 rfl
theorem in_X20 : ∀ w ∈ wsX200, w ∈ lw_all := lw_in wsX200 [1426, 1428, 1430, 1432, 1422, 1424] (by decide +kernel) (by decide +kernel)

/-! InchBorders$Back -/
set_option maxRecDepth 100000
def RX21 : String := "InchBorders$Back"
def TX21 : u_T := fun k => match k with
  | 0 => ("InchBorders$Walk", "t", "LInchBorders$Times;", true)
  | 1 => ("InchBorders$Walk", "home", "I", true)
  | 2 => ("InchBorders$Walk", "spared", "I", true)
  | 3 => ("InchBorders$Walk", "path", "[I", true)
  | 4 => ("InchBorders$Back", "from", "I", true)
  | _ => ("InchBorders$Back", "most", "I", false)
def tyX21 : Nat → FieldType := fun k => match k with
  | 0 => .object "InchBorders$Times"
  | 1 => .int
  | 2 => .int
  | 3 => .array .int
  | 4 => .int
  | _ => .int
abbrev wsX210 : List Cond := u_ws RX21 TX21 6
theorem nmX21 : ∀ a, a < 6 → ∀ b, b < 6 → a ≠ b → (TX21 a).2.1 ≠ (TX21 b).2.1 := by decide +kernel
theorem tyX21_ok : ∀ k, k < 6 → parseFieldDescriptor (TX21 k).2.2.1 = some (tyX21 k) := by decide +kernel
abbrev cX21_ends : ByteArray := prog_4_method_2_code
def yX21_ends : MethodName := ⟨RX21, "ends", "(III)Z"⟩
def dkwX21_ends_0 : List UInt8 := [28, 42, 180, 0, 21, 160, 0, 15, 42, 42, 180, 0, 9, 29, 184, 0, 24, 181, 0, 9, 3, 172]
abbrev dktX21_ends_0 : List UInt8 := dkwX21_ends_0 ++ []
theorem dksX21_ends_0 : cX21_ends.data.toList.drop 0 = dktX21_ends_0 := by decide +kernel
theorem dX21_ends_0 : decode cX21_ends 0 = .ok (.iload_n 2, 1) := dk_28 (dk_at dksX21_ends_0 0 rfl rfl)
theorem dX21_ends_1 : decode cX21_ends 1 = .ok (.aload_n 0, 1) := dk_42 (dk_at dksX21_ends_0 1 rfl rfl)
theorem dX21_ends_2 : decode cX21_ends 2 = .ok (.getfield 21, 3) := dk_180 0 21 (dk_at dksX21_ends_0 2 rfl rfl)
theorem dX21_ends_5 : decode cX21_ends 5 = .ok (.if_icmp .ne 15, 3) := dk_160 0 15 (dk_at dksX21_ends_0 5 rfl rfl)
theorem dX21_ends_8 : decode cX21_ends 8 = .ok (.aload_n 0, 1) := dk_42 (dk_at dksX21_ends_0 8 rfl rfl)
theorem dX21_ends_9 : decode cX21_ends 9 = .ok (.aload_n 0, 1) := dk_42 (dk_at dksX21_ends_0 9 rfl rfl)
theorem dX21_ends_10 : decode cX21_ends 10 = .ok (.getfield 9, 3) := dk_180 0 9 (dk_at dksX21_ends_0 10 rfl rfl)
theorem dX21_ends_13 : decode cX21_ends 13 = .ok (.iload_n 3, 1) := dk_29 (dk_at dksX21_ends_0 13 rfl rfl)
theorem dX21_ends_14 : decode cX21_ends 14 = .ok (.invokestatic 24, 3) := dk_184 0 24 (dk_at dksX21_ends_0 14 rfl rfl)
theorem dX21_ends_17 : decode cX21_ends 17 = .ok (.putfield 9, 3) := dk_181 0 9 (dk_at dksX21_ends_0 17 rfl rfl)
theorem dX21_ends_20 : decode cX21_ends 20 = .ok (.iconst 0, 1) := dk_3 (dk_at dksX21_ends_0 20 rfl rfl)
theorem dX21_ends_21 : decode cX21_ends 21 = .ok (.ireturn, 1) := dk_172 (dk_at dksX21_ends_0 21 rfl rfl)
abbrev cX21_init : ByteArray := prog_4_method_1_code
def yX21_init : MethodName := ⟨RX21, "<init>", "(LInchBorders$Times;I)V"⟩
def dkwX21_init_0 : List UInt8 := [42, 43, 28, 3, 183, 0, 3, 42, 2, 181, 0, 9, 42, 43, 180, 0, 15, 28, 46, 181, 0, 21, 177]
abbrev dktX21_init_0 : List UInt8 := dkwX21_init_0 ++ []
theorem dksX21_init_0 : cX21_init.data.toList.drop 0 = dktX21_init_0 := by decide +kernel
theorem dX21_init_0 : decode cX21_init 0 = .ok (.aload_n 0, 1) := dk_42 (dk_at dksX21_init_0 0 rfl rfl)
theorem dX21_init_1 : decode cX21_init 1 = .ok (.aload_n 1, 1) := dk_43 (dk_at dksX21_init_0 1 rfl rfl)
theorem dX21_init_2 : decode cX21_init 2 = .ok (.iload_n 2, 1) := dk_28 (dk_at dksX21_init_0 2 rfl rfl)
theorem dX21_init_3 : decode cX21_init 3 = .ok (.iconst 0, 1) := dk_3 (dk_at dksX21_init_0 3 rfl rfl)
theorem dX21_init_4 : decode cX21_init 4 = .ok (.invokespecial 3, 3) := dk_183 0 3 (dk_at dksX21_init_0 4 rfl rfl)
theorem dX21_init_7 : decode cX21_init 7 = .ok (.aload_n 0, 1) := dk_42 (dk_at dksX21_init_0 7 rfl rfl)
theorem dX21_init_8 : decode cX21_init 8 = .ok (.iconst (-1), 1) := dk_2 (dk_at dksX21_init_0 8 rfl rfl)
theorem dX21_init_9 : decode cX21_init 9 = .ok (.putfield 9, 3) := dk_181 0 9 (dk_at dksX21_init_0 9 rfl rfl)
theorem dX21_init_12 : decode cX21_init 12 = .ok (.aload_n 0, 1) := dk_42 (dk_at dksX21_init_0 12 rfl rfl)
theorem dX21_init_13 : decode cX21_init 13 = .ok (.aload_n 1, 1) := dk_43 (dk_at dksX21_init_0 13 rfl rfl)
theorem dX21_init_14 : decode cX21_init 14 = .ok (.getfield 15, 3) := dk_180 0 15 (dk_at dksX21_init_0 14 rfl rfl)
theorem dX21_init_17 : decode cX21_init 17 = .ok (.iload_n 2, 1) := dk_28 (dk_at dksX21_init_0 17 rfl rfl)
theorem dX21_init_18 : decode cX21_init 18 = .ok (.iaload, 1) := dk_46 (dk_at dksX21_init_0 18 rfl rfl)
theorem dX21_init_19 : decode cX21_init 19 = .ok (.putfield 21, 3) := dk_181 0 21 (dk_at dksX21_init_0 19 rfl rfl)
theorem dX21_init_22 : decode cX21_init 22 = .ok (.return_, 1) := dk_177 (dk_at dksX21_init_0 22 rfl rfl)
theorem q152 : (Jvm.Cond.initialized "InchBorders$Back") ∈ lw_all := lw_g (lw_at lw_m1 41 rfl) rfl
theorem q258 : (Jvm.Cond.fieldLinkNest "InchBorders$Back" (15 : Nat) "InchBorders$Times" "at" "[I" "InchBorders") ∈ lw_tbl := lw_at lw_m1 147 rfl
theorem q990 : (Jvm.Cond.selects "InchBorders$Back" ({ cls := "java/lang/Object", name := "getClass", desc := "()Ljava/lang/Class;" } : Jvm.MethodName) ({ cls := "java/lang/Object", name := "getClass", desc := "()Ljava/lang/Class;" } : Jvm.MethodName)) ∈ lw_all := lw_g (lw_at lw_m4 159 rfl) rfl
theorem q1448 : (Jvm.Cond.selects "InchBorders$Back" ({ cls := "InchBorders$Walk", name := "goes", desc := "(IIIII)Z" } : Jvm.MethodName) ({ cls := "InchBorders$Walk", name := "goes", desc := "(IIIII)Z" } : Jvm.MethodName)) ∈ lw_all := lw_g (lw_at lw_m6 137 rfl) rfl
theorem q1455 : (Jvm.Cond.selects "InchBorders$Back" ({ cls := "InchBorders$Walk", name := "ends", desc := "(III)Z" } : Jvm.MethodName) ({ cls := "InchBorders$Back", name := "ends", desc := "(III)Z" } : Jvm.MethodName)) ∈ lw_all := lw_g (lw_at lw_m6 144 rfl) rfl
theorem q1456 : (Jvm.Cond.instanceMethod ({ cls := "InchBorders$Back", name := "ends", desc := "(III)Z" } : Jvm.MethodName)) ∈ lw_all := lw_g (lw_at lw_m6 145 rfl) rfl
theorem q1457 : (Jvm.Cond.code ({ cls := "InchBorders$Back", name := "ends", desc := "(III)Z" } : Jvm.MethodName) prog_4_method_2_code (4 : Nat) (Option.some Jvm.ClassFile.FieldType.boolean)) ∈ lw_all := lw_g (lw_at lw_m6 146 rfl) rfl
theorem q1458 : (Jvm.Cond.methodLink "InchBorders$Back" (24 : Nat) ({ cls := "java/lang/Math", name := "max", desc := "(II)I" } : Jvm.MethodName)) ∈ lw_all := lw_g (lw_at lw_m6 147 rfl) rfl
theorem q1481 : (Jvm.Cond.instantiable "InchBorders$Back" (6 : Nat)) ∈ lw_all := lw_g (lw_at lw_m6 170 rfl) rfl
theorem q1483 : (Jvm.Cond.instanceMethod ({ cls := "InchBorders$Back", name := "<init>", desc := "(LInchBorders$Times;I)V" } : Jvm.MethodName)) ∈ lw_all := lw_g (lw_at lw_m6 172 rfl) rfl
theorem q1484 : (Jvm.Cond.code ({ cls := "InchBorders$Back", name := "<init>", desc := "(LInchBorders$Times;I)V" } : Jvm.MethodName) prog_4_method_1_code (3 : Nat) (Option.none : Option Jvm.ClassFile.FieldType)) ∈ lw_all := lw_g (lw_at lw_m6 173 rfl) rfl
theorem q1485 : (Jvm.Cond.methodLink "InchBorders$Back" (3 : Nat) ({ cls := "InchBorders$Walk", name := "<init>", desc := "(LInchBorders$Times;II)V" } : Jvm.MethodName)) ∈ lw_all := lw_g (lw_at lw_m6 174 rfl) rfl
theorem q1486 : (Jvm.Cond.fieldLink "InchBorders$Back" (21 : Nat) "InchBorders$Back" "from" "I") ∈ lw_all := lw_g (lw_at lw_m6 175 rfl) rfl
theorem q1487 : (Jvm.Cond.fieldLink "InchBorders$Back" (9 : Nat) "InchBorders$Back" "most" "I") ∈ lw_all := lw_g (lw_at lw_m6 176 rfl) rfl
theorem q1489 : (Jvm.Cond.laysFinal "InchBorders$Back" "InchBorders$Back" "from" "I") ∈ lw_all := lw_g (lw_at lw_m6 178 rfl) rfl
theorem q1490 : (Jvm.Cond.soleField "InchBorders$Back" "from") ∈ lw_all := lw_g (lw_at lw_m6 179 rfl) rfl
theorem q1491 : (Jvm.Cond.lays "InchBorders$Back" "InchBorders$Back" "most" "I") ∈ lw_all := lw_g (lw_at lw_m6 180 rfl) rfl
theorem q1492 : (Jvm.Cond.soleField "InchBorders$Back" "most") ∈ lw_all := lw_g (lw_at lw_m6 181 rfl) rfl
theorem q1493 : (Jvm.Cond.laysFinal "InchBorders$Back" "InchBorders$Walk" "t" "LInchBorders$Times;") ∈ lw_all := lw_g (lw_at lw_m6 182 rfl) rfl
theorem q1494 : (Jvm.Cond.laysFinal "InchBorders$Back" "InchBorders$Walk" "home" "I") ∈ lw_all := lw_g (lw_at lw_m6 183 rfl) rfl
theorem q1495 : (Jvm.Cond.laysFinal "InchBorders$Back" "InchBorders$Walk" "spared" "I") ∈ lw_all := lw_g (lw_at lw_m6 184 rfl) rfl
theorem q1496 : (Jvm.Cond.laysFinal "InchBorders$Back" "InchBorders$Walk" "path" "[I") ∈ lw_all := lw_g (lw_at lw_m6 185 rfl) rfl
theorem q1497 : (Jvm.Cond.superclass "InchBorders$Back" "InchBorders$Walk") ∈ lw_all := lw_g (lw_at lw_m6 186 rfl) rfl
theorem q1499 : (Jvm.Cond.sameMethod "InchBorders$Back" "InchBorders$Walk" "starts" "(II)Z") ∈ lw_all := lw_g (lw_at lw_m6 188 rfl) rfl
theorem q1500 : (Jvm.Cond.selects "InchBorders$Back" ({ cls := "InchBorders$Back", name := "starts", desc := "(II)Z" } : Jvm.MethodName) ({ cls := "InchBorders$Walk", name := "starts", desc := "(II)Z" } : Jvm.MethodName)) ∈ lw_all := lw_g (lw_at lw_m6 189 rfl) rfl
theorem q2750 : (Jvm.Cond.castable "InchBorders$Back" "java/lang/Object") ∈ lw_tbl := lw_at lw_m11 239 rfl
theorem in_X21 : ∀ w ∈ wsX210, w ∈ lw_all := lw_in wsX210 [1493, 1494, 1495, 1496, 1489, 1491] (by decide +kernel) (by decide +kernel)
