/-! InchBorders -/
set_option maxRecDepth 100000
def RX1 : String := "InchBorders"
def TX1 : u_T := fun k => match k with
  | 0 => ("InchBorders", "tape", "[B", true)
  | 1 => ("InchBorders", "taped", "I", false)
  | 2 => ("InchBorders", "fault", "I", false)
  | 3 => ("InchBorders", "atlas", "LInchBorders$Atlas;", false)
  | 4 => ("InchBorders", "now", "LInchBorders$Times;", true)
  | 5 => ("InchBorders", "trial", "LInchBorders$Times;", true)
  | 6 => ("InchBorders", "sentence", "LInchBorders$Cond;", false)
  | 7 => ("InchBorders", "before", "[LInchBorders$Times;", true)
  | 8 => ("InchBorders", "befores", "I", false)
  | 9 => ("InchBorders", "way", "[I", true)
  | 10 => ("InchBorders", "made", "[I", true)
  | 11 => ("InchBorders", "ways", "I", false)
  | 12 => ("InchBorders", "mades", "I", false)
  | 13 => ("InchBorders", "spared", "I", false)
  | 14 => ("InchBorders", "likely", "I", false)
  | 15 => ("InchBorders", "going", "[I", true)
  | 16 => ("InchBorders", "caravan", "[I", true)
  | 17 => ("InchBorders", "goers", "I", false)
  | 18 => ("InchBorders", "caravans", "I", false)
  | 19 => ("InchBorders", "longest", "I", false)
  | 20 => ("InchBorders", "parting", "I", false)
  | 21 => ("InchBorders", "pass", "Ljava/lang/String;", false)
  | 22 => ("InchBorders", "told", "[I", true)
  | _ => ("InchBorders", "kept", "[LInchBorders$Kept;", true)
def tyX1 : Nat → FieldType := fun k => match k with
  | 0 => .array .byte
  | 1 => .int
  | 2 => .int
  | 3 => .object "InchBorders$Atlas"
  | 4 => .object "InchBorders$Times"
  | 5 => .object "InchBorders$Times"
  | 6 => .object "InchBorders$Cond"
  | 7 => .array (.object "InchBorders$Times")
  | 8 => .int
  | 9 => .array .int
  | 10 => .array .int
  | 11 => .int
  | 12 => .int
  | 13 => .int
  | 14 => .int
  | 15 => .array .int
  | 16 => .array .int
  | 17 => .int
  | 18 => .int
  | 19 => .int
  | 20 => .int
  | 21 => .object "java/lang/String"
  | 22 => .array .int
  | _ => .array (.object "InchBorders$Kept")
abbrev wsX10 : List Cond := u_ws RX1 TX1 24
set_option maxRecDepth 100000 in
theorem nmX1 : ∀ a, a < 24 → ∀ b, b < 24 → a ≠ b → (TX1 a).2.1 ≠ (TX1 b).2.1 := by decide +kernel
set_option maxRecDepth 100000 in
theorem tyX1_ok : ∀ k, k < 24 → parseFieldDescriptor (TX1 k).2.2.1 = some (tyX1 k) := by decide +kernel
abbrev cX1_init : ByteArray := prog_1_method_5_code
def yX1_init : MethodName := ⟨RX1, "<init>", "()V"⟩
def dkwX1_init_8 : List UInt8 := [183, 0, 31, 83, 132, 1, 1, 167, 255, 234, 177]
abbrev dktX1_init_8 : List UInt8 := dkwX1_init_8 ++ []
def dkwX1_init_7 : List UInt8 := [183, 0, 81, 83, 181, 0, 82, 3, 60, 27, 16, 8, 162, 0, 22, 42, 180, 0, 43, 27, 187, 0, 29, 89]
abbrev dktX1_init_7 : List UInt8 := dkwX1_init_7 ++ dktX1_init_8
def dkwX1_init_6 : List UInt8 := [181, 0, 76, 42, 5, 189, 0, 79, 89, 3, 187, 0, 79, 89, 183, 0, 81, 83, 89, 4, 187, 0, 79, 89]
abbrev dktX1_init_6 : List UInt8 := dkwX1_init_6 ++ dktX1_init_7
def dkwX1_init_5 : List UInt8 := [181, 0, 72, 42, 7, 188, 10, 89, 3, 2, 79, 89, 4, 2, 79, 89, 5, 2, 79, 89, 6, 2, 79]
abbrev dktX1_init_5 : List UInt8 := dkwX1_init_5 ++ dktX1_init_6
def dkwX1_init_4 : List UInt8 := [16, 6, 188, 10, 181, 0, 61, 42, 16, 6, 188, 10, 181, 0, 64, 42, 2, 181, 0, 67, 42, 18, 70]
abbrev dktX1_init_4 : List UInt8 := dkwX1_init_4 ++ dktX1_init_5
def dkwX1_init_3 : List UInt8 := [188, 10, 181, 0, 47, 42, 8, 188, 10, 181, 0, 51, 42, 2, 181, 0, 54, 42, 2, 181, 0, 58, 42]
abbrev dktX1_init_3 : List UInt8 := dkwX1_init_3 ++ dktX1_init_4
def dkwX1_init_2 : List UInt8 := [183, 0, 31, 42, 180, 0, 25, 182, 0, 32, 181, 0, 40, 42, 16, 8, 189, 0, 29, 181, 0, 43, 42, 8]
abbrev dktX1_init_2 : List UInt8 := dkwX1_init_2 ++ dktX1_init_3
def dkwX1_init_1 : List UInt8 := [42, 187, 0, 29, 89, 183, 0, 31, 42, 180, 0, 25, 182, 0, 32, 181, 0, 36, 42, 187, 0, 29, 89]
abbrev dktX1_init_1 : List UInt8 := dkwX1_init_1 ++ dktX1_init_2
def dkwX1_init_0 : List UInt8 := [42, 183, 0, 13, 42, 17, 3, 172, 188, 8, 181, 0, 18, 42, 187, 0, 22, 89, 183, 0, 24, 181, 0, 25]
abbrev dktX1_init_0 : List UInt8 := dkwX1_init_0 ++ dktX1_init_1
theorem dksX1_init_0 : cX1_init.data.toList.drop 0 = dktX1_init_0 := by decide +kernel
theorem dksX1_init_1 : cX1_init.data.toList.drop 24 = dktX1_init_1 := dk_seg dksX1_init_0 24 rfl rfl
theorem dksX1_init_2 : cX1_init.data.toList.drop 47 = dktX1_init_2 := dk_seg dksX1_init_1 23 rfl rfl
theorem dksX1_init_3 : cX1_init.data.toList.drop 71 = dktX1_init_3 := dk_seg dksX1_init_2 24 rfl rfl
theorem dksX1_init_4 : cX1_init.data.toList.drop 94 = dktX1_init_4 := dk_seg dksX1_init_3 23 rfl rfl
theorem dksX1_init_5 : cX1_init.data.toList.drop 117 = dktX1_init_5 := dk_seg dksX1_init_4 23 rfl rfl
theorem dksX1_init_6 : cX1_init.data.toList.drop 140 = dktX1_init_6 := dk_seg dksX1_init_5 23 rfl rfl
theorem dksX1_init_7 : cX1_init.data.toList.drop 164 = dktX1_init_7 := dk_seg dksX1_init_6 24 rfl rfl
theorem dksX1_init_8 : cX1_init.data.toList.drop 188 = dktX1_init_8 := dk_seg dksX1_init_7 24 rfl rfl
theorem dX1_init_0 : decode cX1_init 0 = .ok (.aload_n 0, 1) := dk_42 (dk_at dksX1_init_0 0 rfl rfl)
theorem dX1_init_1 : decode cX1_init 1 = .ok (.invokespecial 13, 3) := dk_183 0 13 (dk_at dksX1_init_0 1 rfl rfl)
theorem dX1_init_4 : decode cX1_init 4 = .ok (.aload_n 0, 1) := dk_42 (dk_at dksX1_init_0 4 rfl rfl)
theorem dX1_init_5 : decode cX1_init 5 = .ok (.sipush 940, 3) := dk_17 3 172 (dk_at dksX1_init_0 5 rfl rfl)
theorem dX1_init_8 : decode cX1_init 8 = .ok (.newarray .byte, 2) := dk_188_8 (dk_at dksX1_init_0 8 rfl rfl)
theorem dX1_init_10 : decode cX1_init 10 = .ok (.putfield 18, 3) := dk_181 0 18 (dk_at dksX1_init_0 10 rfl rfl)
theorem dX1_init_13 : decode cX1_init 13 = .ok (.aload_n 0, 1) := dk_42 (dk_at dksX1_init_0 13 rfl rfl)
theorem dX1_init_14 : decode cX1_init 14 = .ok (.new 22, 3) := dk_187 0 22 (dk_at dksX1_init_0 14 rfl rfl)
theorem dX1_init_17 : decode cX1_init 17 = .ok (.dup, 1) := dk_89 (dk_at dksX1_init_0 17 rfl rfl)
theorem dX1_init_18 : decode cX1_init 18 = .ok (.invokespecial 24, 3) := dk_183 0 24 (dk_at dksX1_init_0 18 rfl rfl)
theorem dX1_init_21 : decode cX1_init 21 = .ok (.putfield 25, 3) := dk_181 0 25 (dk_at dksX1_init_0 21 rfl rfl)
theorem dX1_init_24 : decode cX1_init 24 = .ok (.aload_n 0, 1) := dk_42 (dk_at dksX1_init_1 0 rfl rfl)
theorem dX1_init_25 : decode cX1_init 25 = .ok (.new 29, 3) := dk_187 0 29 (dk_at dksX1_init_1 1 rfl rfl)
theorem dX1_init_28 : decode cX1_init 28 = .ok (.dup, 1) := dk_89 (dk_at dksX1_init_1 4 rfl rfl)
theorem dX1_init_29 : decode cX1_init 29 = .ok (.invokespecial 31, 3) := dk_183 0 31 (dk_at dksX1_init_1 5 rfl rfl)
theorem dX1_init_32 : decode cX1_init 32 = .ok (.aload_n 0, 1) := dk_42 (dk_at dksX1_init_1 8 rfl rfl)
theorem dX1_init_33 : decode cX1_init 33 = .ok (.getfield 25, 3) := dk_180 0 25 (dk_at dksX1_init_1 9 rfl rfl)
theorem dX1_init_36 : decode cX1_init 36 = .ok (.invokevirtual 32, 3) := dk_182 0 32 (dk_at dksX1_init_1 12 rfl rfl)
theorem dX1_init_39 : decode cX1_init 39 = .ok (.putfield 36, 3) := dk_181 0 36 (dk_at dksX1_init_1 15 rfl rfl)
theorem dX1_init_42 : decode cX1_init 42 = .ok (.aload_n 0, 1) := dk_42 (dk_at dksX1_init_1 18 rfl rfl)
theorem dX1_init_43 : decode cX1_init 43 = .ok (.new 29, 3) := dk_187 0 29 (dk_at dksX1_init_1 19 rfl rfl)
theorem dX1_init_46 : decode cX1_init 46 = .ok (.dup, 1) := dk_89 (dk_at dksX1_init_1 22 rfl rfl)
theorem dX1_init_47 : decode cX1_init 47 = .ok (.invokespecial 31, 3) := dk_183 0 31 (dk_at dksX1_init_2 0 rfl rfl)
theorem dX1_init_50 : decode cX1_init 50 = .ok (.aload_n 0, 1) := dk_42 (dk_at dksX1_init_2 3 rfl rfl)
theorem dX1_init_51 : decode cX1_init 51 = .ok (.getfield 25, 3) := dk_180 0 25 (dk_at dksX1_init_2 4 rfl rfl)
theorem dX1_init_54 : decode cX1_init 54 = .ok (.invokevirtual 32, 3) := dk_182 0 32 (dk_at dksX1_init_2 7 rfl rfl)
theorem dX1_init_57 : decode cX1_init 57 = .ok (.putfield 40, 3) := dk_181 0 40 (dk_at dksX1_init_2 10 rfl rfl)
theorem dX1_init_60 : decode cX1_init 60 = .ok (.aload_n 0, 1) := dk_42 (dk_at dksX1_init_2 13 rfl rfl)
theorem dX1_init_61 : decode cX1_init 61 = .ok (.bipush 8, 2) := dk_16 8 (dk_at dksX1_init_2 14 rfl rfl)
theorem dX1_init_63 : decode cX1_init 63 = .ok (.anewarray 29, 3) := dk_189 0 29 (dk_at dksX1_init_2 16 rfl rfl)
theorem dX1_init_66 : decode cX1_init 66 = .ok (.putfield 43, 3) := dk_181 0 43 (dk_at dksX1_init_2 19 rfl rfl)
theorem dX1_init_69 : decode cX1_init 69 = .ok (.aload_n 0, 1) := dk_42 (dk_at dksX1_init_2 22 rfl rfl)
theorem dX1_init_70 : decode cX1_init 70 = .ok (.iconst 5, 1) := dk_8 (dk_at dksX1_init_2 23 rfl rfl)
theorem dX1_init_71 : decode cX1_init 71 = .ok (.newarray .int, 2) := dk_188_10 (dk_at dksX1_init_3 0 rfl rfl)
theorem dX1_init_73 : decode cX1_init 73 = .ok (.putfield 47, 3) := dk_181 0 47 (dk_at dksX1_init_3 2 rfl rfl)
theorem dX1_init_76 : decode cX1_init 76 = .ok (.aload_n 0, 1) := dk_42 (dk_at dksX1_init_3 5 rfl rfl)
theorem dX1_init_77 : decode cX1_init 77 = .ok (.iconst 5, 1) := dk_8 (dk_at dksX1_init_3 6 rfl rfl)
theorem dX1_init_78 : decode cX1_init 78 = .ok (.newarray .int, 2) := dk_188_10 (dk_at dksX1_init_3 7 rfl rfl)
theorem dX1_init_80 : decode cX1_init 80 = .ok (.putfield 51, 3) := dk_181 0 51 (dk_at dksX1_init_3 9 rfl rfl)
theorem dX1_init_83 : decode cX1_init 83 = .ok (.aload_n 0, 1) := dk_42 (dk_at dksX1_init_3 12 rfl rfl)
theorem dX1_init_84 : decode cX1_init 84 = .ok (.iconst (-1), 1) := dk_2 (dk_at dksX1_init_3 13 rfl rfl)
theorem dX1_init_85 : decode cX1_init 85 = .ok (.putfield 54, 3) := dk_181 0 54 (dk_at dksX1_init_3 14 rfl rfl)
theorem dX1_init_88 : decode cX1_init 88 = .ok (.aload_n 0, 1) := dk_42 (dk_at dksX1_init_3 17 rfl rfl)
theorem dX1_init_89 : decode cX1_init 89 = .ok (.iconst (-1), 1) := dk_2 (dk_at dksX1_init_3 18 rfl rfl)
theorem dX1_init_90 : decode cX1_init 90 = .ok (.putfield 58, 3) := dk_181 0 58 (dk_at dksX1_init_3 19 rfl rfl)
theorem dX1_init_93 : decode cX1_init 93 = .ok (.aload_n 0, 1) := dk_42 (dk_at dksX1_init_3 22 rfl rfl)
theorem dX1_init_94 : decode cX1_init 94 = .ok (.bipush 6, 2) := dk_16 6 (dk_at dksX1_init_4 0 rfl rfl)
theorem dX1_init_96 : decode cX1_init 96 = .ok (.newarray .int, 2) := dk_188_10 (dk_at dksX1_init_4 2 rfl rfl)
theorem dX1_init_98 : decode cX1_init 98 = .ok (.putfield 61, 3) := dk_181 0 61 (dk_at dksX1_init_4 4 rfl rfl)
theorem dX1_init_101 : decode cX1_init 101 = .ok (.aload_n 0, 1) := dk_42 (dk_at dksX1_init_4 7 rfl rfl)
theorem dX1_init_102 : decode cX1_init 102 = .ok (.bipush 6, 2) := dk_16 6 (dk_at dksX1_init_4 8 rfl rfl)
theorem dX1_init_104 : decode cX1_init 104 = .ok (.newarray .int, 2) := dk_188_10 (dk_at dksX1_init_4 10 rfl rfl)
theorem dX1_init_106 : decode cX1_init 106 = .ok (.putfield 64, 3) := dk_181 0 64 (dk_at dksX1_init_4 12 rfl rfl)
theorem dX1_init_109 : decode cX1_init 109 = .ok (.aload_n 0, 1) := dk_42 (dk_at dksX1_init_4 15 rfl rfl)
theorem dX1_init_110 : decode cX1_init 110 = .ok (.iconst (-1), 1) := dk_2 (dk_at dksX1_init_4 16 rfl rfl)
theorem dX1_init_111 : decode cX1_init 111 = .ok (.putfield 67, 3) := dk_181 0 67 (dk_at dksX1_init_4 17 rfl rfl)
theorem dX1_init_114 : decode cX1_init 114 = .ok (.aload_n 0, 1) := dk_42 (dk_at dksX1_init_4 20 rfl rfl)
theorem dX1_init_115 : decode cX1_init 115 = .ok (.ldc 70, 2) := dk_18 70 (dk_at dksX1_init_4 21 rfl rfl)
theorem dX1_init_117 : decode cX1_init 117 = .ok (.putfield 72, 3) := dk_181 0 72 (dk_at dksX1_init_5 0 rfl rfl)
theorem dX1_init_120 : decode cX1_init 120 = .ok (.aload_n 0, 1) := dk_42 (dk_at dksX1_init_5 3 rfl rfl)
theorem dX1_init_121 : decode cX1_init 121 = .ok (.iconst 4, 1) := dk_7 (dk_at dksX1_init_5 4 rfl rfl)
theorem dX1_init_122 : decode cX1_init 122 = .ok (.newarray .int, 2) := dk_188_10 (dk_at dksX1_init_5 5 rfl rfl)
theorem dX1_init_124 : decode cX1_init 124 = .ok (.dup, 1) := dk_89 (dk_at dksX1_init_5 7 rfl rfl)
theorem dX1_init_125 : decode cX1_init 125 = .ok (.iconst 0, 1) := dk_3 (dk_at dksX1_init_5 8 rfl rfl)
theorem dX1_init_126 : decode cX1_init 126 = .ok (.iconst (-1), 1) := dk_2 (dk_at dksX1_init_5 9 rfl rfl)
theorem dX1_init_127 : decode cX1_init 127 = .ok (.iastore, 1) := dk_79 (dk_at dksX1_init_5 10 rfl rfl)
theorem dX1_init_128 : decode cX1_init 128 = .ok (.dup, 1) := dk_89 (dk_at dksX1_init_5 11 rfl rfl)
theorem dX1_init_129 : decode cX1_init 129 = .ok (.iconst 1, 1) := dk_4 (dk_at dksX1_init_5 12 rfl rfl)
theorem dX1_init_130 : decode cX1_init 130 = .ok (.iconst (-1), 1) := dk_2 (dk_at dksX1_init_5 13 rfl rfl)
theorem dX1_init_131 : decode cX1_init 131 = .ok (.iastore, 1) := dk_79 (dk_at dksX1_init_5 14 rfl rfl)
theorem dX1_init_132 : decode cX1_init 132 = .ok (.dup, 1) := dk_89 (dk_at dksX1_init_5 15 rfl rfl)
theorem dX1_init_133 : decode cX1_init 133 = .ok (.iconst 2, 1) := dk_5 (dk_at dksX1_init_5 16 rfl rfl)
theorem dX1_init_134 : decode cX1_init 134 = .ok (.iconst (-1), 1) := dk_2 (dk_at dksX1_init_5 17 rfl rfl)
theorem dX1_init_135 : decode cX1_init 135 = .ok (.iastore, 1) := dk_79 (dk_at dksX1_init_5 18 rfl rfl)
theorem dX1_init_136 : decode cX1_init 136 = .ok (.dup, 1) := dk_89 (dk_at dksX1_init_5 19 rfl rfl)
theorem dX1_init_137 : decode cX1_init 137 = .ok (.iconst 3, 1) := dk_6 (dk_at dksX1_init_5 20 rfl rfl)
theorem dX1_init_138 : decode cX1_init 138 = .ok (.iconst (-1), 1) := dk_2 (dk_at dksX1_init_5 21 rfl rfl)
theorem dX1_init_139 : decode cX1_init 139 = .ok (.iastore, 1) := dk_79 (dk_at dksX1_init_5 22 rfl rfl)
theorem dX1_init_140 : decode cX1_init 140 = .ok (.putfield 76, 3) := dk_181 0 76 (dk_at dksX1_init_6 0 rfl rfl)
theorem dX1_init_143 : decode cX1_init 143 = .ok (.aload_n 0, 1) := dk_42 (dk_at dksX1_init_6 3 rfl rfl)
theorem dX1_init_144 : decode cX1_init 144 = .ok (.iconst 2, 1) := dk_5 (dk_at dksX1_init_6 4 rfl rfl)
theorem dX1_init_145 : decode cX1_init 145 = .ok (.anewarray 79, 3) := dk_189 0 79 (dk_at dksX1_init_6 5 rfl rfl)
theorem dX1_init_148 : decode cX1_init 148 = .ok (.dup, 1) := dk_89 (dk_at dksX1_init_6 8 rfl rfl)
theorem dX1_init_149 : decode cX1_init 149 = .ok (.iconst 0, 1) := dk_3 (dk_at dksX1_init_6 9 rfl rfl)
theorem dX1_init_150 : decode cX1_init 150 = .ok (.new 79, 3) := dk_187 0 79 (dk_at dksX1_init_6 10 rfl rfl)
theorem dX1_init_153 : decode cX1_init 153 = .ok (.dup, 1) := dk_89 (dk_at dksX1_init_6 13 rfl rfl)
theorem dX1_init_154 : decode cX1_init 154 = .ok (.invokespecial 81, 3) := dk_183 0 81 (dk_at dksX1_init_6 14 rfl rfl)
theorem dX1_init_157 : decode cX1_init 157 = .ok (.aastore, 1) := dk_83 (dk_at dksX1_init_6 17 rfl rfl)
theorem dX1_init_158 : decode cX1_init 158 = .ok (.dup, 1) := dk_89 (dk_at dksX1_init_6 18 rfl rfl)
theorem dX1_init_159 : decode cX1_init 159 = .ok (.iconst 1, 1) := dk_4 (dk_at dksX1_init_6 19 rfl rfl)
theorem dX1_init_160 : decode cX1_init 160 = .ok (.new 79, 3) := dk_187 0 79 (dk_at dksX1_init_6 20 rfl rfl)
theorem dX1_init_163 : decode cX1_init 163 = .ok (.dup, 1) := dk_89 (dk_at dksX1_init_6 23 rfl rfl)
theorem dX1_init_164 : decode cX1_init 164 = .ok (.invokespecial 81, 3) := dk_183 0 81 (dk_at dksX1_init_7 0 rfl rfl)
theorem dX1_init_167 : decode cX1_init 167 = .ok (.aastore, 1) := dk_83 (dk_at dksX1_init_7 3 rfl rfl)
theorem dX1_init_168 : decode cX1_init 168 = .ok (.putfield 82, 3) := dk_181 0 82 (dk_at dksX1_init_7 4 rfl rfl)
theorem dX1_init_171 : decode cX1_init 171 = .ok (.iconst 0, 1) := dk_3 (dk_at dksX1_init_7 7 rfl rfl)
theorem dX1_init_172 : decode cX1_init 172 = .ok (.istore_n 1, 1) := dk_60 (dk_at dksX1_init_7 8 rfl rfl)
theorem dX1_init_173 : decode cX1_init 173 = .ok (.iload_n 1, 1) := dk_27 (dk_at dksX1_init_7 9 rfl rfl)
theorem dX1_init_174 : decode cX1_init 174 = .ok (.bipush 8, 2) := dk_16 8 (dk_at dksX1_init_7 10 rfl rfl)
theorem dX1_init_176 : decode cX1_init 176 = .ok (.if_icmp .ge 22, 3) := dk_162 0 22 (dk_at dksX1_init_7 12 rfl rfl)
theorem dX1_init_179 : decode cX1_init 179 = .ok (.aload_n 0, 1) := dk_42 (dk_at dksX1_init_7 15 rfl rfl)
theorem dX1_init_180 : decode cX1_init 180 = .ok (.getfield 43, 3) := dk_180 0 43 (dk_at dksX1_init_7 16 rfl rfl)
theorem dX1_init_183 : decode cX1_init 183 = .ok (.iload_n 1, 1) := dk_27 (dk_at dksX1_init_7 19 rfl rfl)
theorem dX1_init_184 : decode cX1_init 184 = .ok (.new 29, 3) := dk_187 0 29 (dk_at dksX1_init_7 20 rfl rfl)
theorem dX1_init_187 : decode cX1_init 187 = .ok (.dup, 1) := dk_89 (dk_at dksX1_init_7 23 rfl rfl)
theorem dX1_init_188 : decode cX1_init 188 = .ok (.invokespecial 31, 3) := dk_183 0 31 (dk_at dksX1_init_8 0 rfl rfl)
theorem dX1_init_191 : decode cX1_init 191 = .ok (.aastore, 1) := dk_83 (dk_at dksX1_init_8 3 rfl rfl)
theorem dX1_init_192 : decode cX1_init 192 = .ok (.iinc 1 1, 3) := dk_132 1 1 (dk_at dksX1_init_8 4 rfl rfl)
theorem dX1_init_195 : decode cX1_init 195 = .ok (.goto (-22), 3) := dk_167 255 234 (dk_at dksX1_init_8 7 rfl rfl)
theorem dX1_init_198 : decode cX1_init 198 = .ok (.return_, 1) := dk_177 (dk_at dksX1_init_8 10 rfl rfl)
abbrev cX1_feed : ByteArray := prog_1_method_7_code
def yX1_feed : MethodName := ⟨RX1, "feed", "(IIIII)I"⟩
def dkwX1_feed_2 : List UInt8 := [172]
abbrev dktX1_feed_2 : List UInt8 := dkwX1_feed_2 ++ []
def dkwX1_feed_1 : List UInt8 := [182, 0, 89, 42, 29, 182, 0, 89, 42, 21, 4, 182, 0, 89, 42, 21, 5, 182, 0, 89, 42, 180, 0, 86]
abbrev dktX1_feed_1 : List UInt8 := dkwX1_feed_1 ++ dktX1_feed_2
def dkwX1_feed_0 : List UInt8 := [42, 180, 0, 86, 16, 20, 96, 17, 3, 172, 164, 0, 5, 2, 172, 42, 27, 182, 0, 89, 42, 28]
abbrev dktX1_feed_0 : List UInt8 := dkwX1_feed_0 ++ dktX1_feed_1
theorem dksX1_feed_0 : cX1_feed.data.toList.drop 0 = dktX1_feed_0 := by decide +kernel
theorem dksX1_feed_1 : cX1_feed.data.toList.drop 22 = dktX1_feed_1 := dk_seg dksX1_feed_0 22 rfl rfl
theorem dksX1_feed_2 : cX1_feed.data.toList.drop 46 = dktX1_feed_2 := dk_seg dksX1_feed_1 24 rfl rfl
theorem dX1_feed_0 : decode cX1_feed 0 = .ok (.aload_n 0, 1) := dk_42 (dk_at dksX1_feed_0 0 rfl rfl)
theorem dX1_feed_1 : decode cX1_feed 1 = .ok (.getfield 86, 3) := dk_180 0 86 (dk_at dksX1_feed_0 1 rfl rfl)
theorem dX1_feed_4 : decode cX1_feed 4 = .ok (.bipush 20, 2) := dk_16 20 (dk_at dksX1_feed_0 4 rfl rfl)
theorem dX1_feed_6 : decode cX1_feed 6 = .ok (.iadd, 1) := dk_96 (dk_at dksX1_feed_0 6 rfl rfl)
theorem dX1_feed_7 : decode cX1_feed 7 = .ok (.sipush 940, 3) := dk_17 3 172 (dk_at dksX1_feed_0 7 rfl rfl)
theorem dX1_feed_10 : decode cX1_feed 10 = .ok (.if_icmp .le 5, 3) := dk_164 0 5 (dk_at dksX1_feed_0 10 rfl rfl)
theorem dX1_feed_13 : decode cX1_feed 13 = .ok (.iconst (-1), 1) := dk_2 (dk_at dksX1_feed_0 13 rfl rfl)
theorem dX1_feed_14 : decode cX1_feed 14 = .ok (.ireturn, 1) := dk_172 (dk_at dksX1_feed_0 14 rfl rfl)
theorem dX1_feed_15 : decode cX1_feed 15 = .ok (.aload_n 0, 1) := dk_42 (dk_at dksX1_feed_0 15 rfl rfl)
theorem dX1_feed_16 : decode cX1_feed 16 = .ok (.iload_n 1, 1) := dk_27 (dk_at dksX1_feed_0 16 rfl rfl)
theorem dX1_feed_17 : decode cX1_feed 17 = .ok (.invokevirtual 89, 3) := dk_182 0 89 (dk_at dksX1_feed_0 17 rfl rfl)
theorem dX1_feed_20 : decode cX1_feed 20 = .ok (.aload_n 0, 1) := dk_42 (dk_at dksX1_feed_0 20 rfl rfl)
theorem dX1_feed_21 : decode cX1_feed 21 = .ok (.iload_n 2, 1) := dk_28 (dk_at dksX1_feed_0 21 rfl rfl)
theorem dX1_feed_22 : decode cX1_feed 22 = .ok (.invokevirtual 89, 3) := dk_182 0 89 (dk_at dksX1_feed_1 0 rfl rfl)
theorem dX1_feed_25 : decode cX1_feed 25 = .ok (.aload_n 0, 1) := dk_42 (dk_at dksX1_feed_1 3 rfl rfl)
theorem dX1_feed_26 : decode cX1_feed 26 = .ok (.iload_n 3, 1) := dk_29 (dk_at dksX1_feed_1 4 rfl rfl)
theorem dX1_feed_27 : decode cX1_feed 27 = .ok (.invokevirtual 89, 3) := dk_182 0 89 (dk_at dksX1_feed_1 5 rfl rfl)
theorem dX1_feed_30 : decode cX1_feed 30 = .ok (.aload_n 0, 1) := dk_42 (dk_at dksX1_feed_1 8 rfl rfl)
theorem dX1_feed_31 : decode cX1_feed 31 = .ok (.iload 4, 2) := dk_21 4 (dk_at dksX1_feed_1 9 rfl rfl)
theorem dX1_feed_33 : decode cX1_feed 33 = .ok (.invokevirtual 89, 3) := dk_182 0 89 (dk_at dksX1_feed_1 11 rfl rfl)
theorem dX1_feed_36 : decode cX1_feed 36 = .ok (.aload_n 0, 1) := dk_42 (dk_at dksX1_feed_1 14 rfl rfl)
theorem dX1_feed_37 : decode cX1_feed 37 = .ok (.iload 5, 2) := dk_21 5 (dk_at dksX1_feed_1 15 rfl rfl)
theorem dX1_feed_39 : decode cX1_feed 39 = .ok (.invokevirtual 89, 3) := dk_182 0 89 (dk_at dksX1_feed_1 17 rfl rfl)
theorem dX1_feed_42 : decode cX1_feed 42 = .ok (.aload_n 0, 1) := dk_42 (dk_at dksX1_feed_1 20 rfl rfl)
theorem dX1_feed_43 : decode cX1_feed 43 = .ok (.getfield 86, 3) := dk_180 0 86 (dk_at dksX1_feed_1 21 rfl rfl)
theorem dX1_feed_46 : decode cX1_feed 46 = .ok (.ireturn, 1) := dk_172 (dk_at dksX1_feed_2 0 rfl rfl)
abbrev cX1_come : ByteArray := prog_1_method_6_code
def yX1_come : MethodName := ⟨RX1, "come", "(I)V"⟩
def dkwX1_come_1 : List UInt8 := [180, 0, 86, 4, 96, 181, 0, 86, 132, 2, 248, 167, 255, 226, 177]
abbrev dktX1_come_1 : List UInt8 := dkwX1_come_1 ++ []
def dkwX1_come_0 : List UInt8 := [16, 24, 61, 28, 155, 0, 32, 42, 180, 0, 18, 42, 180, 0, 86, 27, 28, 122, 145, 84, 42, 89]
abbrev dktX1_come_0 : List UInt8 := dkwX1_come_0 ++ dktX1_come_1
theorem dksX1_come_0 : cX1_come.data.toList.drop 0 = dktX1_come_0 := by decide +kernel
theorem dksX1_come_1 : cX1_come.data.toList.drop 22 = dktX1_come_1 := dk_seg dksX1_come_0 22 rfl rfl
theorem dX1_come_0 : decode cX1_come 0 = .ok (.bipush 24, 2) := dk_16 24 (dk_at dksX1_come_0 0 rfl rfl)
theorem dX1_come_2 : decode cX1_come 2 = .ok (.istore_n 2, 1) := dk_61 (dk_at dksX1_come_0 2 rfl rfl)
theorem dX1_come_3 : decode cX1_come 3 = .ok (.iload_n 2, 1) := dk_28 (dk_at dksX1_come_0 3 rfl rfl)
theorem dX1_come_4 : decode cX1_come 4 = .ok (.ifCond .lt 32, 3) := dk_155 0 32 (dk_at dksX1_come_0 4 rfl rfl)
theorem dX1_come_7 : decode cX1_come 7 = .ok (.aload_n 0, 1) := dk_42 (dk_at dksX1_come_0 7 rfl rfl)
theorem dX1_come_8 : decode cX1_come 8 = .ok (.getfield 18, 3) := dk_180 0 18 (dk_at dksX1_come_0 8 rfl rfl)
theorem dX1_come_11 : decode cX1_come 11 = .ok (.aload_n 0, 1) := dk_42 (dk_at dksX1_come_0 11 rfl rfl)
theorem dX1_come_12 : decode cX1_come 12 = .ok (.getfield 86, 3) := dk_180 0 86 (dk_at dksX1_come_0 12 rfl rfl)
theorem dX1_come_15 : decode cX1_come 15 = .ok (.iload_n 1, 1) := dk_27 (dk_at dksX1_come_0 15 rfl rfl)
theorem dX1_come_16 : decode cX1_come 16 = .ok (.iload_n 2, 1) := dk_28 (dk_at dksX1_come_0 16 rfl rfl)
theorem dX1_come_17 : decode cX1_come 17 = .ok (.ishr, 1) := dk_122 (dk_at dksX1_come_0 17 rfl rfl)
theorem dX1_come_18 : decode cX1_come 18 = .ok (.i2b, 1) := dk_145 (dk_at dksX1_come_0 18 rfl rfl)
theorem dX1_come_19 : decode cX1_come 19 = .ok (.bastore, 1) := dk_84 (dk_at dksX1_come_0 19 rfl rfl)
theorem dX1_come_20 : decode cX1_come 20 = .ok (.aload_n 0, 1) := dk_42 (dk_at dksX1_come_0 20 rfl rfl)
theorem dX1_come_21 : decode cX1_come 21 = .ok (.dup, 1) := dk_89 (dk_at dksX1_come_0 21 rfl rfl)
theorem dX1_come_22 : decode cX1_come 22 = .ok (.getfield 86, 3) := dk_180 0 86 (dk_at dksX1_come_1 0 rfl rfl)
theorem dX1_come_25 : decode cX1_come 25 = .ok (.iconst 1, 1) := dk_4 (dk_at dksX1_come_1 3 rfl rfl)
theorem dX1_come_26 : decode cX1_come 26 = .ok (.iadd, 1) := dk_96 (dk_at dksX1_come_1 4 rfl rfl)
theorem dX1_come_27 : decode cX1_come 27 = .ok (.putfield 86, 3) := dk_181 0 86 (dk_at dksX1_come_1 5 rfl rfl)
theorem dX1_come_30 : decode cX1_come 30 = .ok (.iinc 2 (-8), 3) := dk_132 2 248 (dk_at dksX1_come_1 8 rfl rfl)
theorem dX1_come_33 : decode cX1_come 33 = .ok (.goto (-30), 3) := dk_167 255 226 (dk_at dksX1_come_1 11 rfl rfl)
theorem dX1_come_36 : decode cX1_come 36 = .ok (.return_, 1) := dk_177 (dk_at dksX1_come_1 14 rfl rfl)
abbrev cX1_end : ByteArray := prog_1_method_8_code
def yX1_end : MethodName := ⟨RX1, "end", "(I)Z"⟩
def dkwX1_end_0 : List UInt8 := [27, 155, 0, 11, 27, 42, 180, 0, 86, 164, 0, 5, 3, 172, 42, 27, 181, 0, 86, 4, 172]
abbrev dktX1_end_0 : List UInt8 := dkwX1_end_0 ++ []
theorem dksX1_end_0 : cX1_end.data.toList.drop 0 = dktX1_end_0 := by decide +kernel
theorem dX1_end_0 : decode cX1_end 0 = .ok (.iload_n 1, 1) := dk_27 (dk_at dksX1_end_0 0 rfl rfl)
theorem dX1_end_1 : decode cX1_end 1 = .ok (.ifCond .lt 11, 3) := dk_155 0 11 (dk_at dksX1_end_0 1 rfl rfl)
theorem dX1_end_4 : decode cX1_end 4 = .ok (.iload_n 1, 1) := dk_27 (dk_at dksX1_end_0 4 rfl rfl)
theorem dX1_end_5 : decode cX1_end 5 = .ok (.aload_n 0, 1) := dk_42 (dk_at dksX1_end_0 5 rfl rfl)
theorem dX1_end_6 : decode cX1_end 6 = .ok (.getfield 86, 3) := dk_180 0 86 (dk_at dksX1_end_0 6 rfl rfl)
theorem dX1_end_9 : decode cX1_end 9 = .ok (.if_icmp .le 5, 3) := dk_164 0 5 (dk_at dksX1_end_0 9 rfl rfl)
theorem dX1_end_12 : decode cX1_end 12 = .ok (.iconst 0, 1) := dk_3 (dk_at dksX1_end_0 12 rfl rfl)
theorem dX1_end_13 : decode cX1_end 13 = .ok (.ireturn, 1) := dk_172 (dk_at dksX1_end_0 13 rfl rfl)
theorem dX1_end_14 : decode cX1_end 14 = .ok (.aload_n 0, 1) := dk_42 (dk_at dksX1_end_0 14 rfl rfl)
theorem dX1_end_15 : decode cX1_end 15 = .ok (.iload_n 1, 1) := dk_27 (dk_at dksX1_end_0 15 rfl rfl)
theorem dX1_end_16 : decode cX1_end 16 = .ok (.putfield 86, 3) := dk_181 0 86 (dk_at dksX1_end_0 16 rfl rfl)
theorem dX1_end_19 : decode cX1_end 19 = .ok (.iconst 1, 1) := dk_4 (dk_at dksX1_end_0 19 rfl rfl)
theorem dX1_end_20 : decode cX1_end 20 = .ok (.ireturn, 1) := dk_172 (dk_at dksX1_end_0 20 rfl rfl)
abbrev cX1_map : ByteArray := prog_1_method_11_code
def yX1_map : MethodName := ⟨RX1, "map", "()I"⟩
def dkwX1_map_3 : List UInt8 := [180, 0, 124, 100, 172]
abbrev dktX1_map_3 : List UInt8 := dkwX1_map_3 ++ []
def dkwX1_map_2 : List UInt8 := [3, 181, 0, 113, 42, 180, 0, 25, 180, 0, 116, 172, 77, 42, 44, 180, 0, 121, 181, 0, 97, 2, 44]
abbrev dktX1_map_2 : List UInt8 := dkwX1_map_2 ++ dktX1_map_3
def dkwX1_map_1 : List UInt8 := [182, 0, 105, 181, 0, 25, 42, 180, 0, 36, 42, 180, 0, 25, 182, 0, 32, 87, 42, 1, 181, 0, 109, 42]
abbrev dktX1_map_1 : List UInt8 := dkwX1_map_1 ++ dktX1_map_2
def dkwX1_map_0 : List UInt8 := [42, 182, 0, 93, 60, 42, 3, 181, 0, 97, 42, 187, 0, 100, 89, 42, 180, 0, 18, 27, 183, 0, 102]
abbrev dktX1_map_0 : List UInt8 := dkwX1_map_0 ++ dktX1_map_1
theorem dksX1_map_0 : cX1_map.data.toList.drop 0 = dktX1_map_0 := by decide +kernel
theorem dksX1_map_1 : cX1_map.data.toList.drop 23 = dktX1_map_1 := dk_seg dksX1_map_0 23 rfl rfl
theorem dksX1_map_2 : cX1_map.data.toList.drop 47 = dktX1_map_2 := dk_seg dksX1_map_1 24 rfl rfl
theorem dksX1_map_3 : cX1_map.data.toList.drop 70 = dktX1_map_3 := dk_seg dksX1_map_2 23 rfl rfl
theorem dX1_map_0 : decode cX1_map 0 = .ok (.aload_n 0, 1) := dk_42 (dk_at dksX1_map_0 0 rfl rfl)
theorem dX1_map_1 : decode cX1_map 1 = .ok (.invokevirtual 93, 3) := dk_182 0 93 (dk_at dksX1_map_0 1 rfl rfl)
theorem dX1_map_4 : decode cX1_map 4 = .ok (.istore_n 1, 1) := dk_60 (dk_at dksX1_map_0 4 rfl rfl)
theorem dX1_map_5 : decode cX1_map 5 = .ok (.aload_n 0, 1) := dk_42 (dk_at dksX1_map_0 5 rfl rfl)
theorem dX1_map_6 : decode cX1_map 6 = .ok (.iconst 0, 1) := dk_3 (dk_at dksX1_map_0 6 rfl rfl)
theorem dX1_map_7 : decode cX1_map 7 = .ok (.putfield 97, 3) := dk_181 0 97 (dk_at dksX1_map_0 7 rfl rfl)
theorem dX1_map_10 : decode cX1_map 10 = .ok (.aload_n 0, 1) := dk_42 (dk_at dksX1_map_0 10 rfl rfl)
theorem dX1_map_11 : decode cX1_map 11 = .ok (.new 100, 3) := dk_187 0 100 (dk_at dksX1_map_0 11 rfl rfl)
theorem dX1_map_14 : decode cX1_map 14 = .ok (.dup, 1) := dk_89 (dk_at dksX1_map_0 14 rfl rfl)
theorem dX1_map_15 : decode cX1_map 15 = .ok (.aload_n 0, 1) := dk_42 (dk_at dksX1_map_0 15 rfl rfl)
theorem dX1_map_16 : decode cX1_map 16 = .ok (.getfield 18, 3) := dk_180 0 18 (dk_at dksX1_map_0 16 rfl rfl)
theorem dX1_map_19 : decode cX1_map 19 = .ok (.iload_n 1, 1) := dk_27 (dk_at dksX1_map_0 19 rfl rfl)
theorem dX1_map_20 : decode cX1_map 20 = .ok (.invokespecial 102, 3) := dk_183 0 102 (dk_at dksX1_map_0 20 rfl rfl)
theorem dX1_map_23 : decode cX1_map 23 = .ok (.invokevirtual 105, 3) := dk_182 0 105 (dk_at dksX1_map_1 0 rfl rfl)
theorem dX1_map_26 : decode cX1_map 26 = .ok (.putfield 25, 3) := dk_181 0 25 (dk_at dksX1_map_1 3 rfl rfl)
theorem dX1_map_29 : decode cX1_map 29 = .ok (.aload_n 0, 1) := dk_42 (dk_at dksX1_map_1 6 rfl rfl)
theorem dX1_map_30 : decode cX1_map 30 = .ok (.getfield 36, 3) := dk_180 0 36 (dk_at dksX1_map_1 7 rfl rfl)
theorem dX1_map_33 : decode cX1_map 33 = .ok (.aload_n 0, 1) := dk_42 (dk_at dksX1_map_1 10 rfl rfl)
theorem dX1_map_34 : decode cX1_map 34 = .ok (.getfield 25, 3) := dk_180 0 25 (dk_at dksX1_map_1 11 rfl rfl)
theorem dX1_map_37 : decode cX1_map 37 = .ok (.invokevirtual 32, 3) := dk_182 0 32 (dk_at dksX1_map_1 14 rfl rfl)
theorem dX1_map_40 : decode cX1_map 40 = .ok (.pop, 1) := dk_87 (dk_at dksX1_map_1 17 rfl rfl)
theorem dX1_map_41 : decode cX1_map 41 = .ok (.aload_n 0, 1) := dk_42 (dk_at dksX1_map_1 18 rfl rfl)
theorem dX1_map_42 : decode cX1_map 42 = .ok (.aconst_null, 1) := dk_1 (dk_at dksX1_map_1 19 rfl rfl)
theorem dX1_map_43 : decode cX1_map 43 = .ok (.putfield 109, 3) := dk_181 0 109 (dk_at dksX1_map_1 20 rfl rfl)
theorem dX1_map_46 : decode cX1_map 46 = .ok (.aload_n 0, 1) := dk_42 (dk_at dksX1_map_1 23 rfl rfl)
theorem dX1_map_47 : decode cX1_map 47 = .ok (.iconst 0, 1) := dk_3 (dk_at dksX1_map_2 0 rfl rfl)
theorem dX1_map_48 : decode cX1_map 48 = .ok (.putfield 113, 3) := dk_181 0 113 (dk_at dksX1_map_2 1 rfl rfl)
theorem dX1_map_51 : decode cX1_map 51 = .ok (.aload_n 0, 1) := dk_42 (dk_at dksX1_map_2 4 rfl rfl)
theorem dX1_map_52 : decode cX1_map 52 = .ok (.getfield 25, 3) := dk_180 0 25 (dk_at dksX1_map_2 5 rfl rfl)
theorem dX1_map_55 : decode cX1_map 55 = .ok (.getfield 116, 3) := dk_180 0 116 (dk_at dksX1_map_2 8 rfl rfl)
theorem dX1_map_58 : decode cX1_map 58 = .ok (.ireturn, 1) := dk_172 (dk_at dksX1_map_2 11 rfl rfl)
theorem dX1_map_59 : decode cX1_map 59 = .ok (.astore_n 2, 1) := dk_77 (dk_at dksX1_map_2 12 rfl rfl)
theorem dX1_map_60 : decode cX1_map 60 = .ok (.aload_n 0, 1) := dk_42 (dk_at dksX1_map_2 13 rfl rfl)
theorem dX1_map_61 : decode cX1_map 61 = .ok (.aload_n 2, 1) := dk_44 (dk_at dksX1_map_2 14 rfl rfl)
theorem dX1_map_62 : decode cX1_map 62 = .ok (.getfield 121, 3) := dk_180 0 121 (dk_at dksX1_map_2 15 rfl rfl)
theorem dX1_map_65 : decode cX1_map 65 = .ok (.putfield 97, 3) := dk_181 0 97 (dk_at dksX1_map_2 18 rfl rfl)
theorem dX1_map_68 : decode cX1_map 68 = .ok (.iconst (-1), 1) := dk_2 (dk_at dksX1_map_2 21 rfl rfl)
theorem dX1_map_69 : decode cX1_map 69 = .ok (.aload_n 2, 1) := dk_44 (dk_at dksX1_map_2 22 rfl rfl)
theorem dX1_map_70 : decode cX1_map 70 = .ok (.getfield 124, 3) := dk_180 0 124 (dk_at dksX1_map_3 0 rfl rfl)
theorem dX1_map_73 : decode cX1_map 73 = .ok (.isub, 1) := dk_100 (dk_at dksX1_map_3 3 rfl rfl)
theorem dX1_map_74 : decode cX1_map 74 = .ok (.ireturn, 1) := dk_172 (dk_at dksX1_map_3 4 rfl rfl)
abbrev cX1_take : ByteArray := prog_1_method_9_code
def yX1_take : MethodName := ⟨RX1, "take", "()I"⟩
def dkwX1_take_0 : List UInt8 := [42, 180, 0, 86, 60, 42, 3, 181, 0, 86, 27, 172]
abbrev dktX1_take_0 : List UInt8 := dkwX1_take_0 ++ []
theorem dksX1_take_0 : cX1_take.data.toList.drop 0 = dktX1_take_0 := by decide +kernel
theorem dX1_take_0 : decode cX1_take 0 = .ok (.aload_n 0, 1) := dk_42 (dk_at dksX1_take_0 0 rfl rfl)
theorem dX1_take_1 : decode cX1_take 1 = .ok (.getfield 86, 3) := dk_180 0 86 (dk_at dksX1_take_0 1 rfl rfl)
theorem dX1_take_4 : decode cX1_take 4 = .ok (.istore_n 1, 1) := dk_60 (dk_at dksX1_take_0 4 rfl rfl)
theorem dX1_take_5 : decode cX1_take 5 = .ok (.aload_n 0, 1) := dk_42 (dk_at dksX1_take_0 5 rfl rfl)
theorem dX1_take_6 : decode cX1_take 6 = .ok (.iconst 0, 1) := dk_3 (dk_at dksX1_take_0 6 rfl rfl)
theorem dX1_take_7 : decode cX1_take 7 = .ok (.putfield 86, 3) := dk_181 0 86 (dk_at dksX1_take_0 7 rfl rfl)
theorem dX1_take_10 : decode cX1_take 10 = .ok (.iload_n 1, 1) := dk_27 (dk_at dksX1_take_0 10 rfl rfl)
theorem dX1_take_11 : decode cX1_take 11 = .ok (.ireturn, 1) := dk_172 (dk_at dksX1_take_0 11 rfl rfl)
abbrev cX1_isIn : ByteArray := prog_1_method_1_code
def yX1_isIn : MethodName := ⟨RX1, "isIn", "(III)Z"⟩
def dkwX1_isIn_0 : List UInt8 := [26, 27, 161, 0, 12, 26, 28, 163, 0, 7, 4, 167, 0, 4, 3, 172]
abbrev dktX1_isIn_0 : List UInt8 := dkwX1_isIn_0 ++ []
theorem dksX1_isIn_0 : cX1_isIn.data.toList.drop 0 = dktX1_isIn_0 := by decide +kernel
theorem dX1_isIn_0 : decode cX1_isIn 0 = .ok (.iload_n 0, 1) := dk_26 (dk_at dksX1_isIn_0 0 rfl rfl)
theorem dX1_isIn_1 : decode cX1_isIn 1 = .ok (.iload_n 1, 1) := dk_27 (dk_at dksX1_isIn_0 1 rfl rfl)
theorem dX1_isIn_2 : decode cX1_isIn 2 = .ok (.if_icmp .lt 12, 3) := dk_161 0 12 (dk_at dksX1_isIn_0 2 rfl rfl)
theorem dX1_isIn_5 : decode cX1_isIn 5 = .ok (.iload_n 0, 1) := dk_26 (dk_at dksX1_isIn_0 5 rfl rfl)
theorem dX1_isIn_6 : decode cX1_isIn 6 = .ok (.iload_n 2, 1) := dk_28 (dk_at dksX1_isIn_0 6 rfl rfl)
theorem dX1_isIn_7 : decode cX1_isIn 7 = .ok (.if_icmp .gt 7, 3) := dk_163 0 7 (dk_at dksX1_isIn_0 7 rfl rfl)
theorem dX1_isIn_10 : decode cX1_isIn 10 = .ok (.iconst 1, 1) := dk_4 (dk_at dksX1_isIn_0 10 rfl rfl)
theorem dX1_isIn_11 : decode cX1_isIn 11 = .ok (.goto 4, 3) := dk_167 0 4 (dk_at dksX1_isIn_0 11 rfl rfl)
theorem dX1_isIn_14 : decode cX1_isIn 14 = .ok (.iconst 0, 1) := dk_3 (dk_at dksX1_isIn_0 14 rfl rfl)
theorem dX1_isIn_15 : decode cX1_isIn 15 = .ok (.ireturn, 1) := dk_172 (dk_at dksX1_isIn_0 15 rfl rfl)
abbrev cX1_isOf : ByteArray := prog_1_method_2_code
def yX1_isOf : MethodName := ⟨RX1, "isOf", "(II)Z"⟩
def dkwX1_isOf_0 : List UInt8 := [26, 27, 122, 4, 126, 4, 160, 0, 7, 4, 167, 0, 4, 3, 172]
abbrev dktX1_isOf_0 : List UInt8 := dkwX1_isOf_0 ++ []
theorem dksX1_isOf_0 : cX1_isOf.data.toList.drop 0 = dktX1_isOf_0 := by decide +kernel
theorem dX1_isOf_0 : decode cX1_isOf 0 = .ok (.iload_n 0, 1) := dk_26 (dk_at dksX1_isOf_0 0 rfl rfl)
theorem dX1_isOf_1 : decode cX1_isOf 1 = .ok (.iload_n 1, 1) := dk_27 (dk_at dksX1_isOf_0 1 rfl rfl)
theorem dX1_isOf_2 : decode cX1_isOf 2 = .ok (.ishr, 1) := dk_122 (dk_at dksX1_isOf_0 2 rfl rfl)
theorem dX1_isOf_3 : decode cX1_isOf 3 = .ok (.iconst 1, 1) := dk_4 (dk_at dksX1_isOf_0 3 rfl rfl)
theorem dX1_isOf_4 : decode cX1_isOf 4 = .ok (.iand, 1) := dk_126 (dk_at dksX1_isOf_0 4 rfl rfl)
theorem dX1_isOf_5 : decode cX1_isOf 5 = .ok (.iconst 1, 1) := dk_4 (dk_at dksX1_isOf_0 5 rfl rfl)
theorem dX1_isOf_6 : decode cX1_isOf 6 = .ok (.if_icmp .ne 7, 3) := dk_160 0 7 (dk_at dksX1_isOf_0 6 rfl rfl)
theorem dX1_isOf_9 : decode cX1_isOf 9 = .ok (.iconst 1, 1) := dk_4 (dk_at dksX1_isOf_0 9 rfl rfl)
theorem dX1_isOf_10 : decode cX1_isOf 10 = .ok (.goto 4, 3) := dk_167 0 4 (dk_at dksX1_isOf_0 10 rfl rfl)
theorem dX1_isOf_13 : decode cX1_isOf 13 = .ok (.iconst 0, 1) := dk_3 (dk_at dksX1_isOf_0 13 rfl rfl)
theorem dX1_isOf_14 : decode cX1_isOf 14 = .ok (.ireturn, 1) := dk_172 (dk_at dksX1_isOf_0 14 rfl rfl)
abbrev cX1_fault : ByteArray := prog_1_method_12_code
def yX1_fault : MethodName := ⟨RX1, "fault", "()I"⟩
theorem dX1_fault_0 : decode cX1_fault 0 = .ok (.aload_n 0, 1) := by decide +kernel
theorem dX1_fault_1 : decode cX1_fault 1 = .ok (.getfield 97, 3) := by decide +kernel
theorem dX1_fault_4 : decode cX1_fault 4 = .ok (.ireturn, 1) := by decide +kernel
abbrev cX1_land : ByteArray := prog_1_method_18_code
def yX1_land : MethodName := ⟨RX1, "land", "(II)I"⟩
def dkwX1_land_5 : List UInt8 := [27, 160, 0, 10, 29, 4, 21, 4, 120, 128, 62, 132, 4, 1, 167, 255, 223, 29, 172, 2, 172]
abbrev dktX1_land_5 : List UInt8 := dkwX1_land_5 ++ []
def dkwX1_land_4 : List UInt8 := [3, 62, 3, 54, 4, 21, 4, 42, 182, 0, 194, 162, 0, 30, 42, 180, 0, 36, 180, 0, 158, 21, 4, 46]
abbrev dktX1_land_4 : List UInt8 := dkwX1_land_4 ++ dktX1_land_5
def dkwX1_land_3 : List UInt8 := [180, 0, 185, 172, 42, 180, 0, 36, 180, 0, 188, 27, 46, 172, 42, 180, 0, 36, 180, 0, 191, 27, 46, 172]
abbrev dktX1_land_3 : List UInt8 := dkwX1_land_3 ++ dktX1_land_4
def dkwX1_land_2 : List UInt8 := [42, 180, 0, 36, 27, 182, 0, 177, 172, 42, 180, 0, 25, 180, 0, 134, 27, 182, 0, 179, 192, 0, 183]
abbrev dktX1_land_2 : List UInt8 := dkwX1_land_2 ++ dktX1_land_3
def dkwX1_land_1 : List UInt8 := [170, 0, 0, 0, 123, 0, 0, 0, 0, 0, 0, 0, 4, 0, 0, 0, 33, 0, 0, 0, 42, 0, 0, 0, 60, 0, 0, 0, 70, 0, 0, 0, 80]
abbrev dktX1_land_1 : List UInt8 := dkwX1_land_1 ++ dktX1_land_2
def dkwX1_land_0 : List UInt8 := [42, 27, 182, 0, 176, 154, 0, 5, 2, 172, 28]
abbrev dktX1_land_0 : List UInt8 := dkwX1_land_0 ++ dktX1_land_1
theorem dksX1_land_0 : cX1_land.data.toList.drop 0 = dktX1_land_0 := by decide +kernel
theorem dksX1_land_1 : cX1_land.data.toList.drop 11 = dktX1_land_1 := dk_seg dksX1_land_0 11 rfl rfl
theorem dksX1_land_2 : cX1_land.data.toList.drop 44 = dktX1_land_2 := dk_seg dksX1_land_1 33 rfl rfl
theorem dksX1_land_3 : cX1_land.data.toList.drop 67 = dktX1_land_3 := dk_seg dksX1_land_2 23 rfl rfl
theorem dksX1_land_4 : cX1_land.data.toList.drop 91 = dktX1_land_4 := dk_seg dksX1_land_3 24 rfl rfl
theorem dksX1_land_5 : cX1_land.data.toList.drop 115 = dktX1_land_5 := dk_seg dksX1_land_4 24 rfl rfl
theorem dX1_land_0 : decode cX1_land 0 = .ok (.aload_n 0, 1) := dk_42 (dk_at dksX1_land_0 0 rfl rfl)
theorem dX1_land_1 : decode cX1_land 1 = .ok (.iload_n 1, 1) := dk_27 (dk_at dksX1_land_0 1 rfl rfl)
theorem dX1_land_2 : decode cX1_land 2 = .ok (.invokevirtual 176, 3) := dk_182 0 176 (dk_at dksX1_land_0 2 rfl rfl)
theorem dX1_land_5 : decode cX1_land 5 = .ok (.ifCond .ne 5, 3) := dk_154 0 5 (dk_at dksX1_land_0 5 rfl rfl)
theorem dX1_land_8 : decode cX1_land 8 = .ok (.iconst (-1), 1) := dk_2 (dk_at dksX1_land_0 8 rfl rfl)
theorem dX1_land_9 : decode cX1_land 9 = .ok (.ireturn, 1) := dk_172 (dk_at dksX1_land_0 9 rfl rfl)
theorem dX1_land_10 : decode cX1_land 10 = .ok (.iload_n 2, 1) := dk_28 (dk_at dksX1_land_0 10 rfl rfl)
theorem dX1_land_11 : decode cX1_land 11 = .ok (.tableswitch 123 0 4 #[33, 42, 60, 70, 80], 33) := by decide +kernel
theorem dX1_land_44 : decode cX1_land 44 = .ok (.aload_n 0, 1) := dk_42 (dk_at dksX1_land_2 0 rfl rfl)
theorem dX1_land_45 : decode cX1_land 45 = .ok (.getfield 36, 3) := dk_180 0 36 (dk_at dksX1_land_2 1 rfl rfl)
theorem dX1_land_48 : decode cX1_land 48 = .ok (.iload_n 1, 1) := dk_27 (dk_at dksX1_land_2 4 rfl rfl)
theorem dX1_land_49 : decode cX1_land 49 = .ok (.invokevirtual 177, 3) := dk_182 0 177 (dk_at dksX1_land_2 5 rfl rfl)
theorem dX1_land_52 : decode cX1_land 52 = .ok (.ireturn, 1) := dk_172 (dk_at dksX1_land_2 8 rfl rfl)
theorem dX1_land_53 : decode cX1_land 53 = .ok (.aload_n 0, 1) := dk_42 (dk_at dksX1_land_2 9 rfl rfl)
theorem dX1_land_54 : decode cX1_land 54 = .ok (.getfield 25, 3) := dk_180 0 25 (dk_at dksX1_land_2 10 rfl rfl)
theorem dX1_land_57 : decode cX1_land 57 = .ok (.getfield 134, 3) := dk_180 0 134 (dk_at dksX1_land_2 13 rfl rfl)
theorem dX1_land_60 : decode cX1_land 60 = .ok (.iload_n 1, 1) := dk_27 (dk_at dksX1_land_2 16 rfl rfl)
theorem dX1_land_61 : decode cX1_land 61 = .ok (.invokevirtual 179, 3) := dk_182 0 179 (dk_at dksX1_land_2 17 rfl rfl)
theorem dX1_land_64 : decode cX1_land 64 = .ok (.checkcast 183, 3) := dk_192 0 183 (dk_at dksX1_land_2 20 rfl rfl)
theorem dX1_land_67 : decode cX1_land 67 = .ok (.getfield 185, 3) := dk_180 0 185 (dk_at dksX1_land_3 0 rfl rfl)
theorem dX1_land_70 : decode cX1_land 70 = .ok (.ireturn, 1) := dk_172 (dk_at dksX1_land_3 3 rfl rfl)
theorem dX1_land_71 : decode cX1_land 71 = .ok (.aload_n 0, 1) := dk_42 (dk_at dksX1_land_3 4 rfl rfl)
theorem dX1_land_72 : decode cX1_land 72 = .ok (.getfield 36, 3) := dk_180 0 36 (dk_at dksX1_land_3 5 rfl rfl)
theorem dX1_land_75 : decode cX1_land 75 = .ok (.getfield 188, 3) := dk_180 0 188 (dk_at dksX1_land_3 8 rfl rfl)
theorem dX1_land_78 : decode cX1_land 78 = .ok (.iload_n 1, 1) := dk_27 (dk_at dksX1_land_3 11 rfl rfl)
theorem dX1_land_79 : decode cX1_land 79 = .ok (.iaload, 1) := dk_46 (dk_at dksX1_land_3 12 rfl rfl)
theorem dX1_land_80 : decode cX1_land 80 = .ok (.ireturn, 1) := dk_172 (dk_at dksX1_land_3 13 rfl rfl)
theorem dX1_land_81 : decode cX1_land 81 = .ok (.aload_n 0, 1) := dk_42 (dk_at dksX1_land_3 14 rfl rfl)
theorem dX1_land_82 : decode cX1_land 82 = .ok (.getfield 36, 3) := dk_180 0 36 (dk_at dksX1_land_3 15 rfl rfl)
theorem dX1_land_85 : decode cX1_land 85 = .ok (.getfield 191, 3) := dk_180 0 191 (dk_at dksX1_land_3 18 rfl rfl)
theorem dX1_land_88 : decode cX1_land 88 = .ok (.iload_n 1, 1) := dk_27 (dk_at dksX1_land_3 21 rfl rfl)
theorem dX1_land_89 : decode cX1_land 89 = .ok (.iaload, 1) := dk_46 (dk_at dksX1_land_3 22 rfl rfl)
theorem dX1_land_90 : decode cX1_land 90 = .ok (.ireturn, 1) := dk_172 (dk_at dksX1_land_3 23 rfl rfl)
theorem dX1_land_91 : decode cX1_land 91 = .ok (.iconst 0, 1) := dk_3 (dk_at dksX1_land_4 0 rfl rfl)
theorem dX1_land_92 : decode cX1_land 92 = .ok (.istore_n 3, 1) := dk_62 (dk_at dksX1_land_4 1 rfl rfl)
theorem dX1_land_93 : decode cX1_land 93 = .ok (.iconst 0, 1) := dk_3 (dk_at dksX1_land_4 2 rfl rfl)
theorem dX1_land_94 : decode cX1_land 94 = .ok (.istore 4, 2) := dk_54 4 (dk_at dksX1_land_4 3 rfl rfl)
theorem dX1_land_96 : decode cX1_land 96 = .ok (.iload 4, 2) := dk_21 4 (dk_at dksX1_land_4 5 rfl rfl)
theorem dX1_land_98 : decode cX1_land 98 = .ok (.aload_n 0, 1) := dk_42 (dk_at dksX1_land_4 7 rfl rfl)
theorem dX1_land_99 : decode cX1_land 99 = .ok (.invokevirtual 194, 3) := dk_182 0 194 (dk_at dksX1_land_4 8 rfl rfl)
theorem dX1_land_102 : decode cX1_land 102 = .ok (.if_icmp .ge 30, 3) := dk_162 0 30 (dk_at dksX1_land_4 11 rfl rfl)
theorem dX1_land_105 : decode cX1_land 105 = .ok (.aload_n 0, 1) := dk_42 (dk_at dksX1_land_4 14 rfl rfl)
theorem dX1_land_106 : decode cX1_land 106 = .ok (.getfield 36, 3) := dk_180 0 36 (dk_at dksX1_land_4 15 rfl rfl)
theorem dX1_land_109 : decode cX1_land 109 = .ok (.getfield 158, 3) := dk_180 0 158 (dk_at dksX1_land_4 18 rfl rfl)
theorem dX1_land_112 : decode cX1_land 112 = .ok (.iload 4, 2) := dk_21 4 (dk_at dksX1_land_4 21 rfl rfl)
theorem dX1_land_114 : decode cX1_land 114 = .ok (.iaload, 1) := dk_46 (dk_at dksX1_land_4 23 rfl rfl)
theorem dX1_land_115 : decode cX1_land 115 = .ok (.iload_n 1, 1) := dk_27 (dk_at dksX1_land_5 0 rfl rfl)
theorem dX1_land_116 : decode cX1_land 116 = .ok (.if_icmp .ne 10, 3) := dk_160 0 10 (dk_at dksX1_land_5 1 rfl rfl)
theorem dX1_land_119 : decode cX1_land 119 = .ok (.iload_n 3, 1) := dk_29 (dk_at dksX1_land_5 4 rfl rfl)
theorem dX1_land_120 : decode cX1_land 120 = .ok (.iconst 1, 1) := dk_4 (dk_at dksX1_land_5 5 rfl rfl)
theorem dX1_land_121 : decode cX1_land 121 = .ok (.iload 4, 2) := dk_21 4 (dk_at dksX1_land_5 6 rfl rfl)
theorem dX1_land_123 : decode cX1_land 123 = .ok (.ishl, 1) := dk_120 (dk_at dksX1_land_5 8 rfl rfl)
theorem dX1_land_124 : decode cX1_land 124 = .ok (.ior, 1) := dk_128 (dk_at dksX1_land_5 9 rfl rfl)
theorem dX1_land_125 : decode cX1_land 125 = .ok (.istore_n 3, 1) := dk_62 (dk_at dksX1_land_5 10 rfl rfl)
theorem dX1_land_126 : decode cX1_land 126 = .ok (.iinc 4 1, 3) := dk_132 4 1 (dk_at dksX1_land_5 11 rfl rfl)
theorem dX1_land_129 : decode cX1_land 129 = .ok (.goto (-33), 3) := dk_167 255 223 (dk_at dksX1_land_5 14 rfl rfl)
theorem dX1_land_132 : decode cX1_land 132 = .ok (.iload_n 3, 1) := dk_29 (dk_at dksX1_land_5 17 rfl rfl)
theorem dX1_land_133 : decode cX1_land 133 = .ok (.ireturn, 1) := dk_172 (dk_at dksX1_land_5 18 rfl rfl)
theorem dX1_land_134 : decode cX1_land 134 = .ok (.iconst (-1), 1) := dk_2 (dk_at dksX1_land_5 19 rfl rfl)
theorem dX1_land_135 : decode cX1_land 135 = .ok (.ireturn, 1) := dk_172 (dk_at dksX1_land_5 20 rfl rfl)
abbrev cX1_isLand : ByteArray := prog_1_method_13_code
def yX1_isLand : MethodName := ⟨RX1, "isLand", "(I)Z"⟩
def dkwX1_isLand_0 : List UInt8 := [42, 180, 0, 25, 27, 182, 0, 127, 172]
abbrev dktX1_isLand_0 : List UInt8 := dkwX1_isLand_0 ++ []
theorem dksX1_isLand_0 : cX1_isLand.data.toList.drop 0 = dktX1_isLand_0 := by decide +kernel
theorem dX1_isLand_0 : decode cX1_isLand 0 = .ok (.aload_n 0, 1) := dk_42 (dk_at dksX1_isLand_0 0 rfl rfl)
theorem dX1_isLand_1 : decode cX1_isLand 1 = .ok (.getfield 25, 3) := dk_180 0 25 (dk_at dksX1_isLand_0 1 rfl rfl)
theorem dX1_isLand_4 : decode cX1_isLand 4 = .ok (.iload_n 1, 1) := dk_27 (dk_at dksX1_isLand_0 4 rfl rfl)
theorem dX1_isLand_5 : decode cX1_isLand 5 = .ok (.invokevirtual 127, 3) := dk_182 0 127 (dk_at dksX1_isLand_0 5 rfl rfl)
theorem dX1_isLand_8 : decode cX1_isLand 8 = .ok (.ireturn, 1) := dk_172 (dk_at dksX1_isLand_0 8 rfl rfl)
abbrev cX1_persons : ByteArray := prog_1_method_16_code
def yX1_persons : MethodName := ⟨RX1, "persons", "()I"⟩
def dkwX1_persons_0 : List UInt8 := [42, 180, 0, 25, 180, 0, 143, 182, 0, 138, 172]
abbrev dktX1_persons_0 : List UInt8 := dkwX1_persons_0 ++ []
theorem dksX1_persons_0 : cX1_persons.data.toList.drop 0 = dktX1_persons_0 := by decide +kernel
theorem dX1_persons_0 : decode cX1_persons 0 = .ok (.aload_n 0, 1) := dk_42 (dk_at dksX1_persons_0 0 rfl rfl)
theorem dX1_persons_1 : decode cX1_persons 1 = .ok (.getfield 25, 3) := dk_180 0 25 (dk_at dksX1_persons_0 1 rfl rfl)
theorem dX1_persons_4 : decode cX1_persons 4 = .ok (.getfield 143, 3) := dk_180 0 143 (dk_at dksX1_persons_0 4 rfl rfl)
theorem dX1_persons_7 : decode cX1_persons 7 = .ok (.invokevirtual 138, 3) := dk_182 0 138 (dk_at dksX1_persons_0 7 rfl rfl)
theorem dX1_persons_10 : decode cX1_persons 10 = .ok (.ireturn, 1) := dk_172 (dk_at dksX1_persons_0 10 rfl rfl)
abbrev cX1_road : ByteArray := prog_1_method_19_code
def yX1_road : MethodName := ⟨RX1, "road", "(II)I"⟩
def dkwX1_road_4 : List UInt8 := [180, 0, 216, 27, 122, 4, 126, 172, 2, 172]
abbrev dktX1_road_4 : List UInt8 := dkwX1_road_4 ++ []
def dkwX1_road_3 : List UInt8 := [45, 180, 0, 204, 172, 45, 180, 0, 207, 172, 45, 180, 0, 210, 172, 45, 180, 0, 213, 172, 42, 180, 0, 36]
abbrev dktX1_road_3 : List UInt8 := dkwX1_road_3 ++ dktX1_road_4
def dkwX1_road_2 : List UInt8 := [170, 0, 0, 0, 0, 0, 67, 0, 0, 0, 0, 0, 0, 0, 4, 0, 0, 0, 35, 0, 0, 0, 40, 0, 0, 0, 45, 0, 0, 0, 50, 0, 0, 0, 55]
abbrev dktX1_road_2 : List UInt8 := dkwX1_road_2 ++ dktX1_road_3
def dkwX1_road_1 : List UInt8 := [192, 0, 202, 78, 28]
abbrev dktX1_road_1 : List UInt8 := dkwX1_road_1 ++ dktX1_road_2
def dkwX1_road_0 : List UInt8 := [42, 180, 0, 25, 27, 182, 0, 196, 154, 0, 5, 2, 172, 42, 180, 0, 25, 180, 0, 199, 27, 182, 0, 179]
abbrev dktX1_road_0 : List UInt8 := dkwX1_road_0 ++ dktX1_road_1
theorem dksX1_road_0 : cX1_road.data.toList.drop 0 = dktX1_road_0 := by decide +kernel
theorem dksX1_road_1 : cX1_road.data.toList.drop 24 = dktX1_road_1 := dk_seg dksX1_road_0 24 rfl rfl
theorem dksX1_road_2 : cX1_road.data.toList.drop 29 = dktX1_road_2 := dk_seg dksX1_road_1 5 rfl rfl
theorem dksX1_road_3 : cX1_road.data.toList.drop 64 = dktX1_road_3 := dk_seg dksX1_road_2 35 rfl rfl
theorem dksX1_road_4 : cX1_road.data.toList.drop 88 = dktX1_road_4 := dk_seg dksX1_road_3 24 rfl rfl
theorem dX1_road_0 : decode cX1_road 0 = .ok (.aload_n 0, 1) := dk_42 (dk_at dksX1_road_0 0 rfl rfl)
theorem dX1_road_1 : decode cX1_road 1 = .ok (.getfield 25, 3) := dk_180 0 25 (dk_at dksX1_road_0 1 rfl rfl)
theorem dX1_road_4 : decode cX1_road 4 = .ok (.iload_n 1, 1) := dk_27 (dk_at dksX1_road_0 4 rfl rfl)
theorem dX1_road_5 : decode cX1_road 5 = .ok (.invokevirtual 196, 3) := dk_182 0 196 (dk_at dksX1_road_0 5 rfl rfl)
theorem dX1_road_8 : decode cX1_road 8 = .ok (.ifCond .ne 5, 3) := dk_154 0 5 (dk_at dksX1_road_0 8 rfl rfl)
theorem dX1_road_11 : decode cX1_road 11 = .ok (.iconst (-1), 1) := dk_2 (dk_at dksX1_road_0 11 rfl rfl)
theorem dX1_road_12 : decode cX1_road 12 = .ok (.ireturn, 1) := dk_172 (dk_at dksX1_road_0 12 rfl rfl)
theorem dX1_road_13 : decode cX1_road 13 = .ok (.aload_n 0, 1) := dk_42 (dk_at dksX1_road_0 13 rfl rfl)
theorem dX1_road_14 : decode cX1_road 14 = .ok (.getfield 25, 3) := dk_180 0 25 (dk_at dksX1_road_0 14 rfl rfl)
theorem dX1_road_17 : decode cX1_road 17 = .ok (.getfield 199, 3) := dk_180 0 199 (dk_at dksX1_road_0 17 rfl rfl)
theorem dX1_road_20 : decode cX1_road 20 = .ok (.iload_n 1, 1) := dk_27 (dk_at dksX1_road_0 20 rfl rfl)
theorem dX1_road_21 : decode cX1_road 21 = .ok (.invokevirtual 179, 3) := dk_182 0 179 (dk_at dksX1_road_0 21 rfl rfl)
theorem dX1_road_24 : decode cX1_road 24 = .ok (.checkcast 202, 3) := dk_192 0 202 (dk_at dksX1_road_1 0 rfl rfl)
theorem dX1_road_27 : decode cX1_road 27 = .ok (.astore_n 3, 1) := dk_78 (dk_at dksX1_road_1 3 rfl rfl)
theorem dX1_road_28 : decode cX1_road 28 = .ok (.iload_n 2, 1) := dk_28 (dk_at dksX1_road_1 4 rfl rfl)
theorem dX1_road_29 : decode cX1_road 29 = .ok (.tableswitch 67 0 4 #[35, 40, 45, 50, 55], 35) := by decide +kernel
theorem dX1_road_64 : decode cX1_road 64 = .ok (.aload_n 3, 1) := dk_45 (dk_at dksX1_road_3 0 rfl rfl)
theorem dX1_road_65 : decode cX1_road 65 = .ok (.getfield 204, 3) := dk_180 0 204 (dk_at dksX1_road_3 1 rfl rfl)
theorem dX1_road_68 : decode cX1_road 68 = .ok (.ireturn, 1) := dk_172 (dk_at dksX1_road_3 4 rfl rfl)
theorem dX1_road_69 : decode cX1_road 69 = .ok (.aload_n 3, 1) := dk_45 (dk_at dksX1_road_3 5 rfl rfl)
theorem dX1_road_70 : decode cX1_road 70 = .ok (.getfield 207, 3) := dk_180 0 207 (dk_at dksX1_road_3 6 rfl rfl)
theorem dX1_road_73 : decode cX1_road 73 = .ok (.ireturn, 1) := dk_172 (dk_at dksX1_road_3 9 rfl rfl)
theorem dX1_road_74 : decode cX1_road 74 = .ok (.aload_n 3, 1) := dk_45 (dk_at dksX1_road_3 10 rfl rfl)
theorem dX1_road_75 : decode cX1_road 75 = .ok (.getfield 210, 3) := dk_180 0 210 (dk_at dksX1_road_3 11 rfl rfl)
theorem dX1_road_78 : decode cX1_road 78 = .ok (.ireturn, 1) := dk_172 (dk_at dksX1_road_3 14 rfl rfl)
theorem dX1_road_79 : decode cX1_road 79 = .ok (.aload_n 3, 1) := dk_45 (dk_at dksX1_road_3 15 rfl rfl)
theorem dX1_road_80 : decode cX1_road 80 = .ok (.getfield 213, 3) := dk_180 0 213 (dk_at dksX1_road_3 16 rfl rfl)
theorem dX1_road_83 : decode cX1_road 83 = .ok (.ireturn, 1) := dk_172 (dk_at dksX1_road_3 19 rfl rfl)
theorem dX1_road_84 : decode cX1_road 84 = .ok (.aload_n 0, 1) := dk_42 (dk_at dksX1_road_3 20 rfl rfl)
theorem dX1_road_85 : decode cX1_road 85 = .ok (.getfield 36, 3) := dk_180 0 36 (dk_at dksX1_road_3 21 rfl rfl)
theorem dX1_road_88 : decode cX1_road 88 = .ok (.getfield 216, 3) := dk_180 0 216 (dk_at dksX1_road_4 0 rfl rfl)
theorem dX1_road_91 : decode cX1_road 91 = .ok (.iload_n 1, 1) := dk_27 (dk_at dksX1_road_4 3 rfl rfl)
theorem dX1_road_92 : decode cX1_road 92 = .ok (.ishr, 1) := dk_122 (dk_at dksX1_road_4 4 rfl rfl)
theorem dX1_road_93 : decode cX1_road 93 = .ok (.iconst 1, 1) := dk_4 (dk_at dksX1_road_4 5 rfl rfl)
theorem dX1_road_94 : decode cX1_road 94 = .ok (.iand, 1) := dk_126 (dk_at dksX1_road_4 6 rfl rfl)
theorem dX1_road_95 : decode cX1_road 95 = .ok (.ireturn, 1) := dk_172 (dk_at dksX1_road_4 7 rfl rfl)
theorem dX1_road_96 : decode cX1_road 96 = .ok (.iconst (-1), 1) := dk_2 (dk_at dksX1_road_4 8 rfl rfl)
theorem dX1_road_97 : decode cX1_road 97 = .ok (.ireturn, 1) := dk_172 (dk_at dksX1_road_4 9 rfl rfl)
abbrev cX1_now : ByteArray := prog_1_method_22_code
def yX1_now : MethodName := ⟨RX1, "now", "(I)I"⟩
def dkwX1_now_6 : List UInt8 := [132, 5, 1, 167, 255, 232, 28, 172, 2, 172]
abbrev dktX1_now_6 : List UInt8 := dkwX1_now_6 ++ []
def dkwX1_now_5 : List UInt8 := [3, 54, 5, 21, 5, 21, 4, 162, 0, 23, 45, 21, 5, 46, 54, 6, 28, 21, 6, 184, 0, 236, 96, 61]
abbrev dktX1_now_5 : List UInt8 := dkwX1_now_5 ++ dktX1_now_6
def dkwX1_now_4 : List UInt8 := [182, 0, 232, 172, 42, 3, 182, 0, 232, 172, 3, 61, 42, 180, 0, 36, 180, 0, 191, 78, 45, 190, 54, 4]
abbrev dktX1_now_4 : List UInt8 := dkwX1_now_4 ++ dktX1_now_5
def dkwX1_now_3 : List UInt8 := [184, 0, 225, 172, 42, 180, 0, 36, 180, 0, 229, 172, 42, 180, 0, 36, 180, 0, 216, 172, 42, 4]
abbrev dktX1_now_3 : List UInt8 := dkwX1_now_3 ++ dktX1_now_4
def dkwX1_now_2 : List UInt8 := [42, 180, 0, 36, 180, 0, 219, 172, 42, 180, 0, 36, 182, 0, 222, 172, 42, 180, 0, 36, 180, 0, 188]
abbrev dktX1_now_2 : List UInt8 := dkwX1_now_2 ++ dktX1_now_3
def dkwX1_now_1 : List UInt8 := [170, 0, 0, 0, 0, 0, 148, 0, 0, 0, 0, 0, 0, 0, 7, 0, 0, 0, 47, 0, 0, 0, 55, 0, 0, 0, 63, 0, 0, 0, 74, 0, 0, 0, 82, 0, 0, 0, 90, 0, 0, 0, 96, 0, 0, 0, 102]
abbrev dktX1_now_1 : List UInt8 := dkwX1_now_1 ++ dktX1_now_2
def dkwX1_now_0 : List UInt8 := [27]
abbrev dktX1_now_0 : List UInt8 := dkwX1_now_0 ++ dktX1_now_1
theorem dksX1_now_0 : cX1_now.data.toList.drop 0 = dktX1_now_0 := by decide +kernel
theorem dksX1_now_1 : cX1_now.data.toList.drop 1 = dktX1_now_1 := dk_seg dksX1_now_0 1 rfl rfl
theorem dksX1_now_2 : cX1_now.data.toList.drop 48 = dktX1_now_2 := dk_seg dksX1_now_1 47 rfl rfl
theorem dksX1_now_3 : cX1_now.data.toList.drop 71 = dktX1_now_3 := dk_seg dksX1_now_2 23 rfl rfl
theorem dksX1_now_4 : cX1_now.data.toList.drop 93 = dktX1_now_4 := dk_seg dksX1_now_3 22 rfl rfl
theorem dksX1_now_5 : cX1_now.data.toList.drop 117 = dktX1_now_5 := dk_seg dksX1_now_4 24 rfl rfl
theorem dksX1_now_6 : cX1_now.data.toList.drop 141 = dktX1_now_6 := dk_seg dksX1_now_5 24 rfl rfl
theorem dX1_now_0 : decode cX1_now 0 = .ok (.iload_n 1, 1) := dk_27 (dk_at dksX1_now_0 0 rfl rfl)
theorem dX1_now_1 : decode cX1_now 1 = .ok (.tableswitch 148 0 7 #[47, 55, 63, 74, 82, 90, 96, 102], 47) := by decide +kernel
theorem dX1_now_48 : decode cX1_now 48 = .ok (.aload_n 0, 1) := dk_42 (dk_at dksX1_now_2 0 rfl rfl)
theorem dX1_now_49 : decode cX1_now 49 = .ok (.getfield 36, 3) := dk_180 0 36 (dk_at dksX1_now_2 1 rfl rfl)
theorem dX1_now_52 : decode cX1_now 52 = .ok (.getfield 219, 3) := dk_180 0 219 (dk_at dksX1_now_2 4 rfl rfl)
theorem dX1_now_55 : decode cX1_now 55 = .ok (.ireturn, 1) := dk_172 (dk_at dksX1_now_2 7 rfl rfl)
theorem dX1_now_56 : decode cX1_now 56 = .ok (.aload_n 0, 1) := dk_42 (dk_at dksX1_now_2 8 rfl rfl)
theorem dX1_now_57 : decode cX1_now 57 = .ok (.getfield 36, 3) := dk_180 0 36 (dk_at dksX1_now_2 9 rfl rfl)
theorem dX1_now_60 : decode cX1_now 60 = .ok (.invokevirtual 222, 3) := dk_182 0 222 (dk_at dksX1_now_2 12 rfl rfl)
theorem dX1_now_63 : decode cX1_now 63 = .ok (.ireturn, 1) := dk_172 (dk_at dksX1_now_2 15 rfl rfl)
theorem dX1_now_64 : decode cX1_now 64 = .ok (.aload_n 0, 1) := dk_42 (dk_at dksX1_now_2 16 rfl rfl)
theorem dX1_now_65 : decode cX1_now 65 = .ok (.getfield 36, 3) := dk_180 0 36 (dk_at dksX1_now_2 17 rfl rfl)
theorem dX1_now_68 : decode cX1_now 68 = .ok (.getfield 188, 3) := dk_180 0 188 (dk_at dksX1_now_2 20 rfl rfl)
theorem dX1_now_71 : decode cX1_now 71 = .ok (.invokestatic 225, 3) := dk_184 0 225 (dk_at dksX1_now_3 0 rfl rfl)
theorem dX1_now_74 : decode cX1_now 74 = .ok (.ireturn, 1) := dk_172 (dk_at dksX1_now_3 3 rfl rfl)
theorem dX1_now_75 : decode cX1_now 75 = .ok (.aload_n 0, 1) := dk_42 (dk_at dksX1_now_3 4 rfl rfl)
theorem dX1_now_76 : decode cX1_now 76 = .ok (.getfield 36, 3) := dk_180 0 36 (dk_at dksX1_now_3 5 rfl rfl)
theorem dX1_now_79 : decode cX1_now 79 = .ok (.getfield 229, 3) := dk_180 0 229 (dk_at dksX1_now_3 8 rfl rfl)
theorem dX1_now_82 : decode cX1_now 82 = .ok (.ireturn, 1) := dk_172 (dk_at dksX1_now_3 11 rfl rfl)
theorem dX1_now_83 : decode cX1_now 83 = .ok (.aload_n 0, 1) := dk_42 (dk_at dksX1_now_3 12 rfl rfl)
theorem dX1_now_84 : decode cX1_now 84 = .ok (.getfield 36, 3) := dk_180 0 36 (dk_at dksX1_now_3 13 rfl rfl)
theorem dX1_now_87 : decode cX1_now 87 = .ok (.getfield 216, 3) := dk_180 0 216 (dk_at dksX1_now_3 16 rfl rfl)
theorem dX1_now_90 : decode cX1_now 90 = .ok (.ireturn, 1) := dk_172 (dk_at dksX1_now_3 19 rfl rfl)
theorem dX1_now_91 : decode cX1_now 91 = .ok (.aload_n 0, 1) := dk_42 (dk_at dksX1_now_3 20 rfl rfl)
theorem dX1_now_92 : decode cX1_now 92 = .ok (.iconst 1, 1) := dk_4 (dk_at dksX1_now_3 21 rfl rfl)
theorem dX1_now_93 : decode cX1_now 93 = .ok (.invokevirtual 232, 3) := dk_182 0 232 (dk_at dksX1_now_4 0 rfl rfl)
theorem dX1_now_96 : decode cX1_now 96 = .ok (.ireturn, 1) := dk_172 (dk_at dksX1_now_4 3 rfl rfl)
theorem dX1_now_97 : decode cX1_now 97 = .ok (.aload_n 0, 1) := dk_42 (dk_at dksX1_now_4 4 rfl rfl)
theorem dX1_now_98 : decode cX1_now 98 = .ok (.iconst 0, 1) := dk_3 (dk_at dksX1_now_4 5 rfl rfl)
theorem dX1_now_99 : decode cX1_now 99 = .ok (.invokevirtual 232, 3) := dk_182 0 232 (dk_at dksX1_now_4 6 rfl rfl)
theorem dX1_now_102 : decode cX1_now 102 = .ok (.ireturn, 1) := dk_172 (dk_at dksX1_now_4 9 rfl rfl)
theorem dX1_now_103 : decode cX1_now 103 = .ok (.iconst 0, 1) := dk_3 (dk_at dksX1_now_4 10 rfl rfl)
theorem dX1_now_104 : decode cX1_now 104 = .ok (.istore_n 2, 1) := dk_61 (dk_at dksX1_now_4 11 rfl rfl)
theorem dX1_now_105 : decode cX1_now 105 = .ok (.aload_n 0, 1) := dk_42 (dk_at dksX1_now_4 12 rfl rfl)
theorem dX1_now_106 : decode cX1_now 106 = .ok (.getfield 36, 3) := dk_180 0 36 (dk_at dksX1_now_4 13 rfl rfl)
theorem dX1_now_109 : decode cX1_now 109 = .ok (.getfield 191, 3) := dk_180 0 191 (dk_at dksX1_now_4 16 rfl rfl)
theorem dX1_now_112 : decode cX1_now 112 = .ok (.astore_n 3, 1) := dk_78 (dk_at dksX1_now_4 19 rfl rfl)
theorem dX1_now_113 : decode cX1_now 113 = .ok (.aload_n 3, 1) := dk_45 (dk_at dksX1_now_4 20 rfl rfl)
theorem dX1_now_114 : decode cX1_now 114 = .ok (.arraylength, 1) := dk_190 (dk_at dksX1_now_4 21 rfl rfl)
theorem dX1_now_115 : decode cX1_now 115 = .ok (.istore 4, 2) := dk_54 4 (dk_at dksX1_now_4 22 rfl rfl)
theorem dX1_now_117 : decode cX1_now 117 = .ok (.iconst 0, 1) := dk_3 (dk_at dksX1_now_5 0 rfl rfl)
theorem dX1_now_118 : decode cX1_now 118 = .ok (.istore 5, 2) := dk_54 5 (dk_at dksX1_now_5 1 rfl rfl)
theorem dX1_now_120 : decode cX1_now 120 = .ok (.iload 5, 2) := dk_21 5 (dk_at dksX1_now_5 3 rfl rfl)
theorem dX1_now_122 : decode cX1_now 122 = .ok (.iload 4, 2) := dk_21 4 (dk_at dksX1_now_5 5 rfl rfl)
theorem dX1_now_124 : decode cX1_now 124 = .ok (.if_icmp .ge 23, 3) := dk_162 0 23 (dk_at dksX1_now_5 7 rfl rfl)
theorem dX1_now_127 : decode cX1_now 127 = .ok (.aload_n 3, 1) := dk_45 (dk_at dksX1_now_5 10 rfl rfl)
theorem dX1_now_128 : decode cX1_now 128 = .ok (.iload 5, 2) := dk_21 5 (dk_at dksX1_now_5 11 rfl rfl)
theorem dX1_now_130 : decode cX1_now 130 = .ok (.iaload, 1) := dk_46 (dk_at dksX1_now_5 13 rfl rfl)
theorem dX1_now_131 : decode cX1_now 131 = .ok (.istore 6, 2) := dk_54 6 (dk_at dksX1_now_5 14 rfl rfl)
theorem dX1_now_133 : decode cX1_now 133 = .ok (.iload_n 2, 1) := dk_28 (dk_at dksX1_now_5 16 rfl rfl)
theorem dX1_now_134 : decode cX1_now 134 = .ok (.iload 6, 2) := dk_21 6 (dk_at dksX1_now_5 17 rfl rfl)
theorem dX1_now_136 : decode cX1_now 136 = .ok (.invokestatic 236, 3) := dk_184 0 236 (dk_at dksX1_now_5 19 rfl rfl)
theorem dX1_now_139 : decode cX1_now 139 = .ok (.iadd, 1) := dk_96 (dk_at dksX1_now_5 22 rfl rfl)
theorem dX1_now_140 : decode cX1_now 140 = .ok (.istore_n 2, 1) := dk_61 (dk_at dksX1_now_5 23 rfl rfl)
theorem dX1_now_141 : decode cX1_now 141 = .ok (.iinc 5 1, 3) := dk_132 5 1 (dk_at dksX1_now_6 0 rfl rfl)
theorem dX1_now_144 : decode cX1_now 144 = .ok (.goto (-24), 3) := dk_167 255 232 (dk_at dksX1_now_6 3 rfl rfl)
theorem dX1_now_147 : decode cX1_now 147 = .ok (.iload_n 2, 1) := dk_28 (dk_at dksX1_now_6 6 rfl rfl)
theorem dX1_now_148 : decode cX1_now 148 = .ok (.ireturn, 1) := dk_172 (dk_at dksX1_now_6 7 rfl rfl)
theorem dX1_now_149 : decode cX1_now 149 = .ok (.iconst (-1), 1) := dk_2 (dk_at dksX1_now_6 8 rfl rfl)
theorem dX1_now_150 : decode cX1_now 150 = .ok (.ireturn, 1) := dk_172 (dk_at dksX1_now_6 9 rfl rfl)
abbrev cX1_sum : ByteArray := prog_1_method_20_code
def yX1_sum : MethodName := ⟨RX1, "sum", "([I)I"⟩
def dkwX1_sum_1 : List UInt8 := [21, 5, 96, 60, 132, 4, 1, 167, 255, 236, 27, 172]
abbrev dktX1_sum_1 : List UInt8 := dkwX1_sum_1 ++ []
def dkwX1_sum_0 : List UInt8 := [3, 60, 42, 77, 44, 190, 62, 3, 54, 4, 21, 4, 29, 162, 0, 20, 44, 21, 4, 46, 54, 5, 27]
abbrev dktX1_sum_0 : List UInt8 := dkwX1_sum_0 ++ dktX1_sum_1
theorem dksX1_sum_0 : cX1_sum.data.toList.drop 0 = dktX1_sum_0 := by decide +kernel
theorem dksX1_sum_1 : cX1_sum.data.toList.drop 23 = dktX1_sum_1 := dk_seg dksX1_sum_0 23 rfl rfl
theorem dX1_sum_0 : decode cX1_sum 0 = .ok (.iconst 0, 1) := dk_3 (dk_at dksX1_sum_0 0 rfl rfl)
theorem dX1_sum_1 : decode cX1_sum 1 = .ok (.istore_n 1, 1) := dk_60 (dk_at dksX1_sum_0 1 rfl rfl)
theorem dX1_sum_2 : decode cX1_sum 2 = .ok (.aload_n 0, 1) := dk_42 (dk_at dksX1_sum_0 2 rfl rfl)
theorem dX1_sum_3 : decode cX1_sum 3 = .ok (.astore_n 2, 1) := dk_77 (dk_at dksX1_sum_0 3 rfl rfl)
theorem dX1_sum_4 : decode cX1_sum 4 = .ok (.aload_n 2, 1) := dk_44 (dk_at dksX1_sum_0 4 rfl rfl)
theorem dX1_sum_5 : decode cX1_sum 5 = .ok (.arraylength, 1) := dk_190 (dk_at dksX1_sum_0 5 rfl rfl)
theorem dX1_sum_6 : decode cX1_sum 6 = .ok (.istore_n 3, 1) := dk_62 (dk_at dksX1_sum_0 6 rfl rfl)
theorem dX1_sum_7 : decode cX1_sum 7 = .ok (.iconst 0, 1) := dk_3 (dk_at dksX1_sum_0 7 rfl rfl)
theorem dX1_sum_8 : decode cX1_sum 8 = .ok (.istore 4, 2) := dk_54 4 (dk_at dksX1_sum_0 8 rfl rfl)
theorem dX1_sum_10 : decode cX1_sum 10 = .ok (.iload 4, 2) := dk_21 4 (dk_at dksX1_sum_0 10 rfl rfl)
theorem dX1_sum_12 : decode cX1_sum 12 = .ok (.iload_n 3, 1) := dk_29 (dk_at dksX1_sum_0 12 rfl rfl)
theorem dX1_sum_13 : decode cX1_sum 13 = .ok (.if_icmp .ge 20, 3) := dk_162 0 20 (dk_at dksX1_sum_0 13 rfl rfl)
theorem dX1_sum_16 : decode cX1_sum 16 = .ok (.aload_n 2, 1) := dk_44 (dk_at dksX1_sum_0 16 rfl rfl)
theorem dX1_sum_17 : decode cX1_sum 17 = .ok (.iload 4, 2) := dk_21 4 (dk_at dksX1_sum_0 17 rfl rfl)
theorem dX1_sum_19 : decode cX1_sum 19 = .ok (.iaload, 1) := dk_46 (dk_at dksX1_sum_0 19 rfl rfl)
theorem dX1_sum_20 : decode cX1_sum 20 = .ok (.istore 5, 2) := dk_54 5 (dk_at dksX1_sum_0 20 rfl rfl)
theorem dX1_sum_22 : decode cX1_sum 22 = .ok (.iload_n 1, 1) := dk_27 (dk_at dksX1_sum_0 22 rfl rfl)
theorem dX1_sum_23 : decode cX1_sum 23 = .ok (.iload 5, 2) := dk_21 5 (dk_at dksX1_sum_1 0 rfl rfl)
theorem dX1_sum_25 : decode cX1_sum 25 = .ok (.iadd, 1) := dk_96 (dk_at dksX1_sum_1 2 rfl rfl)
theorem dX1_sum_26 : decode cX1_sum 26 = .ok (.istore_n 1, 1) := dk_60 (dk_at dksX1_sum_1 3 rfl rfl)
theorem dX1_sum_27 : decode cX1_sum 27 = .ok (.iinc 4 1, 3) := dk_132 4 1 (dk_at dksX1_sum_1 4 rfl rfl)
theorem dX1_sum_30 : decode cX1_sum 30 = .ok (.goto (-20), 3) := dk_167 255 236 (dk_at dksX1_sum_1 7 rfl rfl)
theorem dX1_sum_33 : decode cX1_sum 33 = .ok (.iload_n 1, 1) := dk_27 (dk_at dksX1_sum_1 10 rfl rfl)
theorem dX1_sum_34 : decode cX1_sum 34 = .ok (.ireturn, 1) := dk_172 (dk_at dksX1_sum_1 11 rfl rfl)
abbrev cX1_who : ByteArray := prog_1_method_21_code
def yX1_who : MethodName := ⟨RX1, "who", "(Z)I"⟩
def dkwX1_who_2 : List UInt8 := [154, 0, 9, 28, 4, 29, 120, 128, 61, 132, 3, 1, 167, 255, 201, 28, 172]
abbrev dktX1_who_2 : List UInt8 := dkwX1_who_2 ++ []
def dkwX1_who_1 : List UInt8 := [46, 42, 180, 0, 25, 29, 182, 0, 155, 160, 0, 23, 167, 0, 14, 42, 180, 0, 36, 29, 182, 0, 173]
abbrev dktX1_who_1 : List UInt8 := dkwX1_who_1 ++ dktX1_who_2
def dkwX1_who_0 : List UInt8 := [3, 61, 3, 62, 29, 42, 182, 0, 194, 162, 0, 53, 27, 153, 0, 26, 42, 180, 0, 36, 180, 0, 158, 29]
abbrev dktX1_who_0 : List UInt8 := dkwX1_who_0 ++ dktX1_who_1
theorem dksX1_who_0 : cX1_who.data.toList.drop 0 = dktX1_who_0 := by decide +kernel
theorem dksX1_who_1 : cX1_who.data.toList.drop 24 = dktX1_who_1 := dk_seg dksX1_who_0 24 rfl rfl
theorem dksX1_who_2 : cX1_who.data.toList.drop 47 = dktX1_who_2 := dk_seg dksX1_who_1 23 rfl rfl
theorem dX1_who_0 : decode cX1_who 0 = .ok (.iconst 0, 1) := dk_3 (dk_at dksX1_who_0 0 rfl rfl)
theorem dX1_who_1 : decode cX1_who 1 = .ok (.istore_n 2, 1) := dk_61 (dk_at dksX1_who_0 1 rfl rfl)
theorem dX1_who_2 : decode cX1_who 2 = .ok (.iconst 0, 1) := dk_3 (dk_at dksX1_who_0 2 rfl rfl)
theorem dX1_who_3 : decode cX1_who 3 = .ok (.istore_n 3, 1) := dk_62 (dk_at dksX1_who_0 3 rfl rfl)
theorem dX1_who_4 : decode cX1_who 4 = .ok (.iload_n 3, 1) := dk_29 (dk_at dksX1_who_0 4 rfl rfl)
theorem dX1_who_5 : decode cX1_who 5 = .ok (.aload_n 0, 1) := dk_42 (dk_at dksX1_who_0 5 rfl rfl)
theorem dX1_who_6 : decode cX1_who 6 = .ok (.invokevirtual 194, 3) := dk_182 0 194 (dk_at dksX1_who_0 6 rfl rfl)
theorem dX1_who_9 : decode cX1_who 9 = .ok (.if_icmp .ge 53, 3) := dk_162 0 53 (dk_at dksX1_who_0 9 rfl rfl)
theorem dX1_who_12 : decode cX1_who 12 = .ok (.iload_n 1, 1) := dk_27 (dk_at dksX1_who_0 12 rfl rfl)
theorem dX1_who_13 : decode cX1_who 13 = .ok (.ifCond .eq 26, 3) := dk_153 0 26 (dk_at dksX1_who_0 13 rfl rfl)
theorem dX1_who_16 : decode cX1_who 16 = .ok (.aload_n 0, 1) := dk_42 (dk_at dksX1_who_0 16 rfl rfl)
theorem dX1_who_17 : decode cX1_who 17 = .ok (.getfield 36, 3) := dk_180 0 36 (dk_at dksX1_who_0 17 rfl rfl)
theorem dX1_who_20 : decode cX1_who 20 = .ok (.getfield 158, 3) := dk_180 0 158 (dk_at dksX1_who_0 20 rfl rfl)
theorem dX1_who_23 : decode cX1_who 23 = .ok (.iload_n 3, 1) := dk_29 (dk_at dksX1_who_0 23 rfl rfl)
theorem dX1_who_24 : decode cX1_who 24 = .ok (.iaload, 1) := dk_46 (dk_at dksX1_who_1 0 rfl rfl)
theorem dX1_who_25 : decode cX1_who 25 = .ok (.aload_n 0, 1) := dk_42 (dk_at dksX1_who_1 1 rfl rfl)
theorem dX1_who_26 : decode cX1_who 26 = .ok (.getfield 25, 3) := dk_180 0 25 (dk_at dksX1_who_1 2 rfl rfl)
theorem dX1_who_29 : decode cX1_who 29 = .ok (.iload_n 3, 1) := dk_29 (dk_at dksX1_who_1 5 rfl rfl)
theorem dX1_who_30 : decode cX1_who 30 = .ok (.invokevirtual 155, 3) := dk_182 0 155 (dk_at dksX1_who_1 6 rfl rfl)
theorem dX1_who_33 : decode cX1_who 33 = .ok (.if_icmp .ne 23, 3) := dk_160 0 23 (dk_at dksX1_who_1 9 rfl rfl)
theorem dX1_who_36 : decode cX1_who 36 = .ok (.goto 14, 3) := dk_167 0 14 (dk_at dksX1_who_1 12 rfl rfl)
theorem dX1_who_39 : decode cX1_who 39 = .ok (.aload_n 0, 1) := dk_42 (dk_at dksX1_who_1 15 rfl rfl)
theorem dX1_who_40 : decode cX1_who 40 = .ok (.getfield 36, 3) := dk_180 0 36 (dk_at dksX1_who_1 16 rfl rfl)
theorem dX1_who_43 : decode cX1_who 43 = .ok (.iload_n 3, 1) := dk_29 (dk_at dksX1_who_1 19 rfl rfl)
theorem dX1_who_44 : decode cX1_who 44 = .ok (.invokevirtual 173, 3) := dk_182 0 173 (dk_at dksX1_who_1 20 rfl rfl)
theorem dX1_who_47 : decode cX1_who 47 = .ok (.ifCond .ne 9, 3) := dk_154 0 9 (dk_at dksX1_who_2 0 rfl rfl)
theorem dX1_who_50 : decode cX1_who 50 = .ok (.iload_n 2, 1) := dk_28 (dk_at dksX1_who_2 3 rfl rfl)
theorem dX1_who_51 : decode cX1_who 51 = .ok (.iconst 1, 1) := dk_4 (dk_at dksX1_who_2 4 rfl rfl)
theorem dX1_who_52 : decode cX1_who 52 = .ok (.iload_n 3, 1) := dk_29 (dk_at dksX1_who_2 5 rfl rfl)
theorem dX1_who_53 : decode cX1_who 53 = .ok (.ishl, 1) := dk_120 (dk_at dksX1_who_2 6 rfl rfl)
theorem dX1_who_54 : decode cX1_who 54 = .ok (.ior, 1) := dk_128 (dk_at dksX1_who_2 7 rfl rfl)
theorem dX1_who_55 : decode cX1_who 55 = .ok (.istore_n 2, 1) := dk_61 (dk_at dksX1_who_2 8 rfl rfl)
theorem dX1_who_56 : decode cX1_who 56 = .ok (.iinc 3 1, 3) := dk_132 3 1 (dk_at dksX1_who_2 9 rfl rfl)
theorem dX1_who_59 : decode cX1_who 59 = .ok (.goto (-55), 3) := dk_167 255 201 (dk_at dksX1_who_2 12 rfl rfl)
theorem dX1_who_62 : decode cX1_who 62 = .ok (.iload_n 2, 1) := dk_28 (dk_at dksX1_who_2 15 rfl rfl)
theorem dX1_who_63 : decode cX1_who 63 = .ok (.ireturn, 1) := dk_172 (dk_at dksX1_who_2 16 rfl rfl)
abbrev cX1_many : ByteArray := prog_1_method_3_code
def yX1_many : MethodName := ⟨RX1, "many", "(I)I"⟩
theorem dX1_many_0 : decode cX1_many 0 = .ok (.iload_n 0, 1) := by decide +kernel
theorem dX1_many_1 : decode cX1_many 1 = .ok (.invokestatic 1, 3) := by decide +kernel
theorem dX1_many_4 : decode cX1_many 4 = .ok (.ireturn, 1) := by decide +kernel
abbrev cX1_cross : ByteArray := prog_1_method_25_code
def yX1_cross : MethodName := ⟨RX1, "cross", "(II)I"⟩
def dkwX1_cross_1 : List UInt8 := [183, 0, 254, 182, 1, 1, 167, 0, 4, 2, 172]
abbrev dktX1_cross_1 : List UInt8 := dkwX1_cross_1 ++ []
def dkwX1_cross_0 : List UInt8 := [42, 27, 182, 0, 146, 153, 0, 27, 42, 28, 182, 0, 176, 153, 0, 19, 42, 187, 0, 252, 89, 27, 28]
abbrev dktX1_cross_0 : List UInt8 := dkwX1_cross_0 ++ dktX1_cross_1
theorem dksX1_cross_0 : cX1_cross.data.toList.drop 0 = dktX1_cross_0 := by decide +kernel
theorem dksX1_cross_1 : cX1_cross.data.toList.drop 23 = dktX1_cross_1 := dk_seg dksX1_cross_0 23 rfl rfl
theorem dX1_cross_0 : decode cX1_cross 0 = .ok (.aload_n 0, 1) := dk_42 (dk_at dksX1_cross_0 0 rfl rfl)
theorem dX1_cross_1 : decode cX1_cross 1 = .ok (.iload_n 1, 1) := dk_27 (dk_at dksX1_cross_0 1 rfl rfl)
theorem dX1_cross_2 : decode cX1_cross 2 = .ok (.invokevirtual 146, 3) := dk_182 0 146 (dk_at dksX1_cross_0 2 rfl rfl)
theorem dX1_cross_5 : decode cX1_cross 5 = .ok (.ifCond .eq 27, 3) := dk_153 0 27 (dk_at dksX1_cross_0 5 rfl rfl)
theorem dX1_cross_8 : decode cX1_cross 8 = .ok (.aload_n 0, 1) := dk_42 (dk_at dksX1_cross_0 8 rfl rfl)
theorem dX1_cross_9 : decode cX1_cross 9 = .ok (.iload_n 2, 1) := dk_28 (dk_at dksX1_cross_0 9 rfl rfl)
theorem dX1_cross_10 : decode cX1_cross 10 = .ok (.invokevirtual 176, 3) := dk_182 0 176 (dk_at dksX1_cross_0 10 rfl rfl)
theorem dX1_cross_13 : decode cX1_cross 13 = .ok (.ifCond .eq 19, 3) := dk_153 0 19 (dk_at dksX1_cross_0 13 rfl rfl)
theorem dX1_cross_16 : decode cX1_cross 16 = .ok (.aload_n 0, 1) := dk_42 (dk_at dksX1_cross_0 16 rfl rfl)
theorem dX1_cross_17 : decode cX1_cross 17 = .ok (.new 252, 3) := dk_187 0 252 (dk_at dksX1_cross_0 17 rfl rfl)
theorem dX1_cross_20 : decode cX1_cross 20 = .ok (.dup, 1) := dk_89 (dk_at dksX1_cross_0 20 rfl rfl)
theorem dX1_cross_21 : decode cX1_cross 21 = .ok (.iload_n 1, 1) := dk_27 (dk_at dksX1_cross_0 21 rfl rfl)
theorem dX1_cross_22 : decode cX1_cross 22 = .ok (.iload_n 2, 1) := dk_28 (dk_at dksX1_cross_0 22 rfl rfl)
theorem dX1_cross_23 : decode cX1_cross 23 = .ok (.invokespecial 254, 3) := dk_183 0 254 (dk_at dksX1_cross_1 0 rfl rfl)
theorem dX1_cross_26 : decode cX1_cross 26 = .ok (.invokevirtual 257, 3) := dk_182 1 1 (dk_at dksX1_cross_1 3 rfl rfl)
theorem dX1_cross_29 : decode cX1_cross 29 = .ok (.goto 4, 3) := dk_167 0 4 (dk_at dksX1_cross_1 6 rfl rfl)
theorem dX1_cross_32 : decode cX1_cross 32 = .ok (.iconst (-1), 1) := dk_2 (dk_at dksX1_cross_1 9 rfl rfl)
theorem dX1_cross_33 : decode cX1_cross 33 = .ok (.ireturn, 1) := dk_172 (dk_at dksX1_cross_1 10 rfl rfl)
abbrev cX1_isPerson : ByteArray := prog_1_method_14_code
def yX1_isPerson : MethodName := ⟨RX1, "isPerson", "(I)Z"⟩
def dkwX1_isPerson_0 : List UInt8 := [42, 180, 0, 25, 27, 182, 0, 131, 172]
abbrev dktX1_isPerson_0 : List UInt8 := dkwX1_isPerson_0 ++ []
theorem dksX1_isPerson_0 : cX1_isPerson.data.toList.drop 0 = dktX1_isPerson_0 := by decide +kernel
theorem dX1_isPerson_0 : decode cX1_isPerson 0 = .ok (.aload_n 0, 1) := dk_42 (dk_at dksX1_isPerson_0 0 rfl rfl)
theorem dX1_isPerson_1 : decode cX1_isPerson 1 = .ok (.getfield 25, 3) := dk_180 0 25 (dk_at dksX1_isPerson_0 1 rfl rfl)
theorem dX1_isPerson_4 : decode cX1_isPerson 4 = .ok (.iload_n 1, 1) := dk_27 (dk_at dksX1_isPerson_0 4 rfl rfl)
theorem dX1_isPerson_5 : decode cX1_isPerson 5 = .ok (.invokevirtual 131, 3) := dk_182 0 131 (dk_at dksX1_isPerson_0 5 rfl rfl)
theorem dX1_isPerson_8 : decode cX1_isPerson 8 = .ok (.ireturn, 1) := dk_172 (dk_at dksX1_isPerson_0 8 rfl rfl)
abbrev cX1_does : ByteArray := prog_1_method_24_code
def yX1_does : MethodName := ⟨RX1, "does", "(LInchBorders$Act;)I"⟩
def dkwX1_does_1 : List UInt8 := [172, 42, 182, 0, 249, 42, 180, 0, 36, 42, 180, 0, 40, 182, 0, 239, 87, 3, 172]
abbrev dktX1_does_1 : List UInt8 := dkwX1_does_1 ++ []
def dkwX1_does_0 : List UInt8 := [43, 42, 180, 0, 40, 42, 180, 0, 36, 182, 0, 239, 182, 0, 243, 61, 28, 153, 0, 8, 28, 16, 10, 112]
abbrev dktX1_does_0 : List UInt8 := dkwX1_does_0 ++ dktX1_does_1
theorem dksX1_does_0 : cX1_does.data.toList.drop 0 = dktX1_does_0 := by decide +kernel
theorem dksX1_does_1 : cX1_does.data.toList.drop 24 = dktX1_does_1 := dk_seg dksX1_does_0 24 rfl rfl
theorem dX1_does_0 : decode cX1_does 0 = .ok (.aload_n 1, 1) := dk_43 (dk_at dksX1_does_0 0 rfl rfl)
theorem dX1_does_1 : decode cX1_does 1 = .ok (.aload_n 0, 1) := dk_42 (dk_at dksX1_does_0 1 rfl rfl)
theorem dX1_does_2 : decode cX1_does 2 = .ok (.getfield 40, 3) := dk_180 0 40 (dk_at dksX1_does_0 2 rfl rfl)
theorem dX1_does_5 : decode cX1_does 5 = .ok (.aload_n 0, 1) := dk_42 (dk_at dksX1_does_0 5 rfl rfl)
theorem dX1_does_6 : decode cX1_does 6 = .ok (.getfield 36, 3) := dk_180 0 36 (dk_at dksX1_does_0 6 rfl rfl)
theorem dX1_does_9 : decode cX1_does 9 = .ok (.invokevirtual 239, 3) := dk_182 0 239 (dk_at dksX1_does_0 9 rfl rfl)
theorem dX1_does_12 : decode cX1_does 12 = .ok (.invokevirtual 243, 3) := dk_182 0 243 (dk_at dksX1_does_0 12 rfl rfl)
theorem dX1_does_15 : decode cX1_does 15 = .ok (.istore_n 2, 1) := dk_61 (dk_at dksX1_does_0 15 rfl rfl)
theorem dX1_does_16 : decode cX1_does 16 = .ok (.iload_n 2, 1) := dk_28 (dk_at dksX1_does_0 16 rfl rfl)
theorem dX1_does_17 : decode cX1_does 17 = .ok (.ifCond .eq 8, 3) := dk_153 0 8 (dk_at dksX1_does_0 17 rfl rfl)
theorem dX1_does_20 : decode cX1_does 20 = .ok (.iload_n 2, 1) := dk_28 (dk_at dksX1_does_0 20 rfl rfl)
theorem dX1_does_21 : decode cX1_does 21 = .ok (.bipush 10, 2) := dk_16 10 (dk_at dksX1_does_0 21 rfl rfl)
theorem dX1_does_23 : decode cX1_does 23 = .ok (.irem, 1) := dk_112 (dk_at dksX1_does_0 23 rfl rfl)
theorem dX1_does_24 : decode cX1_does 24 = .ok (.ireturn, 1) := dk_172 (dk_at dksX1_does_1 0 rfl rfl)
theorem dX1_does_25 : decode cX1_does 25 = .ok (.aload_n 0, 1) := dk_42 (dk_at dksX1_does_1 1 rfl rfl)
theorem dX1_does_26 : decode cX1_does 26 = .ok (.invokevirtual 249, 3) := dk_182 0 249 (dk_at dksX1_does_1 2 rfl rfl)
theorem dX1_does_29 : decode cX1_does 29 = .ok (.aload_n 0, 1) := dk_42 (dk_at dksX1_does_1 5 rfl rfl)
theorem dX1_does_30 : decode cX1_does 30 = .ok (.getfield 36, 3) := dk_180 0 36 (dk_at dksX1_does_1 6 rfl rfl)
theorem dX1_does_33 : decode cX1_does 33 = .ok (.aload_n 0, 1) := dk_42 (dk_at dksX1_does_1 9 rfl rfl)
theorem dX1_does_34 : decode cX1_does 34 = .ok (.getfield 40, 3) := dk_180 0 40 (dk_at dksX1_does_1 10 rfl rfl)
theorem dX1_does_37 : decode cX1_does 37 = .ok (.invokevirtual 239, 3) := dk_182 0 239 (dk_at dksX1_does_1 13 rfl rfl)
theorem dX1_does_40 : decode cX1_does 40 = .ok (.pop, 1) := dk_87 (dk_at dksX1_does_1 16 rfl rfl)
theorem dX1_does_41 : decode cX1_does 41 = .ok (.iconst 0, 1) := dk_3 (dk_at dksX1_does_1 17 rfl rfl)
theorem dX1_does_42 : decode cX1_does 42 = .ok (.ireturn, 1) := dk_172 (dk_at dksX1_does_1 18 rfl rfl)
abbrev cX1_snap : ByteArray := prog_1_method_23_code
def yX1_snap : MethodName := ⟨RX1, "snap", "()V"⟩
def dkwX1_snap_3 : List UInt8 := [180, 0, 36, 182, 0, 239, 87, 42, 89, 180, 0, 113, 4, 96, 181, 0, 113, 177]
abbrev dktX1_snap_3 : List UInt8 := dkwX1_snap_3 ++ []
def dkwX1_snap_2 : List UInt8 := [16, 7, 43, 83, 42, 89, 180, 0, 113, 4, 100, 181, 0, 113, 42, 180, 0, 43, 42, 180, 0, 113, 50, 42]
abbrev dktX1_snap_2 : List UInt8 := dkwX1_snap_2 ++ dktX1_snap_3
def dkwX1_snap_1 : List UInt8 := [42, 180, 0, 43, 28, 4, 100, 42, 180, 0, 43, 28, 50, 83, 132, 2, 1, 167, 255, 233, 42, 180, 0, 43]
abbrev dktX1_snap_1 : List UInt8 := dkwX1_snap_1 ++ dktX1_snap_2
def dkwX1_snap_0 : List UInt8 := [42, 180, 0, 113, 16, 8, 160, 0, 56, 42, 180, 0, 43, 3, 50, 76, 4, 61, 28, 16, 8, 162, 0, 23]
abbrev dktX1_snap_0 : List UInt8 := dkwX1_snap_0 ++ dktX1_snap_1
theorem dksX1_snap_0 : cX1_snap.data.toList.drop 0 = dktX1_snap_0 := by decide +kernel
theorem dksX1_snap_1 : cX1_snap.data.toList.drop 24 = dktX1_snap_1 := dk_seg dksX1_snap_0 24 rfl rfl
theorem dksX1_snap_2 : cX1_snap.data.toList.drop 48 = dktX1_snap_2 := dk_seg dksX1_snap_1 24 rfl rfl
theorem dksX1_snap_3 : cX1_snap.data.toList.drop 72 = dktX1_snap_3 := dk_seg dksX1_snap_2 24 rfl rfl
theorem dX1_snap_0 : decode cX1_snap 0 = .ok (.aload_n 0, 1) := dk_42 (dk_at dksX1_snap_0 0 rfl rfl)
theorem dX1_snap_1 : decode cX1_snap 1 = .ok (.getfield 113, 3) := dk_180 0 113 (dk_at dksX1_snap_0 1 rfl rfl)
theorem dX1_snap_4 : decode cX1_snap 4 = .ok (.bipush 8, 2) := dk_16 8 (dk_at dksX1_snap_0 4 rfl rfl)
theorem dX1_snap_6 : decode cX1_snap 6 = .ok (.if_icmp .ne 56, 3) := dk_160 0 56 (dk_at dksX1_snap_0 6 rfl rfl)
theorem dX1_snap_9 : decode cX1_snap 9 = .ok (.aload_n 0, 1) := dk_42 (dk_at dksX1_snap_0 9 rfl rfl)
theorem dX1_snap_10 : decode cX1_snap 10 = .ok (.getfield 43, 3) := dk_180 0 43 (dk_at dksX1_snap_0 10 rfl rfl)
theorem dX1_snap_13 : decode cX1_snap 13 = .ok (.iconst 0, 1) := dk_3 (dk_at dksX1_snap_0 13 rfl rfl)
theorem dX1_snap_14 : decode cX1_snap 14 = .ok (.aaload, 1) := dk_50 (dk_at dksX1_snap_0 14 rfl rfl)
theorem dX1_snap_15 : decode cX1_snap 15 = .ok (.astore_n 1, 1) := dk_76 (dk_at dksX1_snap_0 15 rfl rfl)
theorem dX1_snap_16 : decode cX1_snap 16 = .ok (.iconst 1, 1) := dk_4 (dk_at dksX1_snap_0 16 rfl rfl)
theorem dX1_snap_17 : decode cX1_snap 17 = .ok (.istore_n 2, 1) := dk_61 (dk_at dksX1_snap_0 17 rfl rfl)
theorem dX1_snap_18 : decode cX1_snap 18 = .ok (.iload_n 2, 1) := dk_28 (dk_at dksX1_snap_0 18 rfl rfl)
theorem dX1_snap_19 : decode cX1_snap 19 = .ok (.bipush 8, 2) := dk_16 8 (dk_at dksX1_snap_0 19 rfl rfl)
theorem dX1_snap_21 : decode cX1_snap 21 = .ok (.if_icmp .ge 23, 3) := dk_162 0 23 (dk_at dksX1_snap_0 21 rfl rfl)
theorem dX1_snap_24 : decode cX1_snap 24 = .ok (.aload_n 0, 1) := dk_42 (dk_at dksX1_snap_1 0 rfl rfl)
theorem dX1_snap_25 : decode cX1_snap 25 = .ok (.getfield 43, 3) := dk_180 0 43 (dk_at dksX1_snap_1 1 rfl rfl)
theorem dX1_snap_28 : decode cX1_snap 28 = .ok (.iload_n 2, 1) := dk_28 (dk_at dksX1_snap_1 4 rfl rfl)
theorem dX1_snap_29 : decode cX1_snap 29 = .ok (.iconst 1, 1) := dk_4 (dk_at dksX1_snap_1 5 rfl rfl)
theorem dX1_snap_30 : decode cX1_snap 30 = .ok (.isub, 1) := dk_100 (dk_at dksX1_snap_1 6 rfl rfl)
theorem dX1_snap_31 : decode cX1_snap 31 = .ok (.aload_n 0, 1) := dk_42 (dk_at dksX1_snap_1 7 rfl rfl)
theorem dX1_snap_32 : decode cX1_snap 32 = .ok (.getfield 43, 3) := dk_180 0 43 (dk_at dksX1_snap_1 8 rfl rfl)
theorem dX1_snap_35 : decode cX1_snap 35 = .ok (.iload_n 2, 1) := dk_28 (dk_at dksX1_snap_1 11 rfl rfl)
theorem dX1_snap_36 : decode cX1_snap 36 = .ok (.aaload, 1) := dk_50 (dk_at dksX1_snap_1 12 rfl rfl)
theorem dX1_snap_37 : decode cX1_snap 37 = .ok (.aastore, 1) := dk_83 (dk_at dksX1_snap_1 13 rfl rfl)
theorem dX1_snap_38 : decode cX1_snap 38 = .ok (.iinc 2 1, 3) := dk_132 2 1 (dk_at dksX1_snap_1 14 rfl rfl)
theorem dX1_snap_41 : decode cX1_snap 41 = .ok (.goto (-23), 3) := dk_167 255 233 (dk_at dksX1_snap_1 17 rfl rfl)
theorem dX1_snap_44 : decode cX1_snap 44 = .ok (.aload_n 0, 1) := dk_42 (dk_at dksX1_snap_1 20 rfl rfl)
theorem dX1_snap_45 : decode cX1_snap 45 = .ok (.getfield 43, 3) := dk_180 0 43 (dk_at dksX1_snap_1 21 rfl rfl)
theorem dX1_snap_48 : decode cX1_snap 48 = .ok (.bipush 7, 2) := dk_16 7 (dk_at dksX1_snap_2 0 rfl rfl)
theorem dX1_snap_50 : decode cX1_snap 50 = .ok (.aload_n 1, 1) := dk_43 (dk_at dksX1_snap_2 2 rfl rfl)
theorem dX1_snap_51 : decode cX1_snap 51 = .ok (.aastore, 1) := dk_83 (dk_at dksX1_snap_2 3 rfl rfl)
theorem dX1_snap_52 : decode cX1_snap 52 = .ok (.aload_n 0, 1) := dk_42 (dk_at dksX1_snap_2 4 rfl rfl)
theorem dX1_snap_53 : decode cX1_snap 53 = .ok (.dup, 1) := dk_89 (dk_at dksX1_snap_2 5 rfl rfl)
theorem dX1_snap_54 : decode cX1_snap 54 = .ok (.getfield 113, 3) := dk_180 0 113 (dk_at dksX1_snap_2 6 rfl rfl)
theorem dX1_snap_57 : decode cX1_snap 57 = .ok (.iconst 1, 1) := dk_4 (dk_at dksX1_snap_2 9 rfl rfl)
theorem dX1_snap_58 : decode cX1_snap 58 = .ok (.isub, 1) := dk_100 (dk_at dksX1_snap_2 10 rfl rfl)
theorem dX1_snap_59 : decode cX1_snap 59 = .ok (.putfield 113, 3) := dk_181 0 113 (dk_at dksX1_snap_2 11 rfl rfl)
theorem dX1_snap_62 : decode cX1_snap 62 = .ok (.aload_n 0, 1) := dk_42 (dk_at dksX1_snap_2 14 rfl rfl)
theorem dX1_snap_63 : decode cX1_snap 63 = .ok (.getfield 43, 3) := dk_180 0 43 (dk_at dksX1_snap_2 15 rfl rfl)
theorem dX1_snap_66 : decode cX1_snap 66 = .ok (.aload_n 0, 1) := dk_42 (dk_at dksX1_snap_2 18 rfl rfl)
theorem dX1_snap_67 : decode cX1_snap 67 = .ok (.getfield 113, 3) := dk_180 0 113 (dk_at dksX1_snap_2 19 rfl rfl)
theorem dX1_snap_70 : decode cX1_snap 70 = .ok (.aaload, 1) := dk_50 (dk_at dksX1_snap_2 22 rfl rfl)
theorem dX1_snap_71 : decode cX1_snap 71 = .ok (.aload_n 0, 1) := dk_42 (dk_at dksX1_snap_2 23 rfl rfl)
theorem dX1_snap_72 : decode cX1_snap 72 = .ok (.getfield 36, 3) := dk_180 0 36 (dk_at dksX1_snap_3 0 rfl rfl)
theorem dX1_snap_75 : decode cX1_snap 75 = .ok (.invokevirtual 239, 3) := dk_182 0 239 (dk_at dksX1_snap_3 3 rfl rfl)
theorem dX1_snap_78 : decode cX1_snap 78 = .ok (.pop, 1) := dk_87 (dk_at dksX1_snap_3 6 rfl rfl)
theorem dX1_snap_79 : decode cX1_snap 79 = .ok (.aload_n 0, 1) := dk_42 (dk_at dksX1_snap_3 7 rfl rfl)
theorem dX1_snap_80 : decode cX1_snap 80 = .ok (.dup, 1) := dk_89 (dk_at dksX1_snap_3 8 rfl rfl)
theorem dX1_snap_81 : decode cX1_snap 81 = .ok (.getfield 113, 3) := dk_180 0 113 (dk_at dksX1_snap_3 9 rfl rfl)
theorem dX1_snap_84 : decode cX1_snap 84 = .ok (.iconst 1, 1) := dk_4 (dk_at dksX1_snap_3 12 rfl rfl)
theorem dX1_snap_85 : decode cX1_snap 85 = .ok (.iadd, 1) := dk_96 (dk_at dksX1_snap_3 13 rfl rfl)
theorem dX1_snap_86 : decode cX1_snap 86 = .ok (.putfield 113, 3) := dk_181 0 113 (dk_at dksX1_snap_3 14 rfl rfl)
theorem dX1_snap_89 : decode cX1_snap 89 = .ok (.return_, 1) := dk_177 (dk_at dksX1_snap_3 17 rfl rfl)
abbrev cX1_pact : ByteArray := prog_1_method_27_code
def yX1_pact : MethodName := ⟨RX1, "pact", "(II)I"⟩
def dkwX1_pact_0 : List UInt8 := [42, 27, 28, 4, 182, 1, 9, 172]
abbrev dktX1_pact_0 : List UInt8 := dkwX1_pact_0 ++ []
theorem dksX1_pact_0 : cX1_pact.data.toList.drop 0 = dktX1_pact_0 := by decide +kernel
theorem dX1_pact_0 : decode cX1_pact 0 = .ok (.aload_n 0, 1) := dk_42 (dk_at dksX1_pact_0 0 rfl rfl)
theorem dX1_pact_1 : decode cX1_pact 1 = .ok (.iload_n 1, 1) := dk_27 (dk_at dksX1_pact_0 1 rfl rfl)
theorem dX1_pact_2 : decode cX1_pact 2 = .ok (.iload_n 2, 1) := dk_28 (dk_at dksX1_pact_0 2 rfl rfl)
theorem dX1_pact_3 : decode cX1_pact 3 = .ok (.iconst 1, 1) := dk_4 (dk_at dksX1_pact_0 3 rfl rfl)
theorem dX1_pact_4 : decode cX1_pact 4 = .ok (.invokevirtual 265, 3) := dk_182 1 9 (dk_at dksX1_pact_0 4 rfl rfl)
theorem dX1_pact_7 : decode cX1_pact 7 = .ok (.ireturn, 1) := dk_172 (dk_at dksX1_pact_0 7 rfl rfl)
abbrev cX1_treats : ByteArray := prog_1_method_26_code
def yX1_treats : MethodName := ⟨RX1, "treats", "(IIZ)I"⟩
def dkwX1_treats_1 : List UInt8 := [183, 1, 6, 182, 1, 1, 167, 0, 4, 2, 172]
abbrev dktX1_treats_1 : List UInt8 := dkwX1_treats_1 ++ []
def dkwX1_treats_0 : List UInt8 := [42, 27, 182, 0, 176, 153, 0, 28, 42, 28, 182, 0, 176, 153, 0, 20, 42, 187, 1, 4, 89, 27, 28, 29]
abbrev dktX1_treats_0 : List UInt8 := dkwX1_treats_0 ++ dktX1_treats_1
theorem dksX1_treats_0 : cX1_treats.data.toList.drop 0 = dktX1_treats_0 := by decide +kernel
theorem dksX1_treats_1 : cX1_treats.data.toList.drop 24 = dktX1_treats_1 := dk_seg dksX1_treats_0 24 rfl rfl
theorem dX1_treats_0 : decode cX1_treats 0 = .ok (.aload_n 0, 1) := dk_42 (dk_at dksX1_treats_0 0 rfl rfl)
theorem dX1_treats_1 : decode cX1_treats 1 = .ok (.iload_n 1, 1) := dk_27 (dk_at dksX1_treats_0 1 rfl rfl)
theorem dX1_treats_2 : decode cX1_treats 2 = .ok (.invokevirtual 176, 3) := dk_182 0 176 (dk_at dksX1_treats_0 2 rfl rfl)
theorem dX1_treats_5 : decode cX1_treats 5 = .ok (.ifCond .eq 28, 3) := dk_153 0 28 (dk_at dksX1_treats_0 5 rfl rfl)
theorem dX1_treats_8 : decode cX1_treats 8 = .ok (.aload_n 0, 1) := dk_42 (dk_at dksX1_treats_0 8 rfl rfl)
theorem dX1_treats_9 : decode cX1_treats 9 = .ok (.iload_n 2, 1) := dk_28 (dk_at dksX1_treats_0 9 rfl rfl)
theorem dX1_treats_10 : decode cX1_treats 10 = .ok (.invokevirtual 176, 3) := dk_182 0 176 (dk_at dksX1_treats_0 10 rfl rfl)
theorem dX1_treats_13 : decode cX1_treats 13 = .ok (.ifCond .eq 20, 3) := dk_153 0 20 (dk_at dksX1_treats_0 13 rfl rfl)
theorem dX1_treats_16 : decode cX1_treats 16 = .ok (.aload_n 0, 1) := dk_42 (dk_at dksX1_treats_0 16 rfl rfl)
theorem dX1_treats_17 : decode cX1_treats 17 = .ok (.new 260, 3) := dk_187 1 4 (dk_at dksX1_treats_0 17 rfl rfl)
theorem dX1_treats_20 : decode cX1_treats 20 = .ok (.dup, 1) := dk_89 (dk_at dksX1_treats_0 20 rfl rfl)
theorem dX1_treats_21 : decode cX1_treats 21 = .ok (.iload_n 1, 1) := dk_27 (dk_at dksX1_treats_0 21 rfl rfl)
theorem dX1_treats_22 : decode cX1_treats 22 = .ok (.iload_n 2, 1) := dk_28 (dk_at dksX1_treats_0 22 rfl rfl)
theorem dX1_treats_23 : decode cX1_treats 23 = .ok (.iload_n 3, 1) := dk_29 (dk_at dksX1_treats_0 23 rfl rfl)
theorem dX1_treats_24 : decode cX1_treats 24 = .ok (.invokespecial 262, 3) := dk_183 1 6 (dk_at dksX1_treats_1 0 rfl rfl)
theorem dX1_treats_27 : decode cX1_treats 27 = .ok (.invokevirtual 257, 3) := dk_182 1 1 (dk_at dksX1_treats_1 3 rfl rfl)
theorem dX1_treats_30 : decode cX1_treats 30 = .ok (.goto 4, 3) := dk_167 0 4 (dk_at dksX1_treats_1 6 rfl rfl)
theorem dX1_treats_33 : decode cX1_treats 33 = .ok (.iconst (-1), 1) := dk_2 (dk_at dksX1_treats_1 9 rfl rfl)
theorem dX1_treats_34 : decode cX1_treats 34 = .ok (.ireturn, 1) := dk_172 (dk_at dksX1_treats_1 10 rfl rfl)
abbrev cX1_breaks : ByteArray := prog_1_method_28_code
def yX1_breaks : MethodName := ⟨RX1, "breaks", "(II)I"⟩
def dkwX1_breaks_0 : List UInt8 := [42, 27, 28, 3, 182, 1, 9, 172]
abbrev dktX1_breaks_0 : List UInt8 := dkwX1_breaks_0 ++ []
theorem dksX1_breaks_0 : cX1_breaks.data.toList.drop 0 = dktX1_breaks_0 := by decide +kernel
theorem dX1_breaks_0 : decode cX1_breaks 0 = .ok (.aload_n 0, 1) := dk_42 (dk_at dksX1_breaks_0 0 rfl rfl)
theorem dX1_breaks_1 : decode cX1_breaks 1 = .ok (.iload_n 1, 1) := dk_27 (dk_at dksX1_breaks_0 1 rfl rfl)
theorem dX1_breaks_2 : decode cX1_breaks 2 = .ok (.iload_n 2, 1) := dk_28 (dk_at dksX1_breaks_0 2 rfl rfl)
theorem dX1_breaks_3 : decode cX1_breaks 3 = .ok (.iconst 0, 1) := dk_3 (dk_at dksX1_breaks_0 3 rfl rfl)
theorem dX1_breaks_4 : decode cX1_breaks 4 = .ok (.invokevirtual 265, 3) := dk_182 1 9 (dk_at dksX1_breaks_0 4 rfl rfl)
theorem dX1_breaks_7 : decode cX1_breaks 7 = .ok (.ireturn, 1) := dk_172 (dk_at dksX1_breaks_0 7 rfl rfl)
abbrev cX1_close : ByteArray := prog_1_method_30_code
def yX1_close : MethodName := ⟨RX1, "close", "(I)I"⟩
def dkwX1_close_0 : List UInt8 := [42, 27, 4, 182, 1, 18, 172]
abbrev dktX1_close_0 : List UInt8 := dkwX1_close_0 ++ []
theorem dksX1_close_0 : cX1_close.data.toList.drop 0 = dktX1_close_0 := by decide +kernel
theorem dX1_close_0 : decode cX1_close 0 = .ok (.aload_n 0, 1) := dk_42 (dk_at dksX1_close_0 0 rfl rfl)
theorem dX1_close_1 : decode cX1_close 1 = .ok (.iload_n 1, 1) := dk_27 (dk_at dksX1_close_0 1 rfl rfl)
theorem dX1_close_2 : decode cX1_close 2 = .ok (.iconst 1, 1) := dk_4 (dk_at dksX1_close_0 2 rfl rfl)
theorem dX1_close_3 : decode cX1_close 3 = .ok (.invokevirtual 274, 3) := dk_182 1 18 (dk_at dksX1_close_0 3 rfl rfl)
theorem dX1_close_6 : decode cX1_close 6 = .ok (.ireturn, 1) := dk_172 (dk_at dksX1_close_0 6 rfl rfl)
abbrev cX1_closes : ByteArray := prog_1_method_29_code
def yX1_closes : MethodName := ⟨RX1, "closes", "(IZ)I"⟩
def dkwX1_closes_1 : List UInt8 := [167, 0, 4, 2, 172]
abbrev dktX1_closes_1 : List UInt8 := dkwX1_closes_1 ++ []
def dkwX1_closes_0 : List UInt8 := [27, 3, 16, 11, 184, 0, 147, 153, 0, 19, 42, 187, 1, 13, 89, 27, 28, 183, 1, 15, 182, 1, 1]
abbrev dktX1_closes_0 : List UInt8 := dkwX1_closes_0 ++ dktX1_closes_1
theorem dksX1_closes_0 : cX1_closes.data.toList.drop 0 = dktX1_closes_0 := by decide +kernel
theorem dksX1_closes_1 : cX1_closes.data.toList.drop 23 = dktX1_closes_1 := dk_seg dksX1_closes_0 23 rfl rfl
theorem dX1_closes_0 : decode cX1_closes 0 = .ok (.iload_n 1, 1) := dk_27 (dk_at dksX1_closes_0 0 rfl rfl)
theorem dX1_closes_1 : decode cX1_closes 1 = .ok (.iconst 0, 1) := dk_3 (dk_at dksX1_closes_0 1 rfl rfl)
theorem dX1_closes_2 : decode cX1_closes 2 = .ok (.bipush 11, 2) := dk_16 11 (dk_at dksX1_closes_0 2 rfl rfl)
theorem dX1_closes_4 : decode cX1_closes 4 = .ok (.invokestatic 147, 3) := dk_184 0 147 (dk_at dksX1_closes_0 4 rfl rfl)
theorem dX1_closes_7 : decode cX1_closes 7 = .ok (.ifCond .eq 19, 3) := dk_153 0 19 (dk_at dksX1_closes_0 7 rfl rfl)
theorem dX1_closes_10 : decode cX1_closes 10 = .ok (.aload_n 0, 1) := dk_42 (dk_at dksX1_closes_0 10 rfl rfl)
theorem dX1_closes_11 : decode cX1_closes 11 = .ok (.new 269, 3) := dk_187 1 13 (dk_at dksX1_closes_0 11 rfl rfl)
theorem dX1_closes_14 : decode cX1_closes 14 = .ok (.dup, 1) := dk_89 (dk_at dksX1_closes_0 14 rfl rfl)
theorem dX1_closes_15 : decode cX1_closes 15 = .ok (.iload_n 1, 1) := dk_27 (dk_at dksX1_closes_0 15 rfl rfl)
theorem dX1_closes_16 : decode cX1_closes 16 = .ok (.iload_n 2, 1) := dk_28 (dk_at dksX1_closes_0 16 rfl rfl)
theorem dX1_closes_17 : decode cX1_closes 17 = .ok (.invokespecial 271, 3) := dk_183 1 15 (dk_at dksX1_closes_0 17 rfl rfl)
theorem dX1_closes_20 : decode cX1_closes 20 = .ok (.invokevirtual 257, 3) := dk_182 1 1 (dk_at dksX1_closes_0 20 rfl rfl)
theorem dX1_closes_23 : decode cX1_closes 23 = .ok (.goto 4, 3) := dk_167 0 4 (dk_at dksX1_closes_1 0 rfl rfl)
theorem dX1_closes_26 : decode cX1_closes 26 = .ok (.iconst (-1), 1) := dk_2 (dk_at dksX1_closes_1 3 rfl rfl)
theorem dX1_closes_27 : decode cX1_closes 27 = .ok (.ireturn, 1) := dk_172 (dk_at dksX1_closes_1 4 rfl rfl)
abbrev cX1_open : ByteArray := prog_1_method_31_code
def yX1_open : MethodName := ⟨RX1, "open", "(I)I"⟩
def dkwX1_open_0 : List UInt8 := [42, 27, 3, 182, 1, 18, 172]
abbrev dktX1_open_0 : List UInt8 := dkwX1_open_0 ++ []
theorem dksX1_open_0 : cX1_open.data.toList.drop 0 = dktX1_open_0 := by decide +kernel
theorem dX1_open_0 : decode cX1_open 0 = .ok (.aload_n 0, 1) := dk_42 (dk_at dksX1_open_0 0 rfl rfl)
theorem dX1_open_1 : decode cX1_open 1 = .ok (.iload_n 1, 1) := dk_27 (dk_at dksX1_open_0 1 rfl rfl)
theorem dX1_open_2 : decode cX1_open 2 = .ok (.iconst 0, 1) := dk_3 (dk_at dksX1_open_0 2 rfl rfl)
theorem dX1_open_3 : decode cX1_open 3 = .ok (.invokevirtual 274, 3) := dk_182 1 18 (dk_at dksX1_open_0 3 rfl rfl)
theorem dX1_open_6 : decode cX1_open 6 = .ok (.ireturn, 1) := dk_172 (dk_at dksX1_open_0 6 rfl rfl)
abbrev cX1_lend : ByteArray := prog_1_method_32_code
def yX1_lend : MethodName := ⟨RX1, "lend", "(III)I"⟩
def dkwX1_lend_1 : List UInt8 := [153, 0, 20, 42, 187, 1, 22, 89, 27, 28, 29, 183, 1, 24, 182, 1, 1, 167, 0, 4, 2, 172]
abbrev dktX1_lend_1 : List UInt8 := dkwX1_lend_1 ++ []
def dkwX1_lend_0 : List UInt8 := [42, 27, 182, 0, 176, 153, 0, 38, 42, 28, 182, 0, 176, 153, 0, 30, 29, 4, 16, 99, 184, 0, 147]
abbrev dktX1_lend_0 : List UInt8 := dkwX1_lend_0 ++ dktX1_lend_1
theorem dksX1_lend_0 : cX1_lend.data.toList.drop 0 = dktX1_lend_0 := by decide +kernel
theorem dksX1_lend_1 : cX1_lend.data.toList.drop 23 = dktX1_lend_1 := dk_seg dksX1_lend_0 23 rfl rfl
theorem dX1_lend_0 : decode cX1_lend 0 = .ok (.aload_n 0, 1) := dk_42 (dk_at dksX1_lend_0 0 rfl rfl)
theorem dX1_lend_1 : decode cX1_lend 1 = .ok (.iload_n 1, 1) := dk_27 (dk_at dksX1_lend_0 1 rfl rfl)
theorem dX1_lend_2 : decode cX1_lend 2 = .ok (.invokevirtual 176, 3) := dk_182 0 176 (dk_at dksX1_lend_0 2 rfl rfl)
theorem dX1_lend_5 : decode cX1_lend 5 = .ok (.ifCond .eq 38, 3) := dk_153 0 38 (dk_at dksX1_lend_0 5 rfl rfl)
theorem dX1_lend_8 : decode cX1_lend 8 = .ok (.aload_n 0, 1) := dk_42 (dk_at dksX1_lend_0 8 rfl rfl)
theorem dX1_lend_9 : decode cX1_lend 9 = .ok (.iload_n 2, 1) := dk_28 (dk_at dksX1_lend_0 9 rfl rfl)
theorem dX1_lend_10 : decode cX1_lend 10 = .ok (.invokevirtual 176, 3) := dk_182 0 176 (dk_at dksX1_lend_0 10 rfl rfl)
theorem dX1_lend_13 : decode cX1_lend 13 = .ok (.ifCond .eq 30, 3) := dk_153 0 30 (dk_at dksX1_lend_0 13 rfl rfl)
theorem dX1_lend_16 : decode cX1_lend 16 = .ok (.iload_n 3, 1) := dk_29 (dk_at dksX1_lend_0 16 rfl rfl)
theorem dX1_lend_17 : decode cX1_lend 17 = .ok (.iconst 1, 1) := dk_4 (dk_at dksX1_lend_0 17 rfl rfl)
theorem dX1_lend_18 : decode cX1_lend 18 = .ok (.bipush 99, 2) := dk_16 99 (dk_at dksX1_lend_0 18 rfl rfl)
theorem dX1_lend_20 : decode cX1_lend 20 = .ok (.invokestatic 147, 3) := dk_184 0 147 (dk_at dksX1_lend_0 20 rfl rfl)
theorem dX1_lend_23 : decode cX1_lend 23 = .ok (.ifCond .eq 20, 3) := dk_153 0 20 (dk_at dksX1_lend_1 0 rfl rfl)
theorem dX1_lend_26 : decode cX1_lend 26 = .ok (.aload_n 0, 1) := dk_42 (dk_at dksX1_lend_1 3 rfl rfl)
theorem dX1_lend_27 : decode cX1_lend 27 = .ok (.new 278, 3) := dk_187 1 22 (dk_at dksX1_lend_1 4 rfl rfl)
theorem dX1_lend_30 : decode cX1_lend 30 = .ok (.dup, 1) := dk_89 (dk_at dksX1_lend_1 7 rfl rfl)
theorem dX1_lend_31 : decode cX1_lend 31 = .ok (.iload_n 1, 1) := dk_27 (dk_at dksX1_lend_1 8 rfl rfl)
theorem dX1_lend_32 : decode cX1_lend 32 = .ok (.iload_n 2, 1) := dk_28 (dk_at dksX1_lend_1 9 rfl rfl)
theorem dX1_lend_33 : decode cX1_lend 33 = .ok (.iload_n 3, 1) := dk_29 (dk_at dksX1_lend_1 10 rfl rfl)
theorem dX1_lend_34 : decode cX1_lend 34 = .ok (.invokespecial 280, 3) := dk_183 1 24 (dk_at dksX1_lend_1 11 rfl rfl)
theorem dX1_lend_37 : decode cX1_lend 37 = .ok (.invokevirtual 257, 3) := dk_182 1 1 (dk_at dksX1_lend_1 14 rfl rfl)
theorem dX1_lend_40 : decode cX1_lend 40 = .ok (.goto 4, 3) := dk_167 0 4 (dk_at dksX1_lend_1 17 rfl rfl)
theorem dX1_lend_43 : decode cX1_lend 43 = .ok (.iconst (-1), 1) := dk_2 (dk_at dksX1_lend_1 20 rfl rfl)
theorem dX1_lend_44 : decode cX1_lend 44 = .ok (.ireturn, 1) := dk_172 (dk_at dksX1_lend_1 21 rfl rfl)
abbrev cX1_days : ByteArray := prog_1_method_33_code
def yX1_days : MethodName := ⟨RX1, "days", "(I)I"⟩
def dkwX1_days_1 : List UInt8 := [42, 182, 0, 249, 42, 180, 0, 36, 27, 182, 1, 31, 172]
abbrev dktX1_days_1 : List UInt8 := dkwX1_days_1 ++ []
def dkwX1_days_0 : List UInt8 := [27, 4, 16, 60, 184, 0, 147, 154, 0, 5, 2, 172, 42, 180, 0, 36, 182, 1, 27, 153, 0, 5, 3, 172]
abbrev dktX1_days_0 : List UInt8 := dkwX1_days_0 ++ dktX1_days_1
theorem dksX1_days_0 : cX1_days.data.toList.drop 0 = dktX1_days_0 := by decide +kernel
theorem dksX1_days_1 : cX1_days.data.toList.drop 24 = dktX1_days_1 := dk_seg dksX1_days_0 24 rfl rfl
theorem dX1_days_0 : decode cX1_days 0 = .ok (.iload_n 1, 1) := dk_27 (dk_at dksX1_days_0 0 rfl rfl)
theorem dX1_days_1 : decode cX1_days 1 = .ok (.iconst 1, 1) := dk_4 (dk_at dksX1_days_0 1 rfl rfl)
theorem dX1_days_2 : decode cX1_days 2 = .ok (.bipush 60, 2) := dk_16 60 (dk_at dksX1_days_0 2 rfl rfl)
theorem dX1_days_4 : decode cX1_days 4 = .ok (.invokestatic 147, 3) := dk_184 0 147 (dk_at dksX1_days_0 4 rfl rfl)
theorem dX1_days_7 : decode cX1_days 7 = .ok (.ifCond .ne 5, 3) := dk_154 0 5 (dk_at dksX1_days_0 7 rfl rfl)
theorem dX1_days_10 : decode cX1_days 10 = .ok (.iconst (-1), 1) := dk_2 (dk_at dksX1_days_0 10 rfl rfl)
theorem dX1_days_11 : decode cX1_days 11 = .ok (.ireturn, 1) := dk_172 (dk_at dksX1_days_0 11 rfl rfl)
theorem dX1_days_12 : decode cX1_days 12 = .ok (.aload_n 0, 1) := dk_42 (dk_at dksX1_days_0 12 rfl rfl)
theorem dX1_days_13 : decode cX1_days 13 = .ok (.getfield 36, 3) := dk_180 0 36 (dk_at dksX1_days_0 13 rfl rfl)
theorem dX1_days_16 : decode cX1_days 16 = .ok (.invokevirtual 283, 3) := dk_182 1 27 (dk_at dksX1_days_0 16 rfl rfl)
theorem dX1_days_19 : decode cX1_days 19 = .ok (.ifCond .eq 5, 3) := dk_153 0 5 (dk_at dksX1_days_0 19 rfl rfl)
theorem dX1_days_22 : decode cX1_days 22 = .ok (.iconst 0, 1) := dk_3 (dk_at dksX1_days_0 22 rfl rfl)
theorem dX1_days_23 : decode cX1_days 23 = .ok (.ireturn, 1) := dk_172 (dk_at dksX1_days_0 23 rfl rfl)
theorem dX1_days_24 : decode cX1_days 24 = .ok (.aload_n 0, 1) := dk_42 (dk_at dksX1_days_1 0 rfl rfl)
theorem dX1_days_25 : decode cX1_days 25 = .ok (.invokevirtual 249, 3) := dk_182 0 249 (dk_at dksX1_days_1 1 rfl rfl)
theorem dX1_days_28 : decode cX1_days 28 = .ok (.aload_n 0, 1) := dk_42 (dk_at dksX1_days_1 4 rfl rfl)
theorem dX1_days_29 : decode cX1_days 29 = .ok (.getfield 36, 3) := dk_180 0 36 (dk_at dksX1_days_1 5 rfl rfl)
theorem dX1_days_32 : decode cX1_days 32 = .ok (.iload_n 1, 1) := dk_27 (dk_at dksX1_days_1 8 rfl rfl)
theorem dX1_days_33 : decode cX1_days 33 = .ok (.invokevirtual 287, 3) := dk_182 1 31 (dk_at dksX1_days_1 9 rfl rfl)
theorem dX1_days_36 : decode cX1_days 36 = .ok (.ireturn, 1) := dk_172 (dk_at dksX1_days_1 12 rfl rfl)
abbrev cX1_undo : ByteArray := prog_1_method_34_code
def yX1_undo : MethodName := ⟨RX1, "undo", "()I"⟩
def dkwX1_undo_1 : List UInt8 := [180, 0, 43, 42, 180, 0, 113, 50, 182, 0, 239, 87, 42, 180, 0, 113, 172]
abbrev dktX1_undo_1 : List UInt8 := dkwX1_undo_1 ++ []
def dkwX1_undo_0 : List UInt8 := [42, 180, 0, 113, 154, 0, 5, 2, 172, 42, 89, 180, 0, 113, 4, 100, 181, 0, 113, 42, 180, 0, 36, 42]
abbrev dktX1_undo_0 : List UInt8 := dkwX1_undo_0 ++ dktX1_undo_1
theorem dksX1_undo_0 : cX1_undo.data.toList.drop 0 = dktX1_undo_0 := by decide +kernel
theorem dksX1_undo_1 : cX1_undo.data.toList.drop 24 = dktX1_undo_1 := dk_seg dksX1_undo_0 24 rfl rfl
theorem dX1_undo_0 : decode cX1_undo 0 = .ok (.aload_n 0, 1) := dk_42 (dk_at dksX1_undo_0 0 rfl rfl)
theorem dX1_undo_1 : decode cX1_undo 1 = .ok (.getfield 113, 3) := dk_180 0 113 (dk_at dksX1_undo_0 1 rfl rfl)
theorem dX1_undo_4 : decode cX1_undo 4 = .ok (.ifCond .ne 5, 3) := dk_154 0 5 (dk_at dksX1_undo_0 4 rfl rfl)
theorem dX1_undo_7 : decode cX1_undo 7 = .ok (.iconst (-1), 1) := dk_2 (dk_at dksX1_undo_0 7 rfl rfl)
theorem dX1_undo_8 : decode cX1_undo 8 = .ok (.ireturn, 1) := dk_172 (dk_at dksX1_undo_0 8 rfl rfl)
theorem dX1_undo_9 : decode cX1_undo 9 = .ok (.aload_n 0, 1) := dk_42 (dk_at dksX1_undo_0 9 rfl rfl)
theorem dX1_undo_10 : decode cX1_undo 10 = .ok (.dup, 1) := dk_89 (dk_at dksX1_undo_0 10 rfl rfl)
theorem dX1_undo_11 : decode cX1_undo 11 = .ok (.getfield 113, 3) := dk_180 0 113 (dk_at dksX1_undo_0 11 rfl rfl)
theorem dX1_undo_14 : decode cX1_undo 14 = .ok (.iconst 1, 1) := dk_4 (dk_at dksX1_undo_0 14 rfl rfl)
theorem dX1_undo_15 : decode cX1_undo 15 = .ok (.isub, 1) := dk_100 (dk_at dksX1_undo_0 15 rfl rfl)
theorem dX1_undo_16 : decode cX1_undo 16 = .ok (.putfield 113, 3) := dk_181 0 113 (dk_at dksX1_undo_0 16 rfl rfl)
theorem dX1_undo_19 : decode cX1_undo 19 = .ok (.aload_n 0, 1) := dk_42 (dk_at dksX1_undo_0 19 rfl rfl)
theorem dX1_undo_20 : decode cX1_undo 20 = .ok (.getfield 36, 3) := dk_180 0 36 (dk_at dksX1_undo_0 20 rfl rfl)
theorem dX1_undo_23 : decode cX1_undo 23 = .ok (.aload_n 0, 1) := dk_42 (dk_at dksX1_undo_0 23 rfl rfl)
theorem dX1_undo_24 : decode cX1_undo 24 = .ok (.getfield 43, 3) := dk_180 0 43 (dk_at dksX1_undo_1 0 rfl rfl)
theorem dX1_undo_27 : decode cX1_undo 27 = .ok (.aload_n 0, 1) := dk_42 (dk_at dksX1_undo_1 3 rfl rfl)
theorem dX1_undo_28 : decode cX1_undo 28 = .ok (.getfield 113, 3) := dk_180 0 113 (dk_at dksX1_undo_1 4 rfl rfl)
theorem dX1_undo_31 : decode cX1_undo 31 = .ok (.aaload, 1) := dk_50 (dk_at dksX1_undo_1 7 rfl rfl)
theorem dX1_undo_32 : decode cX1_undo 32 = .ok (.invokevirtual 239, 3) := dk_182 0 239 (dk_at dksX1_undo_1 8 rfl rfl)
theorem dX1_undo_35 : decode cX1_undo 35 = .ok (.pop, 1) := dk_87 (dk_at dksX1_undo_1 11 rfl rfl)
theorem dX1_undo_36 : decode cX1_undo 36 = .ok (.aload_n 0, 1) := dk_42 (dk_at dksX1_undo_1 12 rfl rfl)
theorem dX1_undo_37 : decode cX1_undo 37 = .ok (.getfield 113, 3) := dk_180 0 113 (dk_at dksX1_undo_1 13 rfl rfl)
theorem dX1_undo_40 : decode cX1_undo 40 = .ok (.ireturn, 1) := dk_172 (dk_at dksX1_undo_1 16 rfl rfl)
abbrev cX1_way : ByteArray := prog_1_method_36_code
def yX1_way : MethodName := ⟨RX1, "way", "(III)I"⟩
def dkwX1_way_2 : List UInt8 := [180, 1, 45, 3, 42, 180, 0, 47, 3, 21, 5, 184, 1, 48, 42, 21, 5, 181, 1, 54, 21, 5, 172]
abbrev dktX1_way_2 : List UInt8 := dkwX1_way_2 ++ []
def dkwX1_way_1 : List UInt8 := [183, 1, 39, 58, 4, 25, 4, 27, 182, 1, 42, 54, 5, 21, 5, 2, 160, 0, 5, 2, 172, 25, 4]
abbrev dktX1_way_1 : List UInt8 := dkwX1_way_1 ++ dktX1_way_2
def dkwX1_way_0 : List UInt8 := [42, 27, 28, 29, 182, 1, 34, 154, 0, 5, 2, 172, 187, 1, 37, 89, 42, 180, 0, 36, 27, 3, 28, 29]
abbrev dktX1_way_0 : List UInt8 := dkwX1_way_0 ++ dktX1_way_1
theorem dksX1_way_0 : cX1_way.data.toList.drop 0 = dktX1_way_0 := by decide +kernel
theorem dksX1_way_1 : cX1_way.data.toList.drop 24 = dktX1_way_1 := dk_seg dksX1_way_0 24 rfl rfl
theorem dksX1_way_2 : cX1_way.data.toList.drop 47 = dktX1_way_2 := dk_seg dksX1_way_1 23 rfl rfl
theorem dX1_way_0 : decode cX1_way 0 = .ok (.aload_n 0, 1) := dk_42 (dk_at dksX1_way_0 0 rfl rfl)
theorem dX1_way_1 : decode cX1_way 1 = .ok (.iload_n 1, 1) := dk_27 (dk_at dksX1_way_0 1 rfl rfl)
theorem dX1_way_2 : decode cX1_way 2 = .ok (.iload_n 2, 1) := dk_28 (dk_at dksX1_way_0 2 rfl rfl)
theorem dX1_way_3 : decode cX1_way 3 = .ok (.iload_n 3, 1) := dk_29 (dk_at dksX1_way_0 3 rfl rfl)
theorem dX1_way_4 : decode cX1_way 4 = .ok (.invokevirtual 290, 3) := dk_182 1 34 (dk_at dksX1_way_0 4 rfl rfl)
theorem dX1_way_7 : decode cX1_way 7 = .ok (.ifCond .ne 5, 3) := dk_154 0 5 (dk_at dksX1_way_0 7 rfl rfl)
theorem dX1_way_10 : decode cX1_way 10 = .ok (.iconst (-1), 1) := dk_2 (dk_at dksX1_way_0 10 rfl rfl)
theorem dX1_way_11 : decode cX1_way 11 = .ok (.ireturn, 1) := dk_172 (dk_at dksX1_way_0 11 rfl rfl)
theorem dX1_way_12 : decode cX1_way 12 = .ok (.new 293, 3) := dk_187 1 37 (dk_at dksX1_way_0 12 rfl rfl)
theorem dX1_way_15 : decode cX1_way 15 = .ok (.dup, 1) := dk_89 (dk_at dksX1_way_0 15 rfl rfl)
theorem dX1_way_16 : decode cX1_way 16 = .ok (.aload_n 0, 1) := dk_42 (dk_at dksX1_way_0 16 rfl rfl)
theorem dX1_way_17 : decode cX1_way 17 = .ok (.getfield 36, 3) := dk_180 0 36 (dk_at dksX1_way_0 17 rfl rfl)
theorem dX1_way_20 : decode cX1_way 20 = .ok (.iload_n 1, 1) := dk_27 (dk_at dksX1_way_0 20 rfl rfl)
theorem dX1_way_21 : decode cX1_way 21 = .ok (.iconst 0, 1) := dk_3 (dk_at dksX1_way_0 21 rfl rfl)
theorem dX1_way_22 : decode cX1_way 22 = .ok (.iload_n 2, 1) := dk_28 (dk_at dksX1_way_0 22 rfl rfl)
theorem dX1_way_23 : decode cX1_way 23 = .ok (.iload_n 3, 1) := dk_29 (dk_at dksX1_way_0 23 rfl rfl)
theorem dX1_way_24 : decode cX1_way 24 = .ok (.invokespecial 295, 3) := dk_183 1 39 (dk_at dksX1_way_1 0 rfl rfl)
theorem dX1_way_27 : decode cX1_way 27 = .ok (.astore 4, 2) := dk_58 4 (dk_at dksX1_way_1 3 rfl rfl)
theorem dX1_way_29 : decode cX1_way 29 = .ok (.aload 4, 2) := dk_25 4 (dk_at dksX1_way_1 5 rfl rfl)
theorem dX1_way_31 : decode cX1_way 31 = .ok (.iload_n 1, 1) := dk_27 (dk_at dksX1_way_1 7 rfl rfl)
theorem dX1_way_32 : decode cX1_way 32 = .ok (.invokevirtual 298, 3) := dk_182 1 42 (dk_at dksX1_way_1 8 rfl rfl)
theorem dX1_way_35 : decode cX1_way 35 = .ok (.istore 5, 2) := dk_54 5 (dk_at dksX1_way_1 11 rfl rfl)
theorem dX1_way_37 : decode cX1_way 37 = .ok (.iload 5, 2) := dk_21 5 (dk_at dksX1_way_1 13 rfl rfl)
theorem dX1_way_39 : decode cX1_way 39 = .ok (.iconst (-1), 1) := dk_2 (dk_at dksX1_way_1 15 rfl rfl)
theorem dX1_way_40 : decode cX1_way 40 = .ok (.if_icmp .ne 5, 3) := dk_160 0 5 (dk_at dksX1_way_1 16 rfl rfl)
theorem dX1_way_43 : decode cX1_way 43 = .ok (.iconst (-1), 1) := dk_2 (dk_at dksX1_way_1 19 rfl rfl)
theorem dX1_way_44 : decode cX1_way 44 = .ok (.ireturn, 1) := dk_172 (dk_at dksX1_way_1 20 rfl rfl)
theorem dX1_way_45 : decode cX1_way 45 = .ok (.aload 4, 2) := dk_25 4 (dk_at dksX1_way_1 21 rfl rfl)
theorem dX1_way_47 : decode cX1_way 47 = .ok (.getfield 301, 3) := dk_180 1 45 (dk_at dksX1_way_2 0 rfl rfl)
theorem dX1_way_50 : decode cX1_way 50 = .ok (.iconst 0, 1) := dk_3 (dk_at dksX1_way_2 3 rfl rfl)
theorem dX1_way_51 : decode cX1_way 51 = .ok (.aload_n 0, 1) := dk_42 (dk_at dksX1_way_2 4 rfl rfl)
theorem dX1_way_52 : decode cX1_way 52 = .ok (.getfield 47, 3) := dk_180 0 47 (dk_at dksX1_way_2 5 rfl rfl)
theorem dX1_way_55 : decode cX1_way 55 = .ok (.iconst 0, 1) := dk_3 (dk_at dksX1_way_2 8 rfl rfl)
theorem dX1_way_56 : decode cX1_way 56 = .ok (.iload 5, 2) := dk_21 5 (dk_at dksX1_way_2 9 rfl rfl)
theorem dX1_way_58 : decode cX1_way 58 = .ok (.invokestatic 304, 3) := dk_184 1 48 (dk_at dksX1_way_2 11 rfl rfl)
theorem dX1_way_61 : decode cX1_way 61 = .ok (.aload_n 0, 1) := dk_42 (dk_at dksX1_way_2 14 rfl rfl)
theorem dX1_way_62 : decode cX1_way 62 = .ok (.iload 5, 2) := dk_21 5 (dk_at dksX1_way_2 15 rfl rfl)
theorem dX1_way_64 : decode cX1_way 64 = .ok (.putfield 310, 3) := dk_181 1 54 (dk_at dksX1_way_2 17 rfl rfl)
theorem dX1_way_67 : decode cX1_way 67 = .ok (.iload 5, 2) := dk_21 5 (dk_at dksX1_way_2 20 rfl rfl)
theorem dX1_way_69 : decode cX1_way 69 = .ok (.ireturn, 1) := dk_172 (dk_at dksX1_way_2 22 rfl rfl)
abbrev cX1_isAsked : ByteArray := prog_1_method_35_code
def yX1_isAsked : MethodName := ⟨RX1, "isAsked", "(III)Z"⟩
def dkwX1_isAsked_1 : List UInt8 := [153, 0, 7, 4, 167, 0, 4, 3, 172]
abbrev dktX1_isAsked_1 : List UInt8 := dkwX1_isAsked_1 ++ []
def dkwX1_isAsked_0 : List UInt8 := [42, 27, 182, 0, 146, 153, 0, 26, 42, 28, 182, 0, 176, 153, 0, 18, 29, 3, 17, 0, 240, 184, 0, 147]
abbrev dktX1_isAsked_0 : List UInt8 := dkwX1_isAsked_0 ++ dktX1_isAsked_1
theorem dksX1_isAsked_0 : cX1_isAsked.data.toList.drop 0 = dktX1_isAsked_0 := by decide +kernel
theorem dksX1_isAsked_1 : cX1_isAsked.data.toList.drop 24 = dktX1_isAsked_1 := dk_seg dksX1_isAsked_0 24 rfl rfl
theorem dX1_isAsked_0 : decode cX1_isAsked 0 = .ok (.aload_n 0, 1) := dk_42 (dk_at dksX1_isAsked_0 0 rfl rfl)
theorem dX1_isAsked_1 : decode cX1_isAsked 1 = .ok (.iload_n 1, 1) := dk_27 (dk_at dksX1_isAsked_0 1 rfl rfl)
theorem dX1_isAsked_2 : decode cX1_isAsked 2 = .ok (.invokevirtual 146, 3) := dk_182 0 146 (dk_at dksX1_isAsked_0 2 rfl rfl)
theorem dX1_isAsked_5 : decode cX1_isAsked 5 = .ok (.ifCond .eq 26, 3) := dk_153 0 26 (dk_at dksX1_isAsked_0 5 rfl rfl)
theorem dX1_isAsked_8 : decode cX1_isAsked 8 = .ok (.aload_n 0, 1) := dk_42 (dk_at dksX1_isAsked_0 8 rfl rfl)
theorem dX1_isAsked_9 : decode cX1_isAsked 9 = .ok (.iload_n 2, 1) := dk_28 (dk_at dksX1_isAsked_0 9 rfl rfl)
theorem dX1_isAsked_10 : decode cX1_isAsked 10 = .ok (.invokevirtual 176, 3) := dk_182 0 176 (dk_at dksX1_isAsked_0 10 rfl rfl)
theorem dX1_isAsked_13 : decode cX1_isAsked 13 = .ok (.ifCond .eq 18, 3) := dk_153 0 18 (dk_at dksX1_isAsked_0 13 rfl rfl)
theorem dX1_isAsked_16 : decode cX1_isAsked 16 = .ok (.iload_n 3, 1) := dk_29 (dk_at dksX1_isAsked_0 16 rfl rfl)
theorem dX1_isAsked_17 : decode cX1_isAsked 17 = .ok (.iconst 0, 1) := dk_3 (dk_at dksX1_isAsked_0 17 rfl rfl)
theorem dX1_isAsked_18 : decode cX1_isAsked 18 = .ok (.sipush 240, 3) := dk_17 0 240 (dk_at dksX1_isAsked_0 18 rfl rfl)
theorem dX1_isAsked_21 : decode cX1_isAsked 21 = .ok (.invokestatic 147, 3) := dk_184 0 147 (dk_at dksX1_isAsked_0 21 rfl rfl)
theorem dX1_isAsked_24 : decode cX1_isAsked 24 = .ok (.ifCond .eq 7, 3) := dk_153 0 7 (dk_at dksX1_isAsked_1 0 rfl rfl)
theorem dX1_isAsked_27 : decode cX1_isAsked 27 = .ok (.iconst 1, 1) := dk_4 (dk_at dksX1_isAsked_1 3 rfl rfl)
theorem dX1_isAsked_28 : decode cX1_isAsked 28 = .ok (.goto 4, 3) := dk_167 0 4 (dk_at dksX1_isAsked_1 4 rfl rfl)
theorem dX1_isAsked_31 : decode cX1_isAsked 31 = .ok (.iconst 0, 1) := dk_3 (dk_at dksX1_isAsked_1 7 rfl rfl)
theorem dX1_isAsked_32 : decode cX1_isAsked 32 = .ok (.ireturn, 1) := dk_172 (dk_at dksX1_isAsked_1 8 rfl rfl)
abbrev cX1_wayAt : ByteArray := prog_1_method_37_code
def yX1_wayAt : MethodName := ⟨RX1, "wayAt", "(I)I"⟩
def dkwX1_wayAt_1 : List UInt8 := [172]
abbrev dktX1_wayAt_1 : List UInt8 := dkwX1_wayAt_1 ++ []
def dkwX1_wayAt_0 : List UInt8 := [27, 3, 42, 180, 1, 54, 4, 100, 184, 0, 147, 153, 0, 12, 42, 180, 0, 47, 27, 46, 167, 0, 4, 2]
abbrev dktX1_wayAt_0 : List UInt8 := dkwX1_wayAt_0 ++ dktX1_wayAt_1
theorem dksX1_wayAt_0 : cX1_wayAt.data.toList.drop 0 = dktX1_wayAt_0 := by decide +kernel
theorem dksX1_wayAt_1 : cX1_wayAt.data.toList.drop 24 = dktX1_wayAt_1 := dk_seg dksX1_wayAt_0 24 rfl rfl
theorem dX1_wayAt_0 : decode cX1_wayAt 0 = .ok (.iload_n 1, 1) := dk_27 (dk_at dksX1_wayAt_0 0 rfl rfl)
theorem dX1_wayAt_1 : decode cX1_wayAt 1 = .ok (.iconst 0, 1) := dk_3 (dk_at dksX1_wayAt_0 1 rfl rfl)
theorem dX1_wayAt_2 : decode cX1_wayAt 2 = .ok (.aload_n 0, 1) := dk_42 (dk_at dksX1_wayAt_0 2 rfl rfl)
theorem dX1_wayAt_3 : decode cX1_wayAt 3 = .ok (.getfield 310, 3) := dk_180 1 54 (dk_at dksX1_wayAt_0 3 rfl rfl)
theorem dX1_wayAt_6 : decode cX1_wayAt 6 = .ok (.iconst 1, 1) := dk_4 (dk_at dksX1_wayAt_0 6 rfl rfl)
theorem dX1_wayAt_7 : decode cX1_wayAt 7 = .ok (.isub, 1) := dk_100 (dk_at dksX1_wayAt_0 7 rfl rfl)
theorem dX1_wayAt_8 : decode cX1_wayAt 8 = .ok (.invokestatic 147, 3) := dk_184 0 147 (dk_at dksX1_wayAt_0 8 rfl rfl)
theorem dX1_wayAt_11 : decode cX1_wayAt 11 = .ok (.ifCond .eq 12, 3) := dk_153 0 12 (dk_at dksX1_wayAt_0 11 rfl rfl)
theorem dX1_wayAt_14 : decode cX1_wayAt 14 = .ok (.aload_n 0, 1) := dk_42 (dk_at dksX1_wayAt_0 14 rfl rfl)
theorem dX1_wayAt_15 : decode cX1_wayAt 15 = .ok (.getfield 47, 3) := dk_180 0 47 (dk_at dksX1_wayAt_0 15 rfl rfl)
theorem dX1_wayAt_18 : decode cX1_wayAt 18 = .ok (.iload_n 1, 1) := dk_27 (dk_at dksX1_wayAt_0 18 rfl rfl)
theorem dX1_wayAt_19 : decode cX1_wayAt 19 = .ok (.iaload, 1) := dk_46 (dk_at dksX1_wayAt_0 19 rfl rfl)
theorem dX1_wayAt_20 : decode cX1_wayAt 20 = .ok (.goto 4, 3) := dk_167 0 4 (dk_at dksX1_wayAt_0 20 rfl rfl)
theorem dX1_wayAt_23 : decode cX1_wayAt 23 = .ok (.iconst (-1), 1) := dk_2 (dk_at dksX1_wayAt_0 23 rfl rfl)
theorem dX1_wayAt_24 : decode cX1_wayAt 24 = .ok (.ireturn, 1) := dk_172 (dk_at dksX1_wayAt_1 0 rfl rfl)
abbrev cX1_round : ByteArray := prog_1_method_38_code
def yX1_round : MethodName := ⟨RX1, "round", "(I)I"⟩
def dkwX1_round_1 : List UInt8 := [62, 29, 8, 163, 0, 16, 44, 27, 29, 182, 1, 62, 87, 132, 3, 1, 167, 255, 241, 44, 180, 1, 66, 172]
abbrev dktX1_round_1 : List UInt8 := dkwX1_round_1 ++ []
def dkwX1_round_0 : List UInt8 := [42, 27, 182, 0, 146, 154, 0, 5, 2, 172, 187, 1, 57, 89, 42, 180, 0, 36, 27, 183, 1, 59, 77, 4]
abbrev dktX1_round_0 : List UInt8 := dkwX1_round_0 ++ dktX1_round_1
theorem dksX1_round_0 : cX1_round.data.toList.drop 0 = dktX1_round_0 := by decide +kernel
theorem dksX1_round_1 : cX1_round.data.toList.drop 24 = dktX1_round_1 := dk_seg dksX1_round_0 24 rfl rfl
theorem dX1_round_0 : decode cX1_round 0 = .ok (.aload_n 0, 1) := dk_42 (dk_at dksX1_round_0 0 rfl rfl)
theorem dX1_round_1 : decode cX1_round 1 = .ok (.iload_n 1, 1) := dk_27 (dk_at dksX1_round_0 1 rfl rfl)
theorem dX1_round_2 : decode cX1_round 2 = .ok (.invokevirtual 146, 3) := dk_182 0 146 (dk_at dksX1_round_0 2 rfl rfl)
theorem dX1_round_5 : decode cX1_round 5 = .ok (.ifCond .ne 5, 3) := dk_154 0 5 (dk_at dksX1_round_0 5 rfl rfl)
theorem dX1_round_8 : decode cX1_round 8 = .ok (.iconst (-1), 1) := dk_2 (dk_at dksX1_round_0 8 rfl rfl)
theorem dX1_round_9 : decode cX1_round 9 = .ok (.ireturn, 1) := dk_172 (dk_at dksX1_round_0 9 rfl rfl)
theorem dX1_round_10 : decode cX1_round 10 = .ok (.new 313, 3) := dk_187 1 57 (dk_at dksX1_round_0 10 rfl rfl)
theorem dX1_round_13 : decode cX1_round 13 = .ok (.dup, 1) := dk_89 (dk_at dksX1_round_0 13 rfl rfl)
theorem dX1_round_14 : decode cX1_round 14 = .ok (.aload_n 0, 1) := dk_42 (dk_at dksX1_round_0 14 rfl rfl)
theorem dX1_round_15 : decode cX1_round 15 = .ok (.getfield 36, 3) := dk_180 0 36 (dk_at dksX1_round_0 15 rfl rfl)
theorem dX1_round_18 : decode cX1_round 18 = .ok (.iload_n 1, 1) := dk_27 (dk_at dksX1_round_0 18 rfl rfl)
theorem dX1_round_19 : decode cX1_round 19 = .ok (.invokespecial 315, 3) := dk_183 1 59 (dk_at dksX1_round_0 19 rfl rfl)
theorem dX1_round_22 : decode cX1_round 22 = .ok (.astore_n 2, 1) := dk_77 (dk_at dksX1_round_0 22 rfl rfl)
theorem dX1_round_23 : decode cX1_round 23 = .ok (.iconst 1, 1) := dk_4 (dk_at dksX1_round_0 23 rfl rfl)
theorem dX1_round_24 : decode cX1_round 24 = .ok (.istore_n 3, 1) := dk_62 (dk_at dksX1_round_1 0 rfl rfl)
theorem dX1_round_25 : decode cX1_round 25 = .ok (.iload_n 3, 1) := dk_29 (dk_at dksX1_round_1 1 rfl rfl)
theorem dX1_round_26 : decode cX1_round 26 = .ok (.iconst 5, 1) := dk_8 (dk_at dksX1_round_1 2 rfl rfl)
theorem dX1_round_27 : decode cX1_round 27 = .ok (.if_icmp .gt 16, 3) := dk_163 0 16 (dk_at dksX1_round_1 3 rfl rfl)
theorem dX1_round_30 : decode cX1_round 30 = .ok (.aload_n 2, 1) := dk_44 (dk_at dksX1_round_1 6 rfl rfl)
theorem dX1_round_31 : decode cX1_round 31 = .ok (.iload_n 1, 1) := dk_27 (dk_at dksX1_round_1 7 rfl rfl)
theorem dX1_round_32 : decode cX1_round 32 = .ok (.iload_n 3, 1) := dk_29 (dk_at dksX1_round_1 8 rfl rfl)
theorem dX1_round_33 : decode cX1_round 33 = .ok (.invokevirtual 318, 3) := dk_182 1 62 (dk_at dksX1_round_1 9 rfl rfl)
theorem dX1_round_36 : decode cX1_round 36 = .ok (.pop, 1) := dk_87 (dk_at dksX1_round_1 12 rfl rfl)
theorem dX1_round_37 : decode cX1_round 37 = .ok (.iinc 3 1, 3) := dk_132 3 1 (dk_at dksX1_round_1 13 rfl rfl)
theorem dX1_round_40 : decode cX1_round 40 = .ok (.goto (-15), 3) := dk_167 255 241 (dk_at dksX1_round_1 16 rfl rfl)
theorem dX1_round_43 : decode cX1_round 43 = .ok (.aload_n 2, 1) := dk_44 (dk_at dksX1_round_1 19 rfl rfl)
theorem dX1_round_44 : decode cX1_round 44 = .ok (.getfield 322, 3) := dk_180 1 66 (dk_at dksX1_round_1 20 rfl rfl)
theorem dX1_round_47 : decode cX1_round 47 = .ok (.ireturn, 1) := dk_172 (dk_at dksX1_round_1 23 rfl rfl)
abbrev cX1_spare : ByteArray := prog_1_method_40_code
def yX1_spare : MethodName := ⟨RX1, "spare", "(III)I"⟩
def dkwX1_spare_5 : List UInt8 := [21, 5, 184, 0, 236, 172]
abbrev dktX1_spare_5 : List UInt8 := dkwX1_spare_5 ++ []
def dkwX1_spare_4 : List UInt8 := [21, 6, 54, 5, 132, 6, 1, 167, 255, 189, 21, 5, 2, 160, 0, 5, 2, 172, 42, 21, 5, 181, 0, 54]
abbrev dktX1_spare_4 : List UInt8 := dkwX1_spare_4 ++ dktX1_spare_5
def dkwX1_spare_3 : List UInt8 := [187, 1, 37, 89, 42, 180, 0, 36, 27, 21, 6, 28, 29, 183, 1, 39, 27, 182, 1, 42, 2, 159, 0, 7]
abbrev dktX1_spare_3 : List UInt8 := dkwX1_spare_3 ++ dktX1_spare_4
def dkwX1_spare_2 : List UInt8 := [154, 0, 50, 21, 5, 2, 159, 0, 16, 21, 6, 184, 0, 236, 21, 5, 184, 0, 236, 162, 0, 31]
abbrev dktX1_spare_2 : List UInt8 := dkwX1_spare_2 ++ dktX1_spare_3
def dkwX1_spare_1 : List UInt8 := [54, 4, 2, 54, 5, 3, 54, 6, 21, 6, 21, 4, 163, 0, 66, 21, 6, 21, 4, 2, 130, 126]
abbrev dktX1_spare_1 : List UInt8 := dkwX1_spare_1 ++ dktX1_spare_2
def dkwX1_spare_0 : List UInt8 := [42, 27, 28, 29, 182, 1, 34, 154, 0, 5, 2, 172, 42, 42, 180, 0, 25, 27, 182, 0, 155, 182, 1, 71]
abbrev dktX1_spare_0 : List UInt8 := dkwX1_spare_0 ++ dktX1_spare_1
theorem dksX1_spare_0 : cX1_spare.data.toList.drop 0 = dktX1_spare_0 := by decide +kernel
theorem dksX1_spare_1 : cX1_spare.data.toList.drop 24 = dktX1_spare_1 := dk_seg dksX1_spare_0 24 rfl rfl
theorem dksX1_spare_2 : cX1_spare.data.toList.drop 46 = dktX1_spare_2 := dk_seg dksX1_spare_1 22 rfl rfl
theorem dksX1_spare_3 : cX1_spare.data.toList.drop 68 = dktX1_spare_3 := dk_seg dksX1_spare_2 22 rfl rfl
theorem dksX1_spare_4 : cX1_spare.data.toList.drop 92 = dktX1_spare_4 := dk_seg dksX1_spare_3 24 rfl rfl
theorem dksX1_spare_5 : cX1_spare.data.toList.drop 116 = dktX1_spare_5 := dk_seg dksX1_spare_4 24 rfl rfl
theorem dX1_spare_0 : decode cX1_spare 0 = .ok (.aload_n 0, 1) := dk_42 (dk_at dksX1_spare_0 0 rfl rfl)
theorem dX1_spare_1 : decode cX1_spare 1 = .ok (.iload_n 1, 1) := dk_27 (dk_at dksX1_spare_0 1 rfl rfl)
theorem dX1_spare_2 : decode cX1_spare 2 = .ok (.iload_n 2, 1) := dk_28 (dk_at dksX1_spare_0 2 rfl rfl)
theorem dX1_spare_3 : decode cX1_spare 3 = .ok (.iload_n 3, 1) := dk_29 (dk_at dksX1_spare_0 3 rfl rfl)
theorem dX1_spare_4 : decode cX1_spare 4 = .ok (.invokevirtual 290, 3) := dk_182 1 34 (dk_at dksX1_spare_0 4 rfl rfl)
theorem dX1_spare_7 : decode cX1_spare 7 = .ok (.ifCond .ne 5, 3) := dk_154 0 5 (dk_at dksX1_spare_0 7 rfl rfl)
theorem dX1_spare_10 : decode cX1_spare 10 = .ok (.iconst (-1), 1) := dk_2 (dk_at dksX1_spare_0 10 rfl rfl)
theorem dX1_spare_11 : decode cX1_spare 11 = .ok (.ireturn, 1) := dk_172 (dk_at dksX1_spare_0 11 rfl rfl)
theorem dX1_spare_12 : decode cX1_spare 12 = .ok (.aload_n 0, 1) := dk_42 (dk_at dksX1_spare_0 12 rfl rfl)
theorem dX1_spare_13 : decode cX1_spare 13 = .ok (.aload_n 0, 1) := dk_42 (dk_at dksX1_spare_0 13 rfl rfl)
theorem dX1_spare_14 : decode cX1_spare 14 = .ok (.getfield 25, 3) := dk_180 0 25 (dk_at dksX1_spare_0 14 rfl rfl)
theorem dX1_spare_17 : decode cX1_spare 17 = .ok (.iload_n 1, 1) := dk_27 (dk_at dksX1_spare_0 17 rfl rfl)
theorem dX1_spare_18 : decode cX1_spare 18 = .ok (.invokevirtual 155, 3) := dk_182 0 155 (dk_at dksX1_spare_0 18 rfl rfl)
theorem dX1_spare_21 : decode cX1_spare 21 = .ok (.invokevirtual 327, 3) := dk_182 1 71 (dk_at dksX1_spare_0 21 rfl rfl)
theorem dX1_spare_24 : decode cX1_spare 24 = .ok (.istore 4, 2) := dk_54 4 (dk_at dksX1_spare_1 0 rfl rfl)
theorem dX1_spare_26 : decode cX1_spare 26 = .ok (.iconst (-1), 1) := dk_2 (dk_at dksX1_spare_1 2 rfl rfl)
theorem dX1_spare_27 : decode cX1_spare 27 = .ok (.istore 5, 2) := dk_54 5 (dk_at dksX1_spare_1 3 rfl rfl)
theorem dX1_spare_29 : decode cX1_spare 29 = .ok (.iconst 0, 1) := dk_3 (dk_at dksX1_spare_1 5 rfl rfl)
theorem dX1_spare_30 : decode cX1_spare 30 = .ok (.istore 6, 2) := dk_54 6 (dk_at dksX1_spare_1 6 rfl rfl)
theorem dX1_spare_32 : decode cX1_spare 32 = .ok (.iload 6, 2) := dk_21 6 (dk_at dksX1_spare_1 8 rfl rfl)
theorem dX1_spare_34 : decode cX1_spare 34 = .ok (.iload 4, 2) := dk_21 4 (dk_at dksX1_spare_1 10 rfl rfl)
theorem dX1_spare_36 : decode cX1_spare 36 = .ok (.if_icmp .gt 66, 3) := dk_163 0 66 (dk_at dksX1_spare_1 12 rfl rfl)
theorem dX1_spare_39 : decode cX1_spare 39 = .ok (.iload 6, 2) := dk_21 6 (dk_at dksX1_spare_1 15 rfl rfl)
theorem dX1_spare_41 : decode cX1_spare 41 = .ok (.iload 4, 2) := dk_21 4 (dk_at dksX1_spare_1 17 rfl rfl)
theorem dX1_spare_43 : decode cX1_spare 43 = .ok (.iconst (-1), 1) := dk_2 (dk_at dksX1_spare_1 19 rfl rfl)
theorem dX1_spare_44 : decode cX1_spare 44 = .ok (.ixor, 1) := dk_130 (dk_at dksX1_spare_1 20 rfl rfl)
theorem dX1_spare_45 : decode cX1_spare 45 = .ok (.iand, 1) := dk_126 (dk_at dksX1_spare_1 21 rfl rfl)
theorem dX1_spare_46 : decode cX1_spare 46 = .ok (.ifCond .ne 50, 3) := dk_154 0 50 (dk_at dksX1_spare_2 0 rfl rfl)
theorem dX1_spare_49 : decode cX1_spare 49 = .ok (.iload 5, 2) := dk_21 5 (dk_at dksX1_spare_2 3 rfl rfl)
theorem dX1_spare_51 : decode cX1_spare 51 = .ok (.iconst (-1), 1) := dk_2 (dk_at dksX1_spare_2 5 rfl rfl)
theorem dX1_spare_52 : decode cX1_spare 52 = .ok (.if_icmp .eq 16, 3) := dk_159 0 16 (dk_at dksX1_spare_2 6 rfl rfl)
theorem dX1_spare_55 : decode cX1_spare 55 = .ok (.iload 6, 2) := dk_21 6 (dk_at dksX1_spare_2 9 rfl rfl)
theorem dX1_spare_57 : decode cX1_spare 57 = .ok (.invokestatic 236, 3) := dk_184 0 236 (dk_at dksX1_spare_2 11 rfl rfl)
theorem dX1_spare_60 : decode cX1_spare 60 = .ok (.iload 5, 2) := dk_21 5 (dk_at dksX1_spare_2 14 rfl rfl)
theorem dX1_spare_62 : decode cX1_spare 62 = .ok (.invokestatic 236, 3) := dk_184 0 236 (dk_at dksX1_spare_2 16 rfl rfl)
theorem dX1_spare_65 : decode cX1_spare 65 = .ok (.if_icmp .ge 31, 3) := dk_162 0 31 (dk_at dksX1_spare_2 19 rfl rfl)
theorem dX1_spare_68 : decode cX1_spare 68 = .ok (.new 293, 3) := dk_187 1 37 (dk_at dksX1_spare_3 0 rfl rfl)
theorem dX1_spare_71 : decode cX1_spare 71 = .ok (.dup, 1) := dk_89 (dk_at dksX1_spare_3 3 rfl rfl)
theorem dX1_spare_72 : decode cX1_spare 72 = .ok (.aload_n 0, 1) := dk_42 (dk_at dksX1_spare_3 4 rfl rfl)
theorem dX1_spare_73 : decode cX1_spare 73 = .ok (.getfield 36, 3) := dk_180 0 36 (dk_at dksX1_spare_3 5 rfl rfl)
theorem dX1_spare_76 : decode cX1_spare 76 = .ok (.iload_n 1, 1) := dk_27 (dk_at dksX1_spare_3 8 rfl rfl)
theorem dX1_spare_77 : decode cX1_spare 77 = .ok (.iload 6, 2) := dk_21 6 (dk_at dksX1_spare_3 9 rfl rfl)
theorem dX1_spare_79 : decode cX1_spare 79 = .ok (.iload_n 2, 1) := dk_28 (dk_at dksX1_spare_3 11 rfl rfl)
theorem dX1_spare_80 : decode cX1_spare 80 = .ok (.iload_n 3, 1) := dk_29 (dk_at dksX1_spare_3 12 rfl rfl)
theorem dX1_spare_81 : decode cX1_spare 81 = .ok (.invokespecial 295, 3) := dk_183 1 39 (dk_at dksX1_spare_3 13 rfl rfl)
theorem dX1_spare_84 : decode cX1_spare 84 = .ok (.iload_n 1, 1) := dk_27 (dk_at dksX1_spare_3 16 rfl rfl)
theorem dX1_spare_85 : decode cX1_spare 85 = .ok (.invokevirtual 298, 3) := dk_182 1 42 (dk_at dksX1_spare_3 17 rfl rfl)
theorem dX1_spare_88 : decode cX1_spare 88 = .ok (.iconst (-1), 1) := dk_2 (dk_at dksX1_spare_3 20 rfl rfl)
theorem dX1_spare_89 : decode cX1_spare 89 = .ok (.if_icmp .eq 7, 3) := dk_159 0 7 (dk_at dksX1_spare_3 21 rfl rfl)
theorem dX1_spare_92 : decode cX1_spare 92 = .ok (.iload 6, 2) := dk_21 6 (dk_at dksX1_spare_4 0 rfl rfl)
theorem dX1_spare_94 : decode cX1_spare 94 = .ok (.istore 5, 2) := dk_54 5 (dk_at dksX1_spare_4 2 rfl rfl)
theorem dX1_spare_96 : decode cX1_spare 96 = .ok (.iinc 6 1, 3) := dk_132 6 1 (dk_at dksX1_spare_4 4 rfl rfl)
theorem dX1_spare_99 : decode cX1_spare 99 = .ok (.goto (-67), 3) := dk_167 255 189 (dk_at dksX1_spare_4 7 rfl rfl)
theorem dX1_spare_102 : decode cX1_spare 102 = .ok (.iload 5, 2) := dk_21 5 (dk_at dksX1_spare_4 10 rfl rfl)
theorem dX1_spare_104 : decode cX1_spare 104 = .ok (.iconst (-1), 1) := dk_2 (dk_at dksX1_spare_4 12 rfl rfl)
theorem dX1_spare_105 : decode cX1_spare 105 = .ok (.if_icmp .ne 5, 3) := dk_160 0 5 (dk_at dksX1_spare_4 13 rfl rfl)
theorem dX1_spare_108 : decode cX1_spare 108 = .ok (.iconst (-1), 1) := dk_2 (dk_at dksX1_spare_4 16 rfl rfl)
theorem dX1_spare_109 : decode cX1_spare 109 = .ok (.ireturn, 1) := dk_172 (dk_at dksX1_spare_4 17 rfl rfl)
theorem dX1_spare_110 : decode cX1_spare 110 = .ok (.aload_n 0, 1) := dk_42 (dk_at dksX1_spare_4 18 rfl rfl)
theorem dX1_spare_111 : decode cX1_spare 111 = .ok (.iload 5, 2) := dk_21 5 (dk_at dksX1_spare_4 19 rfl rfl)
theorem dX1_spare_113 : decode cX1_spare 113 = .ok (.putfield 54, 3) := dk_181 0 54 (dk_at dksX1_spare_4 21 rfl rfl)
theorem dX1_spare_116 : decode cX1_spare 116 = .ok (.iload 5, 2) := dk_21 5 (dk_at dksX1_spare_5 0 rfl rfl)
theorem dX1_spare_118 : decode cX1_spare 118 = .ok (.invokestatic 236, 3) := dk_184 0 236 (dk_at dksX1_spare_5 2 rfl rfl)
theorem dX1_spare_121 : decode cX1_spare 121 = .ok (.ireturn, 1) := dk_172 (dk_at dksX1_spare_5 5 rfl rfl)
abbrev cX1_canTreat : ByteArray := prog_1_method_39_code
def yX1_canTreat : MethodName := ⟨RX1, "canTreat", "(I)I"⟩
def dkwX1_canTreat_1 : List UInt8 := [172]
abbrev dktX1_canTreat_1 : List UInt8 := dkwX1_canTreat_1 ++ []
def dkwX1_canTreat_0 : List UInt8 := [4, 42, 182, 1, 69, 120, 4, 100, 42, 180, 0, 36, 180, 0, 191, 27, 46, 4, 27, 120, 128, 2, 130, 126]
abbrev dktX1_canTreat_0 : List UInt8 := dkwX1_canTreat_0 ++ dktX1_canTreat_1
theorem dksX1_canTreat_0 : cX1_canTreat.data.toList.drop 0 = dktX1_canTreat_0 := by decide +kernel
theorem dksX1_canTreat_1 : cX1_canTreat.data.toList.drop 24 = dktX1_canTreat_1 := dk_seg dksX1_canTreat_0 24 rfl rfl
theorem dX1_canTreat_0 : decode cX1_canTreat 0 = .ok (.iconst 1, 1) := dk_4 (dk_at dksX1_canTreat_0 0 rfl rfl)
theorem dX1_canTreat_1 : decode cX1_canTreat 1 = .ok (.aload_n 0, 1) := dk_42 (dk_at dksX1_canTreat_0 1 rfl rfl)
theorem dX1_canTreat_2 : decode cX1_canTreat 2 = .ok (.invokevirtual 325, 3) := dk_182 1 69 (dk_at dksX1_canTreat_0 2 rfl rfl)
theorem dX1_canTreat_5 : decode cX1_canTreat 5 = .ok (.ishl, 1) := dk_120 (dk_at dksX1_canTreat_0 5 rfl rfl)
theorem dX1_canTreat_6 : decode cX1_canTreat 6 = .ok (.iconst 1, 1) := dk_4 (dk_at dksX1_canTreat_0 6 rfl rfl)
theorem dX1_canTreat_7 : decode cX1_canTreat 7 = .ok (.isub, 1) := dk_100 (dk_at dksX1_canTreat_0 7 rfl rfl)
theorem dX1_canTreat_8 : decode cX1_canTreat 8 = .ok (.aload_n 0, 1) := dk_42 (dk_at dksX1_canTreat_0 8 rfl rfl)
theorem dX1_canTreat_9 : decode cX1_canTreat 9 = .ok (.getfield 36, 3) := dk_180 0 36 (dk_at dksX1_canTreat_0 9 rfl rfl)
theorem dX1_canTreat_12 : decode cX1_canTreat 12 = .ok (.getfield 191, 3) := dk_180 0 191 (dk_at dksX1_canTreat_0 12 rfl rfl)
theorem dX1_canTreat_15 : decode cX1_canTreat 15 = .ok (.iload_n 1, 1) := dk_27 (dk_at dksX1_canTreat_0 15 rfl rfl)
theorem dX1_canTreat_16 : decode cX1_canTreat 16 = .ok (.iaload, 1) := dk_46 (dk_at dksX1_canTreat_0 16 rfl rfl)
theorem dX1_canTreat_17 : decode cX1_canTreat 17 = .ok (.iconst 1, 1) := dk_4 (dk_at dksX1_canTreat_0 17 rfl rfl)
theorem dX1_canTreat_18 : decode cX1_canTreat 18 = .ok (.iload_n 1, 1) := dk_27 (dk_at dksX1_canTreat_0 18 rfl rfl)
theorem dX1_canTreat_19 : decode cX1_canTreat 19 = .ok (.ishl, 1) := dk_120 (dk_at dksX1_canTreat_0 19 rfl rfl)
theorem dX1_canTreat_20 : decode cX1_canTreat 20 = .ok (.ior, 1) := dk_128 (dk_at dksX1_canTreat_0 20 rfl rfl)
theorem dX1_canTreat_21 : decode cX1_canTreat 21 = .ok (.iconst (-1), 1) := dk_2 (dk_at dksX1_canTreat_0 21 rfl rfl)
theorem dX1_canTreat_22 : decode cX1_canTreat 22 = .ok (.ixor, 1) := dk_130 (dk_at dksX1_canTreat_0 22 rfl rfl)
theorem dX1_canTreat_23 : decode cX1_canTreat 23 = .ok (.iand, 1) := dk_126 (dk_at dksX1_canTreat_0 23 rfl rfl)
theorem dX1_canTreat_24 : decode cX1_canTreat 24 = .ok (.ireturn, 1) := dk_172 (dk_at dksX1_canTreat_1 0 rfl rfl)
abbrev cX1_lands : ByteArray := prog_1_method_15_code
def yX1_lands : MethodName := ⟨RX1, "lands", "()I"⟩
def dkwX1_lands_0 : List UInt8 := [42, 180, 0, 25, 180, 0, 134, 182, 0, 138, 172]
abbrev dktX1_lands_0 : List UInt8 := dkwX1_lands_0 ++ []
theorem dksX1_lands_0 : cX1_lands.data.toList.drop 0 = dktX1_lands_0 := by decide +kernel
theorem dX1_lands_0 : decode cX1_lands 0 = .ok (.aload_n 0, 1) := dk_42 (dk_at dksX1_lands_0 0 rfl rfl)
theorem dX1_lands_1 : decode cX1_lands 1 = .ok (.getfield 25, 3) := dk_180 0 25 (dk_at dksX1_lands_0 1 rfl rfl)
theorem dX1_lands_4 : decode cX1_lands 4 = .ok (.getfield 134, 3) := dk_180 0 134 (dk_at dksX1_lands_0 4 rfl rfl)
theorem dX1_lands_7 : decode cX1_lands 7 = .ok (.invokevirtual 138, 3) := dk_182 0 138 (dk_at dksX1_lands_0 7 rfl rfl)
theorem dX1_lands_10 : decode cX1_lands 10 = .ok (.ireturn, 1) := dk_172 (dk_at dksX1_lands_0 10 rfl rfl)
abbrev cX1_spared : ByteArray := prog_1_method_41_code
def yX1_spared : MethodName := ⟨RX1, "spared", "()I"⟩
theorem dX1_spared_0 : decode cX1_spared 0 = .ok (.aload_n 0, 1) := by decide +kernel
theorem dX1_spared_1 : decode cX1_spared 1 = .ok (.getfield 54, 3) := by decide +kernel
theorem dX1_spared_4 : decode cX1_spared 4 = .ok (.ireturn, 1) := by decide +kernel
abbrev cX1_made : ByteArray := prog_1_method_42_code
def yX1_made : MethodName := ⟨RX1, "made", "()I"⟩
def dkwX1_made_4 : List UInt8 := [184, 1, 48, 42, 43, 180, 1, 89, 181, 1, 92, 42, 43, 182, 1, 95, 181, 0, 58, 43, 180, 1, 83, 172]
abbrev dktX1_made_4 : List UInt8 := dkwX1_made_4 ++ []
def dkwX1_made_3 : List UInt8 := [180, 1, 83, 154, 0, 5, 3, 172, 43, 180, 1, 86, 3, 42, 180, 0, 51, 3, 43, 180, 1, 89]
abbrev dktX1_made_3 : List UInt8 := dkwX1_made_3 ++ dktX1_made_4
def dkwX1_made_2 : List UInt8 := [28, 7, 163, 0, 20, 43, 42, 3, 182, 1, 74, 28, 182, 1, 82, 87, 132, 2, 1, 167, 255, 237, 43]
abbrev dktX1_made_2 : List UInt8 := dkwX1_made_2 ++ dktX1_made_3
def dkwX1_made_1 : List UInt8 := [187, 1, 77, 89, 42, 180, 0, 36, 42, 3, 182, 1, 74, 42, 4, 182, 1, 74, 183, 1, 79, 76, 4, 61]
abbrev dktX1_made_1 : List UInt8 := dkwX1_made_1 ++ dktX1_made_2
def dkwX1_made_0 : List UInt8 := [42, 182, 0, 93, 5, 160, 0, 15, 42, 42, 3, 182, 1, 74, 182, 0, 146, 154, 0, 5, 2, 172]
abbrev dktX1_made_0 : List UInt8 := dkwX1_made_0 ++ dktX1_made_1
theorem dksX1_made_0 : cX1_made.data.toList.drop 0 = dktX1_made_0 := by decide +kernel
theorem dksX1_made_1 : cX1_made.data.toList.drop 22 = dktX1_made_1 := dk_seg dksX1_made_0 22 rfl rfl
theorem dksX1_made_2 : cX1_made.data.toList.drop 46 = dktX1_made_2 := dk_seg dksX1_made_1 24 rfl rfl
theorem dksX1_made_3 : cX1_made.data.toList.drop 69 = dktX1_made_3 := dk_seg dksX1_made_2 23 rfl rfl
theorem dksX1_made_4 : cX1_made.data.toList.drop 91 = dktX1_made_4 := dk_seg dksX1_made_3 22 rfl rfl
theorem dX1_made_0 : decode cX1_made 0 = .ok (.aload_n 0, 1) := dk_42 (dk_at dksX1_made_0 0 rfl rfl)
theorem dX1_made_1 : decode cX1_made 1 = .ok (.invokevirtual 93, 3) := dk_182 0 93 (dk_at dksX1_made_0 1 rfl rfl)
theorem dX1_made_4 : decode cX1_made 4 = .ok (.iconst 2, 1) := dk_5 (dk_at dksX1_made_0 4 rfl rfl)
theorem dX1_made_5 : decode cX1_made 5 = .ok (.if_icmp .ne 15, 3) := dk_160 0 15 (dk_at dksX1_made_0 5 rfl rfl)
theorem dX1_made_8 : decode cX1_made 8 = .ok (.aload_n 0, 1) := dk_42 (dk_at dksX1_made_0 8 rfl rfl)
theorem dX1_made_9 : decode cX1_made 9 = .ok (.aload_n 0, 1) := dk_42 (dk_at dksX1_made_0 9 rfl rfl)
theorem dX1_made_10 : decode cX1_made 10 = .ok (.iconst 0, 1) := dk_3 (dk_at dksX1_made_0 10 rfl rfl)
theorem dX1_made_11 : decode cX1_made 11 = .ok (.invokevirtual 330, 3) := dk_182 1 74 (dk_at dksX1_made_0 11 rfl rfl)
theorem dX1_made_14 : decode cX1_made 14 = .ok (.invokevirtual 146, 3) := dk_182 0 146 (dk_at dksX1_made_0 14 rfl rfl)
theorem dX1_made_17 : decode cX1_made 17 = .ok (.ifCond .ne 5, 3) := dk_154 0 5 (dk_at dksX1_made_0 17 rfl rfl)
theorem dX1_made_20 : decode cX1_made 20 = .ok (.iconst (-1), 1) := dk_2 (dk_at dksX1_made_0 20 rfl rfl)
theorem dX1_made_21 : decode cX1_made 21 = .ok (.ireturn, 1) := dk_172 (dk_at dksX1_made_0 21 rfl rfl)
theorem dX1_made_22 : decode cX1_made 22 = .ok (.new 333, 3) := dk_187 1 77 (dk_at dksX1_made_1 0 rfl rfl)
theorem dX1_made_25 : decode cX1_made 25 = .ok (.dup, 1) := dk_89 (dk_at dksX1_made_1 3 rfl rfl)
theorem dX1_made_26 : decode cX1_made 26 = .ok (.aload_n 0, 1) := dk_42 (dk_at dksX1_made_1 4 rfl rfl)
theorem dX1_made_27 : decode cX1_made 27 = .ok (.getfield 36, 3) := dk_180 0 36 (dk_at dksX1_made_1 5 rfl rfl)
theorem dX1_made_30 : decode cX1_made 30 = .ok (.aload_n 0, 1) := dk_42 (dk_at dksX1_made_1 8 rfl rfl)
theorem dX1_made_31 : decode cX1_made 31 = .ok (.iconst 0, 1) := dk_3 (dk_at dksX1_made_1 9 rfl rfl)
theorem dX1_made_32 : decode cX1_made 32 = .ok (.invokevirtual 330, 3) := dk_182 1 74 (dk_at dksX1_made_1 10 rfl rfl)
theorem dX1_made_35 : decode cX1_made 35 = .ok (.aload_n 0, 1) := dk_42 (dk_at dksX1_made_1 13 rfl rfl)
theorem dX1_made_36 : decode cX1_made 36 = .ok (.iconst 1, 1) := dk_4 (dk_at dksX1_made_1 14 rfl rfl)
theorem dX1_made_37 : decode cX1_made 37 = .ok (.invokevirtual 330, 3) := dk_182 1 74 (dk_at dksX1_made_1 15 rfl rfl)
theorem dX1_made_40 : decode cX1_made 40 = .ok (.invokespecial 335, 3) := dk_183 1 79 (dk_at dksX1_made_1 18 rfl rfl)
theorem dX1_made_43 : decode cX1_made 43 = .ok (.astore_n 1, 1) := dk_76 (dk_at dksX1_made_1 21 rfl rfl)
theorem dX1_made_44 : decode cX1_made 44 = .ok (.iconst 1, 1) := dk_4 (dk_at dksX1_made_1 22 rfl rfl)
theorem dX1_made_45 : decode cX1_made 45 = .ok (.istore_n 2, 1) := dk_61 (dk_at dksX1_made_1 23 rfl rfl)
theorem dX1_made_46 : decode cX1_made 46 = .ok (.iload_n 2, 1) := dk_28 (dk_at dksX1_made_2 0 rfl rfl)
theorem dX1_made_47 : decode cX1_made 47 = .ok (.iconst 4, 1) := dk_7 (dk_at dksX1_made_2 1 rfl rfl)
theorem dX1_made_48 : decode cX1_made 48 = .ok (.if_icmp .gt 20, 3) := dk_163 0 20 (dk_at dksX1_made_2 2 rfl rfl)
theorem dX1_made_51 : decode cX1_made 51 = .ok (.aload_n 1, 1) := dk_43 (dk_at dksX1_made_2 5 rfl rfl)
theorem dX1_made_52 : decode cX1_made 52 = .ok (.aload_n 0, 1) := dk_42 (dk_at dksX1_made_2 6 rfl rfl)
theorem dX1_made_53 : decode cX1_made 53 = .ok (.iconst 0, 1) := dk_3 (dk_at dksX1_made_2 7 rfl rfl)
theorem dX1_made_54 : decode cX1_made 54 = .ok (.invokevirtual 330, 3) := dk_182 1 74 (dk_at dksX1_made_2 8 rfl rfl)
theorem dX1_made_57 : decode cX1_made 57 = .ok (.iload_n 2, 1) := dk_28 (dk_at dksX1_made_2 11 rfl rfl)
theorem dX1_made_58 : decode cX1_made 58 = .ok (.invokevirtual 338, 3) := dk_182 1 82 (dk_at dksX1_made_2 12 rfl rfl)
theorem dX1_made_61 : decode cX1_made 61 = .ok (.pop, 1) := dk_87 (dk_at dksX1_made_2 15 rfl rfl)
theorem dX1_made_62 : decode cX1_made 62 = .ok (.iinc 2 1, 3) := dk_132 2 1 (dk_at dksX1_made_2 16 rfl rfl)
theorem dX1_made_65 : decode cX1_made 65 = .ok (.goto (-19), 3) := dk_167 255 237 (dk_at dksX1_made_2 19 rfl rfl)
theorem dX1_made_68 : decode cX1_made 68 = .ok (.aload_n 1, 1) := dk_43 (dk_at dksX1_made_2 22 rfl rfl)
theorem dX1_made_69 : decode cX1_made 69 = .ok (.getfield 339, 3) := dk_180 1 83 (dk_at dksX1_made_3 0 rfl rfl)
theorem dX1_made_72 : decode cX1_made 72 = .ok (.ifCond .ne 5, 3) := dk_154 0 5 (dk_at dksX1_made_3 3 rfl rfl)
theorem dX1_made_75 : decode cX1_made 75 = .ok (.iconst 0, 1) := dk_3 (dk_at dksX1_made_3 6 rfl rfl)
theorem dX1_made_76 : decode cX1_made 76 = .ok (.ireturn, 1) := dk_172 (dk_at dksX1_made_3 7 rfl rfl)
theorem dX1_made_77 : decode cX1_made 77 = .ok (.aload_n 1, 1) := dk_43 (dk_at dksX1_made_3 8 rfl rfl)
theorem dX1_made_78 : decode cX1_made 78 = .ok (.getfield 342, 3) := dk_180 1 86 (dk_at dksX1_made_3 9 rfl rfl)
theorem dX1_made_81 : decode cX1_made 81 = .ok (.iconst 0, 1) := dk_3 (dk_at dksX1_made_3 12 rfl rfl)
theorem dX1_made_82 : decode cX1_made 82 = .ok (.aload_n 0, 1) := dk_42 (dk_at dksX1_made_3 13 rfl rfl)
theorem dX1_made_83 : decode cX1_made 83 = .ok (.getfield 51, 3) := dk_180 0 51 (dk_at dksX1_made_3 14 rfl rfl)
theorem dX1_made_86 : decode cX1_made 86 = .ok (.iconst 0, 1) := dk_3 (dk_at dksX1_made_3 17 rfl rfl)
theorem dX1_made_87 : decode cX1_made 87 = .ok (.aload_n 1, 1) := dk_43 (dk_at dksX1_made_3 18 rfl rfl)
theorem dX1_made_88 : decode cX1_made 88 = .ok (.getfield 345, 3) := dk_180 1 89 (dk_at dksX1_made_3 19 rfl rfl)
theorem dX1_made_91 : decode cX1_made 91 = .ok (.invokestatic 304, 3) := dk_184 1 48 (dk_at dksX1_made_4 0 rfl rfl)
theorem dX1_made_94 : decode cX1_made 94 = .ok (.aload_n 0, 1) := dk_42 (dk_at dksX1_made_4 3 rfl rfl)
theorem dX1_made_95 : decode cX1_made 95 = .ok (.aload_n 1, 1) := dk_43 (dk_at dksX1_made_4 4 rfl rfl)
theorem dX1_made_96 : decode cX1_made 96 = .ok (.getfield 345, 3) := dk_180 1 89 (dk_at dksX1_made_4 5 rfl rfl)
theorem dX1_made_99 : decode cX1_made 99 = .ok (.putfield 348, 3) := dk_181 1 92 (dk_at dksX1_made_4 8 rfl rfl)
theorem dX1_made_102 : decode cX1_made 102 = .ok (.aload_n 0, 1) := dk_42 (dk_at dksX1_made_4 11 rfl rfl)
theorem dX1_made_103 : decode cX1_made 103 = .ok (.aload_n 1, 1) := dk_43 (dk_at dksX1_made_4 12 rfl rfl)
theorem dX1_made_104 : decode cX1_made 104 = .ok (.invokevirtual 351, 3) := dk_182 1 95 (dk_at dksX1_made_4 13 rfl rfl)
theorem dX1_made_107 : decode cX1_made 107 = .ok (.putfield 58, 3) := dk_181 0 58 (dk_at dksX1_made_4 16 rfl rfl)
theorem dX1_made_110 : decode cX1_made 110 = .ok (.aload_n 1, 1) := dk_43 (dk_at dksX1_made_4 19 rfl rfl)
theorem dX1_made_111 : decode cX1_made 111 = .ok (.getfield 339, 3) := dk_180 1 83 (dk_at dksX1_made_4 20 rfl rfl)
theorem dX1_made_114 : decode cX1_made 114 = .ok (.ireturn, 1) := dk_172 (dk_at dksX1_made_4 23 rfl rfl)
abbrev cX1_onTape : ByteArray := prog_1_method_10_code
def yX1_onTape : MethodName := ⟨RX1, "onTape", "(I)I"⟩
def dkwX1_onTape_0 : List UInt8 := [42, 180, 0, 18, 27, 51, 17, 0, 255, 126, 172]
abbrev dktX1_onTape_0 : List UInt8 := dkwX1_onTape_0 ++ []
theorem dksX1_onTape_0 : cX1_onTape.data.toList.drop 0 = dktX1_onTape_0 := by decide +kernel
theorem dX1_onTape_0 : decode cX1_onTape 0 = .ok (.aload_n 0, 1) := dk_42 (dk_at dksX1_onTape_0 0 rfl rfl)
theorem dX1_onTape_1 : decode cX1_onTape 1 = .ok (.getfield 18, 3) := dk_180 0 18 (dk_at dksX1_onTape_0 1 rfl rfl)
theorem dX1_onTape_4 : decode cX1_onTape 4 = .ok (.iload_n 1, 1) := dk_27 (dk_at dksX1_onTape_0 4 rfl rfl)
theorem dX1_onTape_5 : decode cX1_onTape 5 = .ok (.baload, 1) := dk_51 (dk_at dksX1_onTape_0 5 rfl rfl)
theorem dX1_onTape_6 : decode cX1_onTape 6 = .ok (.sipush 255, 3) := dk_17 0 255 (dk_at dksX1_onTape_0 6 rfl rfl)
theorem dX1_onTape_9 : decode cX1_onTape 9 = .ok (.iand, 1) := dk_126 (dk_at dksX1_onTape_0 9 rfl rfl)
theorem dX1_onTape_10 : decode cX1_onTape 10 = .ok (.ireturn, 1) := dk_172 (dk_at dksX1_onTape_0 10 rfl rfl)
abbrev cX1_madeAt : ByteArray := prog_1_method_43_code
def yX1_madeAt : MethodName := ⟨RX1, "madeAt", "(I)I"⟩
def dkwX1_madeAt_1 : List UInt8 := [172]
abbrev dktX1_madeAt_1 : List UInt8 := dkwX1_madeAt_1 ++ []
def dkwX1_madeAt_0 : List UInt8 := [27, 3, 42, 180, 1, 92, 4, 100, 184, 0, 147, 153, 0, 12, 42, 180, 0, 51, 27, 46, 167, 0, 4, 2]
abbrev dktX1_madeAt_0 : List UInt8 := dkwX1_madeAt_0 ++ dktX1_madeAt_1
theorem dksX1_madeAt_0 : cX1_madeAt.data.toList.drop 0 = dktX1_madeAt_0 := by decide +kernel
theorem dksX1_madeAt_1 : cX1_madeAt.data.toList.drop 24 = dktX1_madeAt_1 := dk_seg dksX1_madeAt_0 24 rfl rfl
theorem dX1_madeAt_0 : decode cX1_madeAt 0 = .ok (.iload_n 1, 1) := dk_27 (dk_at dksX1_madeAt_0 0 rfl rfl)
theorem dX1_madeAt_1 : decode cX1_madeAt 1 = .ok (.iconst 0, 1) := dk_3 (dk_at dksX1_madeAt_0 1 rfl rfl)
theorem dX1_madeAt_2 : decode cX1_madeAt 2 = .ok (.aload_n 0, 1) := dk_42 (dk_at dksX1_madeAt_0 2 rfl rfl)
theorem dX1_madeAt_3 : decode cX1_madeAt 3 = .ok (.getfield 348, 3) := dk_180 1 92 (dk_at dksX1_madeAt_0 3 rfl rfl)
theorem dX1_madeAt_6 : decode cX1_madeAt 6 = .ok (.iconst 1, 1) := dk_4 (dk_at dksX1_madeAt_0 6 rfl rfl)
theorem dX1_madeAt_7 : decode cX1_madeAt 7 = .ok (.isub, 1) := dk_100 (dk_at dksX1_madeAt_0 7 rfl rfl)
theorem dX1_madeAt_8 : decode cX1_madeAt 8 = .ok (.invokestatic 147, 3) := dk_184 0 147 (dk_at dksX1_madeAt_0 8 rfl rfl)
theorem dX1_madeAt_11 : decode cX1_madeAt 11 = .ok (.ifCond .eq 12, 3) := dk_153 0 12 (dk_at dksX1_madeAt_0 11 rfl rfl)
theorem dX1_madeAt_14 : decode cX1_madeAt 14 = .ok (.aload_n 0, 1) := dk_42 (dk_at dksX1_madeAt_0 14 rfl rfl)
theorem dX1_madeAt_15 : decode cX1_madeAt 15 = .ok (.getfield 51, 3) := dk_180 0 51 (dk_at dksX1_madeAt_0 15 rfl rfl)
theorem dX1_madeAt_18 : decode cX1_madeAt 18 = .ok (.iload_n 1, 1) := dk_27 (dk_at dksX1_madeAt_0 18 rfl rfl)
theorem dX1_madeAt_19 : decode cX1_madeAt 19 = .ok (.iaload, 1) := dk_46 (dk_at dksX1_madeAt_0 19 rfl rfl)
theorem dX1_madeAt_20 : decode cX1_madeAt 20 = .ok (.goto 4, 3) := dk_167 0 4 (dk_at dksX1_madeAt_0 20 rfl rfl)
theorem dX1_madeAt_23 : decode cX1_madeAt 23 = .ok (.iconst (-1), 1) := dk_2 (dk_at dksX1_madeAt_0 23 rfl rfl)
theorem dX1_madeAt_24 : decode cX1_madeAt 24 = .ok (.ireturn, 1) := dk_172 (dk_at dksX1_madeAt_1 0 rfl rfl)
abbrev cX1_likely : ByteArray := prog_1_method_44_code
def yX1_likely : MethodName := ⟨RX1, "likely", "()I"⟩
theorem dX1_likely_0 : decode cX1_likely 0 = .ok (.aload_n 0, 1) := by decide +kernel
theorem dX1_likely_1 : decode cX1_likely 1 = .ok (.getfield 58, 3) := by decide +kernel
theorem dX1_likely_4 : decode cX1_likely 4 = .ok (.ireturn, 1) := by decide +kernel
abbrev cX1_caravan : ByteArray := prog_1_method_47_code
def yX1_caravan : MethodName := ⟨RX1, "caravan", "(I)I"⟩
def dkwX1_caravan_2 : List UInt8 := [2, 181, 1, 116, 42, 3, 28, 27, 182, 1, 106, 42, 28, 184, 0, 236, 181, 1, 119, 42, 180, 1, 116, 172]
abbrev dktX1_caravan_2 : List UInt8 := dkwX1_caravan_2 ++ []
def dkwX1_caravan_1 : List UInt8 := [180, 0, 36, 29, 27, 182, 1, 109, 154, 0, 9, 28, 4, 29, 120, 128, 61, 132, 3, 1, 167, 255, 227, 42]
abbrev dktX1_caravan_1 : List UInt8 := dkwX1_caravan_1 ++ dktX1_caravan_2
def dkwX1_caravan_0 : List UInt8 := [42, 27, 182, 0, 176, 154, 0, 5, 2, 172, 3, 61, 3, 62, 29, 42, 182, 0, 194, 162, 0, 27, 42]
abbrev dktX1_caravan_0 : List UInt8 := dkwX1_caravan_0 ++ dktX1_caravan_1
theorem dksX1_caravan_0 : cX1_caravan.data.toList.drop 0 = dktX1_caravan_0 := by decide +kernel
theorem dksX1_caravan_1 : cX1_caravan.data.toList.drop 23 = dktX1_caravan_1 := dk_seg dksX1_caravan_0 23 rfl rfl
theorem dksX1_caravan_2 : cX1_caravan.data.toList.drop 47 = dktX1_caravan_2 := dk_seg dksX1_caravan_1 24 rfl rfl
theorem dX1_caravan_0 : decode cX1_caravan 0 = .ok (.aload_n 0, 1) := dk_42 (dk_at dksX1_caravan_0 0 rfl rfl)
theorem dX1_caravan_1 : decode cX1_caravan 1 = .ok (.iload_n 1, 1) := dk_27 (dk_at dksX1_caravan_0 1 rfl rfl)
theorem dX1_caravan_2 : decode cX1_caravan 2 = .ok (.invokevirtual 176, 3) := dk_182 0 176 (dk_at dksX1_caravan_0 2 rfl rfl)
theorem dX1_caravan_5 : decode cX1_caravan 5 = .ok (.ifCond .ne 5, 3) := dk_154 0 5 (dk_at dksX1_caravan_0 5 rfl rfl)
theorem dX1_caravan_8 : decode cX1_caravan 8 = .ok (.iconst (-1), 1) := dk_2 (dk_at dksX1_caravan_0 8 rfl rfl)
theorem dX1_caravan_9 : decode cX1_caravan 9 = .ok (.ireturn, 1) := dk_172 (dk_at dksX1_caravan_0 9 rfl rfl)
theorem dX1_caravan_10 : decode cX1_caravan 10 = .ok (.iconst 0, 1) := dk_3 (dk_at dksX1_caravan_0 10 rfl rfl)
theorem dX1_caravan_11 : decode cX1_caravan 11 = .ok (.istore_n 2, 1) := dk_61 (dk_at dksX1_caravan_0 11 rfl rfl)
theorem dX1_caravan_12 : decode cX1_caravan 12 = .ok (.iconst 0, 1) := dk_3 (dk_at dksX1_caravan_0 12 rfl rfl)
theorem dX1_caravan_13 : decode cX1_caravan 13 = .ok (.istore_n 3, 1) := dk_62 (dk_at dksX1_caravan_0 13 rfl rfl)
theorem dX1_caravan_14 : decode cX1_caravan 14 = .ok (.iload_n 3, 1) := dk_29 (dk_at dksX1_caravan_0 14 rfl rfl)
theorem dX1_caravan_15 : decode cX1_caravan 15 = .ok (.aload_n 0, 1) := dk_42 (dk_at dksX1_caravan_0 15 rfl rfl)
theorem dX1_caravan_16 : decode cX1_caravan 16 = .ok (.invokevirtual 194, 3) := dk_182 0 194 (dk_at dksX1_caravan_0 16 rfl rfl)
theorem dX1_caravan_19 : decode cX1_caravan 19 = .ok (.if_icmp .ge 27, 3) := dk_162 0 27 (dk_at dksX1_caravan_0 19 rfl rfl)
theorem dX1_caravan_22 : decode cX1_caravan 22 = .ok (.aload_n 0, 1) := dk_42 (dk_at dksX1_caravan_0 22 rfl rfl)
theorem dX1_caravan_23 : decode cX1_caravan 23 = .ok (.getfield 36, 3) := dk_180 0 36 (dk_at dksX1_caravan_1 0 rfl rfl)
theorem dX1_caravan_26 : decode cX1_caravan 26 = .ok (.iload_n 3, 1) := dk_29 (dk_at dksX1_caravan_1 3 rfl rfl)
theorem dX1_caravan_27 : decode cX1_caravan 27 = .ok (.iload_n 1, 1) := dk_27 (dk_at dksX1_caravan_1 4 rfl rfl)
theorem dX1_caravan_28 : decode cX1_caravan 28 = .ok (.invokevirtual 365, 3) := dk_182 1 109 (dk_at dksX1_caravan_1 5 rfl rfl)
theorem dX1_caravan_31 : decode cX1_caravan 31 = .ok (.ifCond .ne 9, 3) := dk_154 0 9 (dk_at dksX1_caravan_1 8 rfl rfl)
theorem dX1_caravan_34 : decode cX1_caravan 34 = .ok (.iload_n 2, 1) := dk_28 (dk_at dksX1_caravan_1 11 rfl rfl)
theorem dX1_caravan_35 : decode cX1_caravan 35 = .ok (.iconst 1, 1) := dk_4 (dk_at dksX1_caravan_1 12 rfl rfl)
theorem dX1_caravan_36 : decode cX1_caravan 36 = .ok (.iload_n 3, 1) := dk_29 (dk_at dksX1_caravan_1 13 rfl rfl)
theorem dX1_caravan_37 : decode cX1_caravan 37 = .ok (.ishl, 1) := dk_120 (dk_at dksX1_caravan_1 14 rfl rfl)
theorem dX1_caravan_38 : decode cX1_caravan 38 = .ok (.ior, 1) := dk_128 (dk_at dksX1_caravan_1 15 rfl rfl)
theorem dX1_caravan_39 : decode cX1_caravan 39 = .ok (.istore_n 2, 1) := dk_61 (dk_at dksX1_caravan_1 16 rfl rfl)
theorem dX1_caravan_40 : decode cX1_caravan 40 = .ok (.iinc 3 1, 3) := dk_132 3 1 (dk_at dksX1_caravan_1 17 rfl rfl)
theorem dX1_caravan_43 : decode cX1_caravan 43 = .ok (.goto (-29), 3) := dk_167 255 227 (dk_at dksX1_caravan_1 20 rfl rfl)
theorem dX1_caravan_46 : decode cX1_caravan 46 = .ok (.aload_n 0, 1) := dk_42 (dk_at dksX1_caravan_1 23 rfl rfl)
theorem dX1_caravan_47 : decode cX1_caravan 47 = .ok (.iconst (-1), 1) := dk_2 (dk_at dksX1_caravan_2 0 rfl rfl)
theorem dX1_caravan_48 : decode cX1_caravan 48 = .ok (.putfield 372, 3) := dk_181 1 116 (dk_at dksX1_caravan_2 1 rfl rfl)
theorem dX1_caravan_51 : decode cX1_caravan 51 = .ok (.aload_n 0, 1) := dk_42 (dk_at dksX1_caravan_2 4 rfl rfl)
theorem dX1_caravan_52 : decode cX1_caravan 52 = .ok (.iconst 0, 1) := dk_3 (dk_at dksX1_caravan_2 5 rfl rfl)
theorem dX1_caravan_53 : decode cX1_caravan 53 = .ok (.iload_n 2, 1) := dk_28 (dk_at dksX1_caravan_2 6 rfl rfl)
theorem dX1_caravan_54 : decode cX1_caravan 54 = .ok (.iload_n 1, 1) := dk_27 (dk_at dksX1_caravan_2 7 rfl rfl)
theorem dX1_caravan_55 : decode cX1_caravan 55 = .ok (.invokevirtual 362, 3) := dk_182 1 106 (dk_at dksX1_caravan_2 8 rfl rfl)
theorem dX1_caravan_58 : decode cX1_caravan 58 = .ok (.aload_n 0, 1) := dk_42 (dk_at dksX1_caravan_2 11 rfl rfl)
theorem dX1_caravan_59 : decode cX1_caravan 59 = .ok (.iload_n 2, 1) := dk_28 (dk_at dksX1_caravan_2 12 rfl rfl)
theorem dX1_caravan_60 : decode cX1_caravan 60 = .ok (.invokestatic 236, 3) := dk_184 0 236 (dk_at dksX1_caravan_2 13 rfl rfl)
theorem dX1_caravan_63 : decode cX1_caravan 63 = .ok (.putfield 375, 3) := dk_181 1 119 (dk_at dksX1_caravan_2 16 rfl rfl)
theorem dX1_caravan_66 : decode cX1_caravan 66 = .ok (.aload_n 0, 1) := dk_42 (dk_at dksX1_caravan_2 19 rfl rfl)
theorem dX1_caravan_67 : decode cX1_caravan 67 = .ok (.getfield 372, 3) := dk_180 1 116 (dk_at dksX1_caravan_2 20 rfl rfl)
theorem dX1_caravan_70 : decode cX1_caravan 70 = .ok (.ireturn, 1) := dk_172 (dk_at dksX1_caravan_2 23 rfl rfl)
abbrev cX1_rowsFrom : ByteArray := prog_1_method_45_code
def yX1_rowsFrom : MethodName := ⟨RX1, "rowsFrom", "(III)V"⟩
def dkwX1_rowsFrom_2 : List UInt8 := [27, 4, 96, 28, 4, 21, 4, 120, 2, 130, 126, 29, 182, 1, 106, 132, 4, 1, 167, 255, 208, 177]
abbrev dktX1_rowsFrom_2 : List UInt8 := dkwX1_rowsFrom_2 ++ []
def dkwX1_rowsFrom_1 : List UInt8 := [162, 0, 45, 28, 21, 4, 184, 1, 103, 154, 0, 6, 167, 0, 27, 42, 180, 0, 61, 27, 21, 4, 79, 42]
abbrev dktX1_rowsFrom_1 : List UInt8 := dkwX1_rowsFrom_1 ++ dktX1_rowsFrom_2
def dkwX1_rowsFrom_0 : List UInt8 := [28, 154, 0, 14, 42, 27, 181, 1, 97, 42, 29, 182, 1, 100, 177, 3, 54, 4, 21, 4, 42, 182, 0, 194]
abbrev dktX1_rowsFrom_0 : List UInt8 := dkwX1_rowsFrom_0 ++ dktX1_rowsFrom_1
theorem dksX1_rowsFrom_0 : cX1_rowsFrom.data.toList.drop 0 = dktX1_rowsFrom_0 := by decide +kernel
theorem dksX1_rowsFrom_1 : cX1_rowsFrom.data.toList.drop 24 = dktX1_rowsFrom_1 := dk_seg dksX1_rowsFrom_0 24 rfl rfl
theorem dksX1_rowsFrom_2 : cX1_rowsFrom.data.toList.drop 48 = dktX1_rowsFrom_2 := dk_seg dksX1_rowsFrom_1 24 rfl rfl
theorem dX1_rowsFrom_0 : decode cX1_rowsFrom 0 = .ok (.iload_n 2, 1) := dk_28 (dk_at dksX1_rowsFrom_0 0 rfl rfl)
theorem dX1_rowsFrom_1 : decode cX1_rowsFrom 1 = .ok (.ifCond .ne 14, 3) := dk_154 0 14 (dk_at dksX1_rowsFrom_0 1 rfl rfl)
theorem dX1_rowsFrom_4 : decode cX1_rowsFrom 4 = .ok (.aload_n 0, 1) := dk_42 (dk_at dksX1_rowsFrom_0 4 rfl rfl)
theorem dX1_rowsFrom_5 : decode cX1_rowsFrom 5 = .ok (.iload_n 1, 1) := dk_27 (dk_at dksX1_rowsFrom_0 5 rfl rfl)
theorem dX1_rowsFrom_6 : decode cX1_rowsFrom 6 = .ok (.putfield 353, 3) := dk_181 1 97 (dk_at dksX1_rowsFrom_0 6 rfl rfl)
theorem dX1_rowsFrom_9 : decode cX1_rowsFrom 9 = .ok (.aload_n 0, 1) := dk_42 (dk_at dksX1_rowsFrom_0 9 rfl rfl)
theorem dX1_rowsFrom_10 : decode cX1_rowsFrom 10 = .ok (.iload_n 3, 1) := dk_29 (dk_at dksX1_rowsFrom_0 10 rfl rfl)
theorem dX1_rowsFrom_11 : decode cX1_rowsFrom 11 = .ok (.invokevirtual 356, 3) := dk_182 1 100 (dk_at dksX1_rowsFrom_0 11 rfl rfl)
theorem dX1_rowsFrom_14 : decode cX1_rowsFrom 14 = .ok (.return_, 1) := dk_177 (dk_at dksX1_rowsFrom_0 14 rfl rfl)
theorem dX1_rowsFrom_15 : decode cX1_rowsFrom 15 = .ok (.iconst 0, 1) := dk_3 (dk_at dksX1_rowsFrom_0 15 rfl rfl)
theorem dX1_rowsFrom_16 : decode cX1_rowsFrom 16 = .ok (.istore 4, 2) := dk_54 4 (dk_at dksX1_rowsFrom_0 16 rfl rfl)
theorem dX1_rowsFrom_18 : decode cX1_rowsFrom 18 = .ok (.iload 4, 2) := dk_21 4 (dk_at dksX1_rowsFrom_0 18 rfl rfl)
theorem dX1_rowsFrom_20 : decode cX1_rowsFrom 20 = .ok (.aload_n 0, 1) := dk_42 (dk_at dksX1_rowsFrom_0 20 rfl rfl)
theorem dX1_rowsFrom_21 : decode cX1_rowsFrom 21 = .ok (.invokevirtual 194, 3) := dk_182 0 194 (dk_at dksX1_rowsFrom_0 21 rfl rfl)
theorem dX1_rowsFrom_24 : decode cX1_rowsFrom 24 = .ok (.if_icmp .ge 45, 3) := dk_162 0 45 (dk_at dksX1_rowsFrom_1 0 rfl rfl)
theorem dX1_rowsFrom_27 : decode cX1_rowsFrom 27 = .ok (.iload_n 2, 1) := dk_28 (dk_at dksX1_rowsFrom_1 3 rfl rfl)
theorem dX1_rowsFrom_28 : decode cX1_rowsFrom 28 = .ok (.iload 4, 2) := dk_21 4 (dk_at dksX1_rowsFrom_1 4 rfl rfl)
theorem dX1_rowsFrom_30 : decode cX1_rowsFrom 30 = .ok (.invokestatic 359, 3) := dk_184 1 103 (dk_at dksX1_rowsFrom_1 6 rfl rfl)
theorem dX1_rowsFrom_33 : decode cX1_rowsFrom 33 = .ok (.ifCond .ne 6, 3) := dk_154 0 6 (dk_at dksX1_rowsFrom_1 9 rfl rfl)
theorem dX1_rowsFrom_36 : decode cX1_rowsFrom 36 = .ok (.goto 27, 3) := dk_167 0 27 (dk_at dksX1_rowsFrom_1 12 rfl rfl)
theorem dX1_rowsFrom_39 : decode cX1_rowsFrom 39 = .ok (.aload_n 0, 1) := dk_42 (dk_at dksX1_rowsFrom_1 15 rfl rfl)
theorem dX1_rowsFrom_40 : decode cX1_rowsFrom 40 = .ok (.getfield 61, 3) := dk_180 0 61 (dk_at dksX1_rowsFrom_1 16 rfl rfl)
theorem dX1_rowsFrom_43 : decode cX1_rowsFrom 43 = .ok (.iload_n 1, 1) := dk_27 (dk_at dksX1_rowsFrom_1 19 rfl rfl)
theorem dX1_rowsFrom_44 : decode cX1_rowsFrom 44 = .ok (.iload 4, 2) := dk_21 4 (dk_at dksX1_rowsFrom_1 20 rfl rfl)
theorem dX1_rowsFrom_46 : decode cX1_rowsFrom 46 = .ok (.iastore, 1) := dk_79 (dk_at dksX1_rowsFrom_1 22 rfl rfl)
theorem dX1_rowsFrom_47 : decode cX1_rowsFrom 47 = .ok (.aload_n 0, 1) := dk_42 (dk_at dksX1_rowsFrom_1 23 rfl rfl)
theorem dX1_rowsFrom_48 : decode cX1_rowsFrom 48 = .ok (.iload_n 1, 1) := dk_27 (dk_at dksX1_rowsFrom_2 0 rfl rfl)
theorem dX1_rowsFrom_49 : decode cX1_rowsFrom 49 = .ok (.iconst 1, 1) := dk_4 (dk_at dksX1_rowsFrom_2 1 rfl rfl)
theorem dX1_rowsFrom_50 : decode cX1_rowsFrom 50 = .ok (.iadd, 1) := dk_96 (dk_at dksX1_rowsFrom_2 2 rfl rfl)
theorem dX1_rowsFrom_51 : decode cX1_rowsFrom 51 = .ok (.iload_n 2, 1) := dk_28 (dk_at dksX1_rowsFrom_2 3 rfl rfl)
theorem dX1_rowsFrom_52 : decode cX1_rowsFrom 52 = .ok (.iconst 1, 1) := dk_4 (dk_at dksX1_rowsFrom_2 4 rfl rfl)
theorem dX1_rowsFrom_53 : decode cX1_rowsFrom 53 = .ok (.iload 4, 2) := dk_21 4 (dk_at dksX1_rowsFrom_2 5 rfl rfl)
theorem dX1_rowsFrom_55 : decode cX1_rowsFrom 55 = .ok (.ishl, 1) := dk_120 (dk_at dksX1_rowsFrom_2 7 rfl rfl)
theorem dX1_rowsFrom_56 : decode cX1_rowsFrom 56 = .ok (.iconst (-1), 1) := dk_2 (dk_at dksX1_rowsFrom_2 8 rfl rfl)
theorem dX1_rowsFrom_57 : decode cX1_rowsFrom 57 = .ok (.ixor, 1) := dk_130 (dk_at dksX1_rowsFrom_2 9 rfl rfl)
theorem dX1_rowsFrom_58 : decode cX1_rowsFrom 58 = .ok (.iand, 1) := dk_126 (dk_at dksX1_rowsFrom_2 10 rfl rfl)
theorem dX1_rowsFrom_59 : decode cX1_rowsFrom 59 = .ok (.iload_n 3, 1) := dk_29 (dk_at dksX1_rowsFrom_2 11 rfl rfl)
theorem dX1_rowsFrom_60 : decode cX1_rowsFrom 60 = .ok (.invokevirtual 362, 3) := dk_182 1 106 (dk_at dksX1_rowsFrom_2 12 rfl rfl)
theorem dX1_rowsFrom_63 : decode cX1_rowsFrom 63 = .ok (.iinc 4 1, 3) := dk_132 4 1 (dk_at dksX1_rowsFrom_2 15 rfl rfl)
theorem dX1_rowsFrom_66 : decode cX1_rowsFrom 66 = .ok (.goto (-48), 3) := dk_167 255 208 (dk_at dksX1_rowsFrom_2 18 rfl rfl)
theorem dX1_rowsFrom_69 : decode cX1_rowsFrom 69 = .ok (.return_, 1) := dk_177 (dk_at dksX1_rowsFrom_2 21 rfl rfl)
abbrev cX1_keepLonger : ByteArray := prog_1_method_46_code
def yX1_keepLonger : MethodName := ⟨RX1, "keepLonger", "(I)V"⟩
def dkwX1_keepLonger_4 : List UInt8 := [3, 42, 180, 1, 97, 184, 1, 48, 177]
abbrev dktX1_keepLonger_4 : List UInt8 := dkwX1_keepLonger_4 ++ []
def dkwX1_keepLonger_3 : List UInt8 := [163, 0, 4, 177, 42, 42, 180, 0, 40, 182, 0, 222, 181, 1, 116, 42, 180, 0, 61, 3, 42, 180, 0, 64]
abbrev dktX1_keepLonger_3 : List UInt8 := dkwX1_keepLonger_3 ++ dktX1_keepLonger_4
def dkwX1_keepLonger_2 : List UInt8 := [28, 46, 27, 182, 1, 113, 132, 2, 1, 167, 255, 214, 42, 180, 0, 40, 182, 0, 222, 42, 180, 1, 116]
abbrev dktX1_keepLonger_2 : List UInt8 := dkwX1_keepLonger_2 ++ dktX1_keepLonger_3
def dkwX1_keepLonger_1 : List UInt8 := [180, 0, 40, 42, 180, 0, 61, 28, 46, 27, 182, 1, 109, 154, 0, 17, 42, 180, 0, 40, 42, 180, 0, 61]
abbrev dktX1_keepLonger_1 : List UInt8 := dkwX1_keepLonger_1 ++ dktX1_keepLonger_2
def dkwX1_keepLonger_0 : List UInt8 := [42, 180, 0, 40, 42, 180, 0, 36, 182, 0, 239, 87, 3, 61, 28, 42, 180, 1, 97, 162, 0, 40, 42]
abbrev dktX1_keepLonger_0 : List UInt8 := dkwX1_keepLonger_0 ++ dktX1_keepLonger_1
theorem dksX1_keepLonger_0 : cX1_keepLonger.data.toList.drop 0 = dktX1_keepLonger_0 := by decide +kernel
theorem dksX1_keepLonger_1 : cX1_keepLonger.data.toList.drop 23 = dktX1_keepLonger_1 := dk_seg dksX1_keepLonger_0 23 rfl rfl
theorem dksX1_keepLonger_2 : cX1_keepLonger.data.toList.drop 47 = dktX1_keepLonger_2 := dk_seg dksX1_keepLonger_1 24 rfl rfl
theorem dksX1_keepLonger_3 : cX1_keepLonger.data.toList.drop 70 = dktX1_keepLonger_3 := dk_seg dksX1_keepLonger_2 23 rfl rfl
theorem dksX1_keepLonger_4 : cX1_keepLonger.data.toList.drop 94 = dktX1_keepLonger_4 := dk_seg dksX1_keepLonger_3 24 rfl rfl
theorem dX1_keepLonger_0 : decode cX1_keepLonger 0 = .ok (.aload_n 0, 1) := dk_42 (dk_at dksX1_keepLonger_0 0 rfl rfl)
theorem dX1_keepLonger_1 : decode cX1_keepLonger 1 = .ok (.getfield 40, 3) := dk_180 0 40 (dk_at dksX1_keepLonger_0 1 rfl rfl)
theorem dX1_keepLonger_4 : decode cX1_keepLonger 4 = .ok (.aload_n 0, 1) := dk_42 (dk_at dksX1_keepLonger_0 4 rfl rfl)
theorem dX1_keepLonger_5 : decode cX1_keepLonger 5 = .ok (.getfield 36, 3) := dk_180 0 36 (dk_at dksX1_keepLonger_0 5 rfl rfl)
theorem dX1_keepLonger_8 : decode cX1_keepLonger 8 = .ok (.invokevirtual 239, 3) := dk_182 0 239 (dk_at dksX1_keepLonger_0 8 rfl rfl)
theorem dX1_keepLonger_11 : decode cX1_keepLonger 11 = .ok (.pop, 1) := dk_87 (dk_at dksX1_keepLonger_0 11 rfl rfl)
theorem dX1_keepLonger_12 : decode cX1_keepLonger 12 = .ok (.iconst 0, 1) := dk_3 (dk_at dksX1_keepLonger_0 12 rfl rfl)
theorem dX1_keepLonger_13 : decode cX1_keepLonger 13 = .ok (.istore_n 2, 1) := dk_61 (dk_at dksX1_keepLonger_0 13 rfl rfl)
theorem dX1_keepLonger_14 : decode cX1_keepLonger 14 = .ok (.iload_n 2, 1) := dk_28 (dk_at dksX1_keepLonger_0 14 rfl rfl)
theorem dX1_keepLonger_15 : decode cX1_keepLonger 15 = .ok (.aload_n 0, 1) := dk_42 (dk_at dksX1_keepLonger_0 15 rfl rfl)
theorem dX1_keepLonger_16 : decode cX1_keepLonger 16 = .ok (.getfield 353, 3) := dk_180 1 97 (dk_at dksX1_keepLonger_0 16 rfl rfl)
theorem dX1_keepLonger_19 : decode cX1_keepLonger 19 = .ok (.if_icmp .ge 40, 3) := dk_162 0 40 (dk_at dksX1_keepLonger_0 19 rfl rfl)
theorem dX1_keepLonger_22 : decode cX1_keepLonger 22 = .ok (.aload_n 0, 1) := dk_42 (dk_at dksX1_keepLonger_0 22 rfl rfl)
theorem dX1_keepLonger_23 : decode cX1_keepLonger 23 = .ok (.getfield 40, 3) := dk_180 0 40 (dk_at dksX1_keepLonger_1 0 rfl rfl)
theorem dX1_keepLonger_26 : decode cX1_keepLonger 26 = .ok (.aload_n 0, 1) := dk_42 (dk_at dksX1_keepLonger_1 3 rfl rfl)
theorem dX1_keepLonger_27 : decode cX1_keepLonger 27 = .ok (.getfield 61, 3) := dk_180 0 61 (dk_at dksX1_keepLonger_1 4 rfl rfl)
theorem dX1_keepLonger_30 : decode cX1_keepLonger 30 = .ok (.iload_n 2, 1) := dk_28 (dk_at dksX1_keepLonger_1 7 rfl rfl)
theorem dX1_keepLonger_31 : decode cX1_keepLonger 31 = .ok (.iaload, 1) := dk_46 (dk_at dksX1_keepLonger_1 8 rfl rfl)
theorem dX1_keepLonger_32 : decode cX1_keepLonger 32 = .ok (.iload_n 1, 1) := dk_27 (dk_at dksX1_keepLonger_1 9 rfl rfl)
theorem dX1_keepLonger_33 : decode cX1_keepLonger 33 = .ok (.invokevirtual 365, 3) := dk_182 1 109 (dk_at dksX1_keepLonger_1 10 rfl rfl)
theorem dX1_keepLonger_36 : decode cX1_keepLonger 36 = .ok (.ifCond .ne 17, 3) := dk_154 0 17 (dk_at dksX1_keepLonger_1 13 rfl rfl)
theorem dX1_keepLonger_39 : decode cX1_keepLonger 39 = .ok (.aload_n 0, 1) := dk_42 (dk_at dksX1_keepLonger_1 16 rfl rfl)
theorem dX1_keepLonger_40 : decode cX1_keepLonger 40 = .ok (.getfield 40, 3) := dk_180 0 40 (dk_at dksX1_keepLonger_1 17 rfl rfl)
theorem dX1_keepLonger_43 : decode cX1_keepLonger 43 = .ok (.aload_n 0, 1) := dk_42 (dk_at dksX1_keepLonger_1 20 rfl rfl)
theorem dX1_keepLonger_44 : decode cX1_keepLonger 44 = .ok (.getfield 61, 3) := dk_180 0 61 (dk_at dksX1_keepLonger_1 21 rfl rfl)
theorem dX1_keepLonger_47 : decode cX1_keepLonger 47 = .ok (.iload_n 2, 1) := dk_28 (dk_at dksX1_keepLonger_2 0 rfl rfl)
theorem dX1_keepLonger_48 : decode cX1_keepLonger 48 = .ok (.iaload, 1) := dk_46 (dk_at dksX1_keepLonger_2 1 rfl rfl)
theorem dX1_keepLonger_49 : decode cX1_keepLonger 49 = .ok (.iload_n 1, 1) := dk_27 (dk_at dksX1_keepLonger_2 2 rfl rfl)
theorem dX1_keepLonger_50 : decode cX1_keepLonger 50 = .ok (.invokevirtual 369, 3) := dk_182 1 113 (dk_at dksX1_keepLonger_2 3 rfl rfl)
theorem dX1_keepLonger_53 : decode cX1_keepLonger 53 = .ok (.iinc 2 1, 3) := dk_132 2 1 (dk_at dksX1_keepLonger_2 6 rfl rfl)
theorem dX1_keepLonger_56 : decode cX1_keepLonger 56 = .ok (.goto (-42), 3) := dk_167 255 214 (dk_at dksX1_keepLonger_2 9 rfl rfl)
theorem dX1_keepLonger_59 : decode cX1_keepLonger 59 = .ok (.aload_n 0, 1) := dk_42 (dk_at dksX1_keepLonger_2 12 rfl rfl)
theorem dX1_keepLonger_60 : decode cX1_keepLonger 60 = .ok (.getfield 40, 3) := dk_180 0 40 (dk_at dksX1_keepLonger_2 13 rfl rfl)
theorem dX1_keepLonger_63 : decode cX1_keepLonger 63 = .ok (.invokevirtual 222, 3) := dk_182 0 222 (dk_at dksX1_keepLonger_2 16 rfl rfl)
theorem dX1_keepLonger_66 : decode cX1_keepLonger 66 = .ok (.aload_n 0, 1) := dk_42 (dk_at dksX1_keepLonger_2 19 rfl rfl)
theorem dX1_keepLonger_67 : decode cX1_keepLonger 67 = .ok (.getfield 372, 3) := dk_180 1 116 (dk_at dksX1_keepLonger_2 20 rfl rfl)
theorem dX1_keepLonger_70 : decode cX1_keepLonger 70 = .ok (.if_icmp .gt 4, 3) := dk_163 0 4 (dk_at dksX1_keepLonger_3 0 rfl rfl)
theorem dX1_keepLonger_73 : decode cX1_keepLonger 73 = .ok (.return_, 1) := dk_177 (dk_at dksX1_keepLonger_3 3 rfl rfl)
theorem dX1_keepLonger_74 : decode cX1_keepLonger 74 = .ok (.aload_n 0, 1) := dk_42 (dk_at dksX1_keepLonger_3 4 rfl rfl)
theorem dX1_keepLonger_75 : decode cX1_keepLonger 75 = .ok (.aload_n 0, 1) := dk_42 (dk_at dksX1_keepLonger_3 5 rfl rfl)
theorem dX1_keepLonger_76 : decode cX1_keepLonger 76 = .ok (.getfield 40, 3) := dk_180 0 40 (dk_at dksX1_keepLonger_3 6 rfl rfl)
theorem dX1_keepLonger_79 : decode cX1_keepLonger 79 = .ok (.invokevirtual 222, 3) := dk_182 0 222 (dk_at dksX1_keepLonger_3 9 rfl rfl)
theorem dX1_keepLonger_82 : decode cX1_keepLonger 82 = .ok (.putfield 372, 3) := dk_181 1 116 (dk_at dksX1_keepLonger_3 12 rfl rfl)
theorem dX1_keepLonger_85 : decode cX1_keepLonger 85 = .ok (.aload_n 0, 1) := dk_42 (dk_at dksX1_keepLonger_3 15 rfl rfl)
theorem dX1_keepLonger_86 : decode cX1_keepLonger 86 = .ok (.getfield 61, 3) := dk_180 0 61 (dk_at dksX1_keepLonger_3 16 rfl rfl)
theorem dX1_keepLonger_89 : decode cX1_keepLonger 89 = .ok (.iconst 0, 1) := dk_3 (dk_at dksX1_keepLonger_3 19 rfl rfl)
theorem dX1_keepLonger_90 : decode cX1_keepLonger 90 = .ok (.aload_n 0, 1) := dk_42 (dk_at dksX1_keepLonger_3 20 rfl rfl)
theorem dX1_keepLonger_91 : decode cX1_keepLonger 91 = .ok (.getfield 64, 3) := dk_180 0 64 (dk_at dksX1_keepLonger_3 21 rfl rfl)
theorem dX1_keepLonger_94 : decode cX1_keepLonger 94 = .ok (.iconst 0, 1) := dk_3 (dk_at dksX1_keepLonger_4 0 rfl rfl)
theorem dX1_keepLonger_95 : decode cX1_keepLonger 95 = .ok (.aload_n 0, 1) := dk_42 (dk_at dksX1_keepLonger_4 1 rfl rfl)
theorem dX1_keepLonger_96 : decode cX1_keepLonger 96 = .ok (.getfield 353, 3) := dk_180 1 97 (dk_at dksX1_keepLonger_4 2 rfl rfl)
theorem dX1_keepLonger_99 : decode cX1_keepLonger 99 = .ok (.invokestatic 304, 3) := dk_184 1 48 (dk_at dksX1_keepLonger_4 5 rfl rfl)
theorem dX1_keepLonger_102 : decode cX1_keepLonger 102 = .ok (.return_, 1) := dk_177 (dk_at dksX1_keepLonger_4 8 rfl rfl)
abbrev cX1_caravanAt : ByteArray := prog_1_method_48_code
def yX1_caravanAt : MethodName := ⟨RX1, "caravanAt", "(I)I"⟩
def dkwX1_caravanAt_1 : List UInt8 := [172]
abbrev dktX1_caravanAt_1 : List UInt8 := dkwX1_caravanAt_1 ++ []
def dkwX1_caravanAt_0 : List UInt8 := [27, 3, 42, 180, 1, 119, 4, 100, 184, 0, 147, 153, 0, 12, 42, 180, 0, 64, 27, 46, 167, 0, 4, 2]
abbrev dktX1_caravanAt_0 : List UInt8 := dkwX1_caravanAt_0 ++ dktX1_caravanAt_1
theorem dksX1_caravanAt_0 : cX1_caravanAt.data.toList.drop 0 = dktX1_caravanAt_0 := by decide +kernel
theorem dksX1_caravanAt_1 : cX1_caravanAt.data.toList.drop 24 = dktX1_caravanAt_1 := dk_seg dksX1_caravanAt_0 24 rfl rfl
theorem dX1_caravanAt_0 : decode cX1_caravanAt 0 = .ok (.iload_n 1, 1) := dk_27 (dk_at dksX1_caravanAt_0 0 rfl rfl)
theorem dX1_caravanAt_1 : decode cX1_caravanAt 1 = .ok (.iconst 0, 1) := dk_3 (dk_at dksX1_caravanAt_0 1 rfl rfl)
theorem dX1_caravanAt_2 : decode cX1_caravanAt 2 = .ok (.aload_n 0, 1) := dk_42 (dk_at dksX1_caravanAt_0 2 rfl rfl)
theorem dX1_caravanAt_3 : decode cX1_caravanAt 3 = .ok (.getfield 375, 3) := dk_180 1 119 (dk_at dksX1_caravanAt_0 3 rfl rfl)
theorem dX1_caravanAt_6 : decode cX1_caravanAt 6 = .ok (.iconst 1, 1) := dk_4 (dk_at dksX1_caravanAt_0 6 rfl rfl)
theorem dX1_caravanAt_7 : decode cX1_caravanAt 7 = .ok (.isub, 1) := dk_100 (dk_at dksX1_caravanAt_0 7 rfl rfl)
theorem dX1_caravanAt_8 : decode cX1_caravanAt 8 = .ok (.invokestatic 147, 3) := dk_184 0 147 (dk_at dksX1_caravanAt_0 8 rfl rfl)
theorem dX1_caravanAt_11 : decode cX1_caravanAt 11 = .ok (.ifCond .eq 12, 3) := dk_153 0 12 (dk_at dksX1_caravanAt_0 11 rfl rfl)
theorem dX1_caravanAt_14 : decode cX1_caravanAt 14 = .ok (.aload_n 0, 1) := dk_42 (dk_at dksX1_caravanAt_0 14 rfl rfl)
theorem dX1_caravanAt_15 : decode cX1_caravanAt 15 = .ok (.getfield 64, 3) := dk_180 0 64 (dk_at dksX1_caravanAt_0 15 rfl rfl)
theorem dX1_caravanAt_18 : decode cX1_caravanAt 18 = .ok (.iload_n 1, 1) := dk_27 (dk_at dksX1_caravanAt_0 18 rfl rfl)
theorem dX1_caravanAt_19 : decode cX1_caravanAt 19 = .ok (.iaload, 1) := dk_46 (dk_at dksX1_caravanAt_0 19 rfl rfl)
theorem dX1_caravanAt_20 : decode cX1_caravanAt 20 = .ok (.goto 4, 3) := dk_167 0 4 (dk_at dksX1_caravanAt_0 20 rfl rfl)
theorem dX1_caravanAt_23 : decode cX1_caravanAt 23 = .ok (.iconst (-1), 1) := dk_2 (dk_at dksX1_caravanAt_0 23 rfl rfl)
theorem dX1_caravanAt_24 : decode cX1_caravanAt 24 = .ok (.ireturn, 1) := dk_172 (dk_at dksX1_caravanAt_1 0 rfl rfl)
abbrev cX1_part : ByteArray := prog_1_method_50_code
def yX1_part : MethodName := ⟨RX1, "part", "(II)I"⟩
def dkwX1_part_4 : List UInt8 := [154, 0, 6, 21, 4, 62, 132, 4, 1, 167, 255, 181, 42, 29, 181, 0, 67, 29, 184, 0, 236, 172]
abbrev dktX1_part_4 : List UInt8 := dkwX1_part_4 ++ []
def dkwX1_part_3 : List UInt8 := [162, 0, 28, 42, 27, 21, 4, 42, 180, 0, 36, 180, 0, 216, 128, 182, 1, 122, 28, 184, 1, 103]
abbrev dktX1_part_3 : List UInt8 := dkwX1_part_3 ++ dktX1_part_4
def dkwX1_part_2 : List UInt8 := [180, 0, 36, 180, 0, 216, 126, 154, 0, 45, 29, 2, 159, 0, 15, 21, 4, 184, 0, 236, 29, 184, 0, 236]
abbrev dktX1_part_2 : List UInt8 := dkwX1_part_2 ++ dktX1_part_3
def dkwX1_part_1 : List UInt8 := [62, 3, 54, 4, 21, 4, 4, 42, 180, 0, 25, 180, 0, 199, 182, 0, 138, 120, 162, 0, 64, 21, 4, 42]
abbrev dktX1_part_1 : List UInt8 := dkwX1_part_1 ++ dktX1_part_2
def dkwX1_part_0 : List UInt8 := [42, 27, 182, 0, 176, 153, 0, 16, 42, 28, 182, 0, 176, 153, 0, 8, 27, 28, 160, 0, 5, 2, 172, 2]
abbrev dktX1_part_0 : List UInt8 := dkwX1_part_0 ++ dktX1_part_1
theorem dksX1_part_0 : cX1_part.data.toList.drop 0 = dktX1_part_0 := by decide +kernel
theorem dksX1_part_1 : cX1_part.data.toList.drop 24 = dktX1_part_1 := dk_seg dksX1_part_0 24 rfl rfl
theorem dksX1_part_2 : cX1_part.data.toList.drop 48 = dktX1_part_2 := dk_seg dksX1_part_1 24 rfl rfl
theorem dksX1_part_3 : cX1_part.data.toList.drop 72 = dktX1_part_3 := dk_seg dksX1_part_2 24 rfl rfl
theorem dksX1_part_4 : cX1_part.data.toList.drop 94 = dktX1_part_4 := dk_seg dksX1_part_3 22 rfl rfl
theorem dX1_part_0 : decode cX1_part 0 = .ok (.aload_n 0, 1) := dk_42 (dk_at dksX1_part_0 0 rfl rfl)
theorem dX1_part_1 : decode cX1_part 1 = .ok (.iload_n 1, 1) := dk_27 (dk_at dksX1_part_0 1 rfl rfl)
theorem dX1_part_2 : decode cX1_part 2 = .ok (.invokevirtual 176, 3) := dk_182 0 176 (dk_at dksX1_part_0 2 rfl rfl)
theorem dX1_part_5 : decode cX1_part 5 = .ok (.ifCond .eq 16, 3) := dk_153 0 16 (dk_at dksX1_part_0 5 rfl rfl)
theorem dX1_part_8 : decode cX1_part 8 = .ok (.aload_n 0, 1) := dk_42 (dk_at dksX1_part_0 8 rfl rfl)
theorem dX1_part_9 : decode cX1_part 9 = .ok (.iload_n 2, 1) := dk_28 (dk_at dksX1_part_0 9 rfl rfl)
theorem dX1_part_10 : decode cX1_part 10 = .ok (.invokevirtual 176, 3) := dk_182 0 176 (dk_at dksX1_part_0 10 rfl rfl)
theorem dX1_part_13 : decode cX1_part 13 = .ok (.ifCond .eq 8, 3) := dk_153 0 8 (dk_at dksX1_part_0 13 rfl rfl)
theorem dX1_part_16 : decode cX1_part 16 = .ok (.iload_n 1, 1) := dk_27 (dk_at dksX1_part_0 16 rfl rfl)
theorem dX1_part_17 : decode cX1_part 17 = .ok (.iload_n 2, 1) := dk_28 (dk_at dksX1_part_0 17 rfl rfl)
theorem dX1_part_18 : decode cX1_part 18 = .ok (.if_icmp .ne 5, 3) := dk_160 0 5 (dk_at dksX1_part_0 18 rfl rfl)
theorem dX1_part_21 : decode cX1_part 21 = .ok (.iconst (-1), 1) := dk_2 (dk_at dksX1_part_0 21 rfl rfl)
theorem dX1_part_22 : decode cX1_part 22 = .ok (.ireturn, 1) := dk_172 (dk_at dksX1_part_0 22 rfl rfl)
theorem dX1_part_23 : decode cX1_part 23 = .ok (.iconst (-1), 1) := dk_2 (dk_at dksX1_part_0 23 rfl rfl)
theorem dX1_part_24 : decode cX1_part 24 = .ok (.istore_n 3, 1) := dk_62 (dk_at dksX1_part_1 0 rfl rfl)
theorem dX1_part_25 : decode cX1_part 25 = .ok (.iconst 0, 1) := dk_3 (dk_at dksX1_part_1 1 rfl rfl)
theorem dX1_part_26 : decode cX1_part 26 = .ok (.istore 4, 2) := dk_54 4 (dk_at dksX1_part_1 2 rfl rfl)
theorem dX1_part_28 : decode cX1_part 28 = .ok (.iload 4, 2) := dk_21 4 (dk_at dksX1_part_1 4 rfl rfl)
theorem dX1_part_30 : decode cX1_part 30 = .ok (.iconst 1, 1) := dk_4 (dk_at dksX1_part_1 6 rfl rfl)
theorem dX1_part_31 : decode cX1_part 31 = .ok (.aload_n 0, 1) := dk_42 (dk_at dksX1_part_1 7 rfl rfl)
theorem dX1_part_32 : decode cX1_part 32 = .ok (.getfield 25, 3) := dk_180 0 25 (dk_at dksX1_part_1 8 rfl rfl)
theorem dX1_part_35 : decode cX1_part 35 = .ok (.getfield 199, 3) := dk_180 0 199 (dk_at dksX1_part_1 11 rfl rfl)
theorem dX1_part_38 : decode cX1_part 38 = .ok (.invokevirtual 138, 3) := dk_182 0 138 (dk_at dksX1_part_1 14 rfl rfl)
theorem dX1_part_41 : decode cX1_part 41 = .ok (.ishl, 1) := dk_120 (dk_at dksX1_part_1 17 rfl rfl)
theorem dX1_part_42 : decode cX1_part 42 = .ok (.if_icmp .ge 64, 3) := dk_162 0 64 (dk_at dksX1_part_1 18 rfl rfl)
theorem dX1_part_45 : decode cX1_part 45 = .ok (.iload 4, 2) := dk_21 4 (dk_at dksX1_part_1 21 rfl rfl)
theorem dX1_part_47 : decode cX1_part 47 = .ok (.aload_n 0, 1) := dk_42 (dk_at dksX1_part_1 23 rfl rfl)
theorem dX1_part_48 : decode cX1_part 48 = .ok (.getfield 36, 3) := dk_180 0 36 (dk_at dksX1_part_2 0 rfl rfl)
theorem dX1_part_51 : decode cX1_part 51 = .ok (.getfield 216, 3) := dk_180 0 216 (dk_at dksX1_part_2 3 rfl rfl)
theorem dX1_part_54 : decode cX1_part 54 = .ok (.iand, 1) := dk_126 (dk_at dksX1_part_2 6 rfl rfl)
theorem dX1_part_55 : decode cX1_part 55 = .ok (.ifCond .ne 45, 3) := dk_154 0 45 (dk_at dksX1_part_2 7 rfl rfl)
theorem dX1_part_58 : decode cX1_part 58 = .ok (.iload_n 3, 1) := dk_29 (dk_at dksX1_part_2 10 rfl rfl)
theorem dX1_part_59 : decode cX1_part 59 = .ok (.iconst (-1), 1) := dk_2 (dk_at dksX1_part_2 11 rfl rfl)
theorem dX1_part_60 : decode cX1_part 60 = .ok (.if_icmp .eq 15, 3) := dk_159 0 15 (dk_at dksX1_part_2 12 rfl rfl)
theorem dX1_part_63 : decode cX1_part 63 = .ok (.iload 4, 2) := dk_21 4 (dk_at dksX1_part_2 15 rfl rfl)
theorem dX1_part_65 : decode cX1_part 65 = .ok (.invokestatic 236, 3) := dk_184 0 236 (dk_at dksX1_part_2 17 rfl rfl)
theorem dX1_part_68 : decode cX1_part 68 = .ok (.iload_n 3, 1) := dk_29 (dk_at dksX1_part_2 20 rfl rfl)
theorem dX1_part_69 : decode cX1_part 69 = .ok (.invokestatic 236, 3) := dk_184 0 236 (dk_at dksX1_part_2 21 rfl rfl)
theorem dX1_part_72 : decode cX1_part 72 = .ok (.if_icmp .ge 28, 3) := dk_162 0 28 (dk_at dksX1_part_3 0 rfl rfl)
theorem dX1_part_75 : decode cX1_part 75 = .ok (.aload_n 0, 1) := dk_42 (dk_at dksX1_part_3 3 rfl rfl)
theorem dX1_part_76 : decode cX1_part 76 = .ok (.iload_n 1, 1) := dk_27 (dk_at dksX1_part_3 4 rfl rfl)
theorem dX1_part_77 : decode cX1_part 77 = .ok (.iload 4, 2) := dk_21 4 (dk_at dksX1_part_3 5 rfl rfl)
theorem dX1_part_79 : decode cX1_part 79 = .ok (.aload_n 0, 1) := dk_42 (dk_at dksX1_part_3 7 rfl rfl)
theorem dX1_part_80 : decode cX1_part 80 = .ok (.getfield 36, 3) := dk_180 0 36 (dk_at dksX1_part_3 8 rfl rfl)
theorem dX1_part_83 : decode cX1_part 83 = .ok (.getfield 216, 3) := dk_180 0 216 (dk_at dksX1_part_3 11 rfl rfl)
theorem dX1_part_86 : decode cX1_part 86 = .ok (.ior, 1) := dk_128 (dk_at dksX1_part_3 14 rfl rfl)
theorem dX1_part_87 : decode cX1_part 87 = .ok (.invokevirtual 378, 3) := dk_182 1 122 (dk_at dksX1_part_3 15 rfl rfl)
theorem dX1_part_90 : decode cX1_part 90 = .ok (.iload_n 2, 1) := dk_28 (dk_at dksX1_part_3 18 rfl rfl)
theorem dX1_part_91 : decode cX1_part 91 = .ok (.invokestatic 359, 3) := dk_184 1 103 (dk_at dksX1_part_3 19 rfl rfl)
theorem dX1_part_94 : decode cX1_part 94 = .ok (.ifCond .ne 6, 3) := dk_154 0 6 (dk_at dksX1_part_4 0 rfl rfl)
theorem dX1_part_97 : decode cX1_part 97 = .ok (.iload 4, 2) := dk_21 4 (dk_at dksX1_part_4 3 rfl rfl)
theorem dX1_part_99 : decode cX1_part 99 = .ok (.istore_n 3, 1) := dk_62 (dk_at dksX1_part_4 5 rfl rfl)
theorem dX1_part_100 : decode cX1_part 100 = .ok (.iinc 4 1, 3) := dk_132 4 1 (dk_at dksX1_part_4 6 rfl rfl)
theorem dX1_part_103 : decode cX1_part 103 = .ok (.goto (-75), 3) := dk_167 255 181 (dk_at dksX1_part_4 9 rfl rfl)
theorem dX1_part_106 : decode cX1_part 106 = .ok (.aload_n 0, 1) := dk_42 (dk_at dksX1_part_4 12 rfl rfl)
theorem dX1_part_107 : decode cX1_part 107 = .ok (.iload_n 3, 1) := dk_29 (dk_at dksX1_part_4 13 rfl rfl)
theorem dX1_part_108 : decode cX1_part 108 = .ok (.putfield 67, 3) := dk_181 0 67 (dk_at dksX1_part_4 14 rfl rfl)
theorem dX1_part_111 : decode cX1_part 111 = .ok (.iload_n 3, 1) := dk_29 (dk_at dksX1_part_4 17 rfl rfl)
theorem dX1_part_112 : decode cX1_part 112 = .ok (.invokestatic 236, 3) := dk_184 0 236 (dk_at dksX1_part_4 18 rfl rfl)
theorem dX1_part_115 : decode cX1_part 115 = .ok (.ireturn, 1) := dk_172 (dk_at dksX1_part_4 21 rfl rfl)
abbrev cX1_reach : ByteArray := prog_1_method_49_code
def yX1_reach : MethodName := ⟨RX1, "reach", "(II)I"⟩
def dkwX1_reach_4 : List UInt8 := [25, 6, 180, 0, 207, 120, 128, 128, 62, 132, 5, 1, 167, 255, 167, 132, 4, 1, 167, 255, 151, 29, 172]
abbrev dktX1_reach_4 : List UInt8 := dkwX1_reach_4 ++ []
def dkwX1_reach_3 : List UInt8 := [25, 6, 180, 0, 207, 184, 1, 103, 154, 0, 6, 167, 0, 21, 29, 4, 25, 6, 180, 0, 204, 120, 4]
abbrev dktX1_reach_3 : List UInt8 := dkwX1_reach_3 ++ dktX1_reach_4
def dkwX1_reach_2 : List UInt8 := [58, 6, 28, 21, 5, 184, 1, 103, 154, 0, 48, 29, 25, 6, 180, 0, 204, 184, 1, 103, 154, 0, 18, 29]
abbrev dktX1_reach_2 : List UInt8 := dkwX1_reach_2 ++ dktX1_reach_3
def dkwX1_reach_1 : List UInt8 := [180, 0, 199, 182, 0, 138, 162, 0, 80, 42, 180, 0, 25, 180, 0, 199, 21, 5, 182, 0, 179, 192, 0, 202]
abbrev dktX1_reach_1 : List UInt8 := dkwX1_reach_1 ++ dktX1_reach_2
def dkwX1_reach_0 : List UInt8 := [4, 27, 120, 62, 3, 54, 4, 21, 4, 16, 7, 162, 0, 104, 3, 54, 5, 21, 5, 42, 180, 0, 25]
abbrev dktX1_reach_0 : List UInt8 := dkwX1_reach_0 ++ dktX1_reach_1
theorem dksX1_reach_0 : cX1_reach.data.toList.drop 0 = dktX1_reach_0 := by decide +kernel
theorem dksX1_reach_1 : cX1_reach.data.toList.drop 23 = dktX1_reach_1 := dk_seg dksX1_reach_0 23 rfl rfl
theorem dksX1_reach_2 : cX1_reach.data.toList.drop 47 = dktX1_reach_2 := dk_seg dksX1_reach_1 24 rfl rfl
theorem dksX1_reach_3 : cX1_reach.data.toList.drop 71 = dktX1_reach_3 := dk_seg dksX1_reach_2 24 rfl rfl
theorem dksX1_reach_4 : cX1_reach.data.toList.drop 94 = dktX1_reach_4 := dk_seg dksX1_reach_3 23 rfl rfl
theorem dX1_reach_0 : decode cX1_reach 0 = .ok (.iconst 1, 1) := dk_4 (dk_at dksX1_reach_0 0 rfl rfl)
theorem dX1_reach_1 : decode cX1_reach 1 = .ok (.iload_n 1, 1) := dk_27 (dk_at dksX1_reach_0 1 rfl rfl)
theorem dX1_reach_2 : decode cX1_reach 2 = .ok (.ishl, 1) := dk_120 (dk_at dksX1_reach_0 2 rfl rfl)
theorem dX1_reach_3 : decode cX1_reach 3 = .ok (.istore_n 3, 1) := dk_62 (dk_at dksX1_reach_0 3 rfl rfl)
theorem dX1_reach_4 : decode cX1_reach 4 = .ok (.iconst 0, 1) := dk_3 (dk_at dksX1_reach_0 4 rfl rfl)
theorem dX1_reach_5 : decode cX1_reach 5 = .ok (.istore 4, 2) := dk_54 4 (dk_at dksX1_reach_0 5 rfl rfl)
theorem dX1_reach_7 : decode cX1_reach 7 = .ok (.iload 4, 2) := dk_21 4 (dk_at dksX1_reach_0 7 rfl rfl)
theorem dX1_reach_9 : decode cX1_reach 9 = .ok (.bipush 7, 2) := dk_16 7 (dk_at dksX1_reach_0 9 rfl rfl)
theorem dX1_reach_11 : decode cX1_reach 11 = .ok (.if_icmp .ge 104, 3) := dk_162 0 104 (dk_at dksX1_reach_0 11 rfl rfl)
theorem dX1_reach_14 : decode cX1_reach 14 = .ok (.iconst 0, 1) := dk_3 (dk_at dksX1_reach_0 14 rfl rfl)
theorem dX1_reach_15 : decode cX1_reach 15 = .ok (.istore 5, 2) := dk_54 5 (dk_at dksX1_reach_0 15 rfl rfl)
theorem dX1_reach_17 : decode cX1_reach 17 = .ok (.iload 5, 2) := dk_21 5 (dk_at dksX1_reach_0 17 rfl rfl)
theorem dX1_reach_19 : decode cX1_reach 19 = .ok (.aload_n 0, 1) := dk_42 (dk_at dksX1_reach_0 19 rfl rfl)
theorem dX1_reach_20 : decode cX1_reach 20 = .ok (.getfield 25, 3) := dk_180 0 25 (dk_at dksX1_reach_0 20 rfl rfl)
theorem dX1_reach_23 : decode cX1_reach 23 = .ok (.getfield 199, 3) := dk_180 0 199 (dk_at dksX1_reach_1 0 rfl rfl)
theorem dX1_reach_26 : decode cX1_reach 26 = .ok (.invokevirtual 138, 3) := dk_182 0 138 (dk_at dksX1_reach_1 3 rfl rfl)
theorem dX1_reach_29 : decode cX1_reach 29 = .ok (.if_icmp .ge 80, 3) := dk_162 0 80 (dk_at dksX1_reach_1 6 rfl rfl)
theorem dX1_reach_32 : decode cX1_reach 32 = .ok (.aload_n 0, 1) := dk_42 (dk_at dksX1_reach_1 9 rfl rfl)
theorem dX1_reach_33 : decode cX1_reach 33 = .ok (.getfield 25, 3) := dk_180 0 25 (dk_at dksX1_reach_1 10 rfl rfl)
theorem dX1_reach_36 : decode cX1_reach 36 = .ok (.getfield 199, 3) := dk_180 0 199 (dk_at dksX1_reach_1 13 rfl rfl)
theorem dX1_reach_39 : decode cX1_reach 39 = .ok (.iload 5, 2) := dk_21 5 (dk_at dksX1_reach_1 16 rfl rfl)
theorem dX1_reach_41 : decode cX1_reach 41 = .ok (.invokevirtual 179, 3) := dk_182 0 179 (dk_at dksX1_reach_1 18 rfl rfl)
theorem dX1_reach_44 : decode cX1_reach 44 = .ok (.checkcast 202, 3) := dk_192 0 202 (dk_at dksX1_reach_1 21 rfl rfl)
theorem dX1_reach_47 : decode cX1_reach 47 = .ok (.astore 6, 2) := dk_58 6 (dk_at dksX1_reach_2 0 rfl rfl)
theorem dX1_reach_49 : decode cX1_reach 49 = .ok (.iload_n 2, 1) := dk_28 (dk_at dksX1_reach_2 2 rfl rfl)
theorem dX1_reach_50 : decode cX1_reach 50 = .ok (.iload 5, 2) := dk_21 5 (dk_at dksX1_reach_2 3 rfl rfl)
theorem dX1_reach_52 : decode cX1_reach 52 = .ok (.invokestatic 359, 3) := dk_184 1 103 (dk_at dksX1_reach_2 5 rfl rfl)
theorem dX1_reach_55 : decode cX1_reach 55 = .ok (.ifCond .ne 48, 3) := dk_154 0 48 (dk_at dksX1_reach_2 8 rfl rfl)
theorem dX1_reach_58 : decode cX1_reach 58 = .ok (.iload_n 3, 1) := dk_29 (dk_at dksX1_reach_2 11 rfl rfl)
theorem dX1_reach_59 : decode cX1_reach 59 = .ok (.aload 6, 2) := dk_25 6 (dk_at dksX1_reach_2 12 rfl rfl)
theorem dX1_reach_61 : decode cX1_reach 61 = .ok (.getfield 204, 3) := dk_180 0 204 (dk_at dksX1_reach_2 14 rfl rfl)
theorem dX1_reach_64 : decode cX1_reach 64 = .ok (.invokestatic 359, 3) := dk_184 1 103 (dk_at dksX1_reach_2 17 rfl rfl)
theorem dX1_reach_67 : decode cX1_reach 67 = .ok (.ifCond .ne 18, 3) := dk_154 0 18 (dk_at dksX1_reach_2 20 rfl rfl)
theorem dX1_reach_70 : decode cX1_reach 70 = .ok (.iload_n 3, 1) := dk_29 (dk_at dksX1_reach_2 23 rfl rfl)
theorem dX1_reach_71 : decode cX1_reach 71 = .ok (.aload 6, 2) := dk_25 6 (dk_at dksX1_reach_3 0 rfl rfl)
theorem dX1_reach_73 : decode cX1_reach 73 = .ok (.getfield 207, 3) := dk_180 0 207 (dk_at dksX1_reach_3 2 rfl rfl)
theorem dX1_reach_76 : decode cX1_reach 76 = .ok (.invokestatic 359, 3) := dk_184 1 103 (dk_at dksX1_reach_3 5 rfl rfl)
theorem dX1_reach_79 : decode cX1_reach 79 = .ok (.ifCond .ne 6, 3) := dk_154 0 6 (dk_at dksX1_reach_3 8 rfl rfl)
theorem dX1_reach_82 : decode cX1_reach 82 = .ok (.goto 21, 3) := dk_167 0 21 (dk_at dksX1_reach_3 11 rfl rfl)
theorem dX1_reach_85 : decode cX1_reach 85 = .ok (.iload_n 3, 1) := dk_29 (dk_at dksX1_reach_3 14 rfl rfl)
theorem dX1_reach_86 : decode cX1_reach 86 = .ok (.iconst 1, 1) := dk_4 (dk_at dksX1_reach_3 15 rfl rfl)
theorem dX1_reach_87 : decode cX1_reach 87 = .ok (.aload 6, 2) := dk_25 6 (dk_at dksX1_reach_3 16 rfl rfl)
theorem dX1_reach_89 : decode cX1_reach 89 = .ok (.getfield 204, 3) := dk_180 0 204 (dk_at dksX1_reach_3 18 rfl rfl)
theorem dX1_reach_92 : decode cX1_reach 92 = .ok (.ishl, 1) := dk_120 (dk_at dksX1_reach_3 21 rfl rfl)
theorem dX1_reach_93 : decode cX1_reach 93 = .ok (.iconst 1, 1) := dk_4 (dk_at dksX1_reach_3 22 rfl rfl)
theorem dX1_reach_94 : decode cX1_reach 94 = .ok (.aload 6, 2) := dk_25 6 (dk_at dksX1_reach_4 0 rfl rfl)
theorem dX1_reach_96 : decode cX1_reach 96 = .ok (.getfield 207, 3) := dk_180 0 207 (dk_at dksX1_reach_4 2 rfl rfl)
theorem dX1_reach_99 : decode cX1_reach 99 = .ok (.ishl, 1) := dk_120 (dk_at dksX1_reach_4 5 rfl rfl)
theorem dX1_reach_100 : decode cX1_reach 100 = .ok (.ior, 1) := dk_128 (dk_at dksX1_reach_4 6 rfl rfl)
theorem dX1_reach_101 : decode cX1_reach 101 = .ok (.ior, 1) := dk_128 (dk_at dksX1_reach_4 7 rfl rfl)
theorem dX1_reach_102 : decode cX1_reach 102 = .ok (.istore_n 3, 1) := dk_62 (dk_at dksX1_reach_4 8 rfl rfl)
theorem dX1_reach_103 : decode cX1_reach 103 = .ok (.iinc 5 1, 3) := dk_132 5 1 (dk_at dksX1_reach_4 9 rfl rfl)
theorem dX1_reach_106 : decode cX1_reach 106 = .ok (.goto (-89), 3) := dk_167 255 167 (dk_at dksX1_reach_4 12 rfl rfl)
theorem dX1_reach_109 : decode cX1_reach 109 = .ok (.iinc 4 1, 3) := dk_132 4 1 (dk_at dksX1_reach_4 15 rfl rfl)
theorem dX1_reach_112 : decode cX1_reach 112 = .ok (.goto (-105), 3) := dk_167 255 151 (dk_at dksX1_reach_4 18 rfl rfl)
theorem dX1_reach_115 : decode cX1_reach 115 = .ok (.iload_n 3, 1) := dk_29 (dk_at dksX1_reach_4 21 rfl rfl)
theorem dX1_reach_116 : decode cX1_reach 116 = .ok (.ireturn, 1) := dk_172 (dk_at dksX1_reach_4 22 rfl rfl)
abbrev cX1_parting : ByteArray := prog_1_method_51_code
def yX1_parting : MethodName := ⟨RX1, "parting", "()I"⟩
theorem dX1_parting_0 : decode cX1_parting 0 = .ok (.aload_n 0, 1) := by decide +kernel
theorem dX1_parting_1 : decode cX1_parting 1 = .ok (.getfield 67, 3) := by decide +kernel
theorem dX1_parting_4 : decode cX1_parting 4 = .ok (.ireturn, 1) := by decide +kernel
abbrev cX1_rests : ByteArray := prog_1_method_52_code
def yX1_rests : MethodName := ⟨RX1, "rests", "()I"⟩
def dkwX1_rests_2 : List UInt8 := [167, 255, 224, 2, 172]
abbrev dktX1_rests_2 : List UInt8 := dkwX1_rests_2 ++ []
def dkwX1_rests_1 : List UInt8 := [42, 180, 0, 40, 182, 1, 125, 154, 0, 5, 27, 172, 42, 180, 0, 40, 182, 1, 128, 132, 1, 1]
abbrev dktX1_rests_1 : List UInt8 := dkwX1_rests_1 ++ dktX1_rests_2
def dkwX1_rests_0 : List UInt8 := [42, 180, 0, 40, 42, 180, 0, 36, 182, 0, 239, 87, 3, 60, 42, 180, 0, 40, 182, 1, 27, 154, 0, 28]
abbrev dktX1_rests_0 : List UInt8 := dkwX1_rests_0 ++ dktX1_rests_1
theorem dksX1_rests_0 : cX1_rests.data.toList.drop 0 = dktX1_rests_0 := by decide +kernel
theorem dksX1_rests_1 : cX1_rests.data.toList.drop 24 = dktX1_rests_1 := dk_seg dksX1_rests_0 24 rfl rfl
theorem dksX1_rests_2 : cX1_rests.data.toList.drop 46 = dktX1_rests_2 := dk_seg dksX1_rests_1 22 rfl rfl
theorem dX1_rests_0 : decode cX1_rests 0 = .ok (.aload_n 0, 1) := dk_42 (dk_at dksX1_rests_0 0 rfl rfl)
theorem dX1_rests_1 : decode cX1_rests 1 = .ok (.getfield 40, 3) := dk_180 0 40 (dk_at dksX1_rests_0 1 rfl rfl)
theorem dX1_rests_4 : decode cX1_rests 4 = .ok (.aload_n 0, 1) := dk_42 (dk_at dksX1_rests_0 4 rfl rfl)
theorem dX1_rests_5 : decode cX1_rests 5 = .ok (.getfield 36, 3) := dk_180 0 36 (dk_at dksX1_rests_0 5 rfl rfl)
theorem dX1_rests_8 : decode cX1_rests 8 = .ok (.invokevirtual 239, 3) := dk_182 0 239 (dk_at dksX1_rests_0 8 rfl rfl)
theorem dX1_rests_11 : decode cX1_rests 11 = .ok (.pop, 1) := dk_87 (dk_at dksX1_rests_0 11 rfl rfl)
theorem dX1_rests_12 : decode cX1_rests 12 = .ok (.iconst 0, 1) := dk_3 (dk_at dksX1_rests_0 12 rfl rfl)
theorem dX1_rests_13 : decode cX1_rests 13 = .ok (.istore_n 1, 1) := dk_60 (dk_at dksX1_rests_0 13 rfl rfl)
theorem dX1_rests_14 : decode cX1_rests 14 = .ok (.aload_n 0, 1) := dk_42 (dk_at dksX1_rests_0 14 rfl rfl)
theorem dX1_rests_15 : decode cX1_rests 15 = .ok (.getfield 40, 3) := dk_180 0 40 (dk_at dksX1_rests_0 15 rfl rfl)
theorem dX1_rests_18 : decode cX1_rests 18 = .ok (.invokevirtual 283, 3) := dk_182 1 27 (dk_at dksX1_rests_0 18 rfl rfl)
theorem dX1_rests_21 : decode cX1_rests 21 = .ok (.ifCond .ne 28, 3) := dk_154 0 28 (dk_at dksX1_rests_0 21 rfl rfl)
theorem dX1_rests_24 : decode cX1_rests 24 = .ok (.aload_n 0, 1) := dk_42 (dk_at dksX1_rests_1 0 rfl rfl)
theorem dX1_rests_25 : decode cX1_rests 25 = .ok (.getfield 40, 3) := dk_180 0 40 (dk_at dksX1_rests_1 1 rfl rfl)
theorem dX1_rests_28 : decode cX1_rests 28 = .ok (.invokevirtual 381, 3) := dk_182 1 125 (dk_at dksX1_rests_1 4 rfl rfl)
theorem dX1_rests_31 : decode cX1_rests 31 = .ok (.ifCond .ne 5, 3) := dk_154 0 5 (dk_at dksX1_rests_1 7 rfl rfl)
theorem dX1_rests_34 : decode cX1_rests 34 = .ok (.iload_n 1, 1) := dk_27 (dk_at dksX1_rests_1 10 rfl rfl)
theorem dX1_rests_35 : decode cX1_rests 35 = .ok (.ireturn, 1) := dk_172 (dk_at dksX1_rests_1 11 rfl rfl)
theorem dX1_rests_36 : decode cX1_rests 36 = .ok (.aload_n 0, 1) := dk_42 (dk_at dksX1_rests_1 12 rfl rfl)
theorem dX1_rests_37 : decode cX1_rests 37 = .ok (.getfield 40, 3) := dk_180 0 40 (dk_at dksX1_rests_1 13 rfl rfl)
theorem dX1_rests_40 : decode cX1_rests 40 = .ok (.invokevirtual 384, 3) := dk_182 1 128 (dk_at dksX1_rests_1 16 rfl rfl)
theorem dX1_rests_43 : decode cX1_rests 43 = .ok (.iinc 1 1, 3) := dk_132 1 1 (dk_at dksX1_rests_1 19 rfl rfl)
theorem dX1_rests_46 : decode cX1_rests 46 = .ok (.goto (-32), 3) := dk_167 255 224 (dk_at dksX1_rests_2 0 rfl rfl)
theorem dX1_rests_49 : decode cX1_rests 49 = .ok (.iconst (-1), 1) := dk_2 (dk_at dksX1_rests_2 3 rfl rfl)
theorem dX1_rests_50 : decode cX1_rests 50 = .ok (.ireturn, 1) := dk_172 (dk_at dksX1_rests_2 4 rfl rfl)
abbrev cX1_pass : ByteArray := prog_1_method_53_code
def yX1_pass : MethodName := ⟨RX1, "pass", "(I)I"⟩
def dkwX1_pass_5 : List UInt8 := [180, 0, 161, 27, 46, 182, 1, 149, 182, 1, 152, 181, 0, 72, 42, 180, 0, 72, 182, 1, 156, 172]
abbrev dktX1_pass_5 : List UInt8 := dkwX1_pass_5 ++ []
def dkwX1_pass_4 : List UInt8 := [46, 182, 0, 179, 192, 0, 183, 180, 1, 144, 182, 1, 138, 19, 1, 147, 182, 1, 138, 42, 180, 0, 36]
abbrev dktX1_pass_4 : List UInt8 := dkwX1_pass_4 ++ dktX1_pass_5
def dkwX1_pass_3 : List UInt8 := [182, 1, 138, 19, 1, 145, 182, 1, 138, 42, 180, 0, 25, 180, 0, 134, 42, 180, 0, 36, 180, 0, 158, 27]
abbrev dktX1_pass_3 : List UInt8 := dkwX1_pass_3 ++ dktX1_pass_4
def dkwX1_pass_2 : List UInt8 := [180, 0, 25, 180, 0, 134, 42, 180, 0, 25, 27, 182, 0, 155, 182, 0, 179, 192, 0, 183, 180, 1, 144]
abbrev dktX1_pass_2 : List UInt8 := dkwX1_pass_2 ++ dktX1_pass_3
def dkwX1_pass_1 : List UInt8 := [180, 0, 143, 27, 182, 0, 179, 192, 1, 133, 180, 1, 135, 182, 1, 138, 19, 1, 142, 182, 1, 138, 42]
abbrev dktX1_pass_1 : List UInt8 := dkwX1_pass_1 ++ dktX1_pass_2
def dkwX1_pass_0 : List UInt8 := [42, 27, 182, 0, 146, 154, 0, 5, 2, 172, 42, 187, 1, 130, 89, 183, 1, 132, 42, 180, 0, 25]
abbrev dktX1_pass_0 : List UInt8 := dkwX1_pass_0 ++ dktX1_pass_1
theorem dksX1_pass_0 : cX1_pass.data.toList.drop 0 = dktX1_pass_0 := by decide +kernel
theorem dksX1_pass_1 : cX1_pass.data.toList.drop 22 = dktX1_pass_1 := dk_seg dksX1_pass_0 22 rfl rfl
theorem dksX1_pass_2 : cX1_pass.data.toList.drop 45 = dktX1_pass_2 := dk_seg dksX1_pass_1 23 rfl rfl
theorem dksX1_pass_3 : cX1_pass.data.toList.drop 68 = dktX1_pass_3 := dk_seg dksX1_pass_2 23 rfl rfl
theorem dksX1_pass_4 : cX1_pass.data.toList.drop 92 = dktX1_pass_4 := dk_seg dksX1_pass_3 24 rfl rfl
theorem dksX1_pass_5 : cX1_pass.data.toList.drop 115 = dktX1_pass_5 := dk_seg dksX1_pass_4 23 rfl rfl
theorem dX1_pass_0 : decode cX1_pass 0 = .ok (.aload_n 0, 1) := dk_42 (dk_at dksX1_pass_0 0 rfl rfl)
theorem dX1_pass_1 : decode cX1_pass 1 = .ok (.iload_n 1, 1) := dk_27 (dk_at dksX1_pass_0 1 rfl rfl)
theorem dX1_pass_2 : decode cX1_pass 2 = .ok (.invokevirtual 146, 3) := dk_182 0 146 (dk_at dksX1_pass_0 2 rfl rfl)
theorem dX1_pass_5 : decode cX1_pass 5 = .ok (.ifCond .ne 5, 3) := dk_154 0 5 (dk_at dksX1_pass_0 5 rfl rfl)
theorem dX1_pass_8 : decode cX1_pass 8 = .ok (.iconst (-1), 1) := dk_2 (dk_at dksX1_pass_0 8 rfl rfl)
theorem dX1_pass_9 : decode cX1_pass 9 = .ok (.ireturn, 1) := dk_172 (dk_at dksX1_pass_0 9 rfl rfl)
theorem dX1_pass_10 : decode cX1_pass 10 = .ok (.aload_n 0, 1) := dk_42 (dk_at dksX1_pass_0 10 rfl rfl)
theorem dX1_pass_11 : decode cX1_pass 11 = .ok (.new 386, 3) := dk_187 1 130 (dk_at dksX1_pass_0 11 rfl rfl)
theorem dX1_pass_14 : decode cX1_pass 14 = .ok (.dup, 1) := dk_89 (dk_at dksX1_pass_0 14 rfl rfl)
theorem dX1_pass_15 : decode cX1_pass 15 = .ok (.invokespecial 388, 3) := dk_183 1 132 (dk_at dksX1_pass_0 15 rfl rfl)
theorem dX1_pass_18 : decode cX1_pass 18 = .ok (.aload_n 0, 1) := dk_42 (dk_at dksX1_pass_0 18 rfl rfl)
theorem dX1_pass_19 : decode cX1_pass 19 = .ok (.getfield 25, 3) := dk_180 0 25 (dk_at dksX1_pass_0 19 rfl rfl)
theorem dX1_pass_22 : decode cX1_pass 22 = .ok (.getfield 143, 3) := dk_180 0 143 (dk_at dksX1_pass_1 0 rfl rfl)
theorem dX1_pass_25 : decode cX1_pass 25 = .ok (.iload_n 1, 1) := dk_27 (dk_at dksX1_pass_1 3 rfl rfl)
theorem dX1_pass_26 : decode cX1_pass 26 = .ok (.invokevirtual 179, 3) := dk_182 0 179 (dk_at dksX1_pass_1 4 rfl rfl)
theorem dX1_pass_29 : decode cX1_pass 29 = .ok (.checkcast 389, 3) := dk_192 1 133 (dk_at dksX1_pass_1 7 rfl rfl)
theorem dX1_pass_32 : decode cX1_pass 32 = .ok (.getfield 391, 3) := dk_180 1 135 (dk_at dksX1_pass_1 10 rfl rfl)
theorem dX1_pass_35 : decode cX1_pass 35 = .ok (.invokevirtual 394, 3) := dk_182 1 138 (dk_at dksX1_pass_1 13 rfl rfl)
theorem dX1_pass_38 : decode cX1_pass 38 = .ok (.ldc_w 398, 3) := dk_19 1 142 (dk_at dksX1_pass_1 16 rfl rfl)
theorem dX1_pass_41 : decode cX1_pass 41 = .ok (.invokevirtual 394, 3) := dk_182 1 138 (dk_at dksX1_pass_1 19 rfl rfl)
theorem dX1_pass_44 : decode cX1_pass 44 = .ok (.aload_n 0, 1) := dk_42 (dk_at dksX1_pass_1 22 rfl rfl)
theorem dX1_pass_45 : decode cX1_pass 45 = .ok (.getfield 25, 3) := dk_180 0 25 (dk_at dksX1_pass_2 0 rfl rfl)
theorem dX1_pass_48 : decode cX1_pass 48 = .ok (.getfield 134, 3) := dk_180 0 134 (dk_at dksX1_pass_2 3 rfl rfl)
theorem dX1_pass_51 : decode cX1_pass 51 = .ok (.aload_n 0, 1) := dk_42 (dk_at dksX1_pass_2 6 rfl rfl)
theorem dX1_pass_52 : decode cX1_pass 52 = .ok (.getfield 25, 3) := dk_180 0 25 (dk_at dksX1_pass_2 7 rfl rfl)
theorem dX1_pass_55 : decode cX1_pass 55 = .ok (.iload_n 1, 1) := dk_27 (dk_at dksX1_pass_2 10 rfl rfl)
theorem dX1_pass_56 : decode cX1_pass 56 = .ok (.invokevirtual 155, 3) := dk_182 0 155 (dk_at dksX1_pass_2 11 rfl rfl)
theorem dX1_pass_59 : decode cX1_pass 59 = .ok (.invokevirtual 179, 3) := dk_182 0 179 (dk_at dksX1_pass_2 14 rfl rfl)
theorem dX1_pass_62 : decode cX1_pass 62 = .ok (.checkcast 183, 3) := dk_192 0 183 (dk_at dksX1_pass_2 17 rfl rfl)
theorem dX1_pass_65 : decode cX1_pass 65 = .ok (.getfield 400, 3) := dk_180 1 144 (dk_at dksX1_pass_2 20 rfl rfl)
theorem dX1_pass_68 : decode cX1_pass 68 = .ok (.invokevirtual 394, 3) := dk_182 1 138 (dk_at dksX1_pass_3 0 rfl rfl)
theorem dX1_pass_71 : decode cX1_pass 71 = .ok (.ldc_w 401, 3) := dk_19 1 145 (dk_at dksX1_pass_3 3 rfl rfl)
theorem dX1_pass_74 : decode cX1_pass 74 = .ok (.invokevirtual 394, 3) := dk_182 1 138 (dk_at dksX1_pass_3 6 rfl rfl)
theorem dX1_pass_77 : decode cX1_pass 77 = .ok (.aload_n 0, 1) := dk_42 (dk_at dksX1_pass_3 9 rfl rfl)
theorem dX1_pass_78 : decode cX1_pass 78 = .ok (.getfield 25, 3) := dk_180 0 25 (dk_at dksX1_pass_3 10 rfl rfl)
theorem dX1_pass_81 : decode cX1_pass 81 = .ok (.getfield 134, 3) := dk_180 0 134 (dk_at dksX1_pass_3 13 rfl rfl)
theorem dX1_pass_84 : decode cX1_pass 84 = .ok (.aload_n 0, 1) := dk_42 (dk_at dksX1_pass_3 16 rfl rfl)
theorem dX1_pass_85 : decode cX1_pass 85 = .ok (.getfield 36, 3) := dk_180 0 36 (dk_at dksX1_pass_3 17 rfl rfl)
theorem dX1_pass_88 : decode cX1_pass 88 = .ok (.getfield 158, 3) := dk_180 0 158 (dk_at dksX1_pass_3 20 rfl rfl)
theorem dX1_pass_91 : decode cX1_pass 91 = .ok (.iload_n 1, 1) := dk_27 (dk_at dksX1_pass_3 23 rfl rfl)
theorem dX1_pass_92 : decode cX1_pass 92 = .ok (.iaload, 1) := dk_46 (dk_at dksX1_pass_4 0 rfl rfl)
theorem dX1_pass_93 : decode cX1_pass 93 = .ok (.invokevirtual 179, 3) := dk_182 0 179 (dk_at dksX1_pass_4 1 rfl rfl)
theorem dX1_pass_96 : decode cX1_pass 96 = .ok (.checkcast 183, 3) := dk_192 0 183 (dk_at dksX1_pass_4 4 rfl rfl)
theorem dX1_pass_99 : decode cX1_pass 99 = .ok (.getfield 400, 3) := dk_180 1 144 (dk_at dksX1_pass_4 7 rfl rfl)
theorem dX1_pass_102 : decode cX1_pass 102 = .ok (.invokevirtual 394, 3) := dk_182 1 138 (dk_at dksX1_pass_4 10 rfl rfl)
theorem dX1_pass_105 : decode cX1_pass 105 = .ok (.ldc_w 403, 3) := dk_19 1 147 (dk_at dksX1_pass_4 13 rfl rfl)
theorem dX1_pass_108 : decode cX1_pass 108 = .ok (.invokevirtual 394, 3) := dk_182 1 138 (dk_at dksX1_pass_4 16 rfl rfl)
theorem dX1_pass_111 : decode cX1_pass 111 = .ok (.aload_n 0, 1) := dk_42 (dk_at dksX1_pass_4 19 rfl rfl)
theorem dX1_pass_112 : decode cX1_pass 112 = .ok (.getfield 36, 3) := dk_180 0 36 (dk_at dksX1_pass_4 20 rfl rfl)
theorem dX1_pass_115 : decode cX1_pass 115 = .ok (.getfield 161, 3) := dk_180 0 161 (dk_at dksX1_pass_5 0 rfl rfl)
theorem dX1_pass_118 : decode cX1_pass 118 = .ok (.iload_n 1, 1) := dk_27 (dk_at dksX1_pass_5 3 rfl rfl)
theorem dX1_pass_119 : decode cX1_pass 119 = .ok (.iaload, 1) := dk_46 (dk_at dksX1_pass_5 4 rfl rfl)
theorem dX1_pass_120 : decode cX1_pass 120 = .ok (.invokevirtual 405, 3) := dk_182 1 149 (dk_at dksX1_pass_5 5 rfl rfl)
theorem dX1_pass_123 : decode cX1_pass 123 = .ok (.invokevirtual 408, 3) := dk_182 1 152 (dk_at dksX1_pass_5 8 rfl rfl)
theorem dX1_pass_126 : decode cX1_pass 126 = .ok (.putfield 72, 3) := dk_181 0 72 (dk_at dksX1_pass_5 11 rfl rfl)
theorem dX1_pass_129 : decode cX1_pass 129 = .ok (.aload_n 0, 1) := dk_42 (dk_at dksX1_pass_5 14 rfl rfl)
theorem dX1_pass_130 : decode cX1_pass 130 = .ok (.getfield 72, 3) := dk_180 0 72 (dk_at dksX1_pass_5 15 rfl rfl)
theorem dX1_pass_133 : decode cX1_pass 133 = .ok (.invokevirtual 412, 3) := dk_182 1 156 (dk_at dksX1_pass_5 18 rfl rfl)
theorem dX1_pass_136 : decode cX1_pass 136 = .ok (.ireturn, 1) := dk_172 (dk_at dksX1_pass_5 21 rfl rfl)
abbrev cX1_byteAt : ByteArray := prog_1_method_54_code
def yX1_byteAt : MethodName := ⟨RX1, "byteAt", "(I)I"⟩
def dkwX1_byteAt_1 : List UInt8 := [182, 1, 161, 167, 0, 4, 2, 172]
abbrev dktX1_byteAt_1 : List UInt8 := dkwX1_byteAt_1 ++ []
def dkwX1_byteAt_0 : List UInt8 := [27, 3, 42, 180, 0, 72, 182, 1, 156, 4, 100, 184, 0, 147, 153, 0, 14, 42, 180, 0, 72, 27]
abbrev dktX1_byteAt_0 : List UInt8 := dkwX1_byteAt_0 ++ dktX1_byteAt_1
theorem dksX1_byteAt_0 : cX1_byteAt.data.toList.drop 0 = dktX1_byteAt_0 := by decide +kernel
theorem dksX1_byteAt_1 : cX1_byteAt.data.toList.drop 22 = dktX1_byteAt_1 := dk_seg dksX1_byteAt_0 22 rfl rfl
theorem dX1_byteAt_0 : decode cX1_byteAt 0 = .ok (.iload_n 1, 1) := dk_27 (dk_at dksX1_byteAt_0 0 rfl rfl)
theorem dX1_byteAt_1 : decode cX1_byteAt 1 = .ok (.iconst 0, 1) := dk_3 (dk_at dksX1_byteAt_0 1 rfl rfl)
theorem dX1_byteAt_2 : decode cX1_byteAt 2 = .ok (.aload_n 0, 1) := dk_42 (dk_at dksX1_byteAt_0 2 rfl rfl)
theorem dX1_byteAt_3 : decode cX1_byteAt 3 = .ok (.getfield 72, 3) := dk_180 0 72 (dk_at dksX1_byteAt_0 3 rfl rfl)
theorem dX1_byteAt_6 : decode cX1_byteAt 6 = .ok (.invokevirtual 412, 3) := dk_182 1 156 (dk_at dksX1_byteAt_0 6 rfl rfl)
theorem dX1_byteAt_9 : decode cX1_byteAt 9 = .ok (.iconst 1, 1) := dk_4 (dk_at dksX1_byteAt_0 9 rfl rfl)
theorem dX1_byteAt_10 : decode cX1_byteAt 10 = .ok (.isub, 1) := dk_100 (dk_at dksX1_byteAt_0 10 rfl rfl)
theorem dX1_byteAt_11 : decode cX1_byteAt 11 = .ok (.invokestatic 147, 3) := dk_184 0 147 (dk_at dksX1_byteAt_0 11 rfl rfl)
theorem dX1_byteAt_14 : decode cX1_byteAt 14 = .ok (.ifCond .eq 14, 3) := dk_153 0 14 (dk_at dksX1_byteAt_0 14 rfl rfl)
theorem dX1_byteAt_17 : decode cX1_byteAt 17 = .ok (.aload_n 0, 1) := dk_42 (dk_at dksX1_byteAt_0 17 rfl rfl)
theorem dX1_byteAt_18 : decode cX1_byteAt 18 = .ok (.getfield 72, 3) := dk_180 0 72 (dk_at dksX1_byteAt_0 18 rfl rfl)
theorem dX1_byteAt_21 : decode cX1_byteAt 21 = .ok (.iload_n 1, 1) := dk_27 (dk_at dksX1_byteAt_0 21 rfl rfl)
theorem dX1_byteAt_22 : decode cX1_byteAt 22 = .ok (.invokevirtual 417, 3) := dk_182 1 161 (dk_at dksX1_byteAt_1 0 rfl rfl)
theorem dX1_byteAt_25 : decode cX1_byteAt 25 = .ok (.goto 4, 3) := dk_167 0 4 (dk_at dksX1_byteAt_1 3 rfl rfl)
theorem dX1_byteAt_28 : decode cX1_byteAt 28 = .ok (.iconst (-1), 1) := dk_2 (dk_at dksX1_byteAt_1 6 rfl rfl)
theorem dX1_byteAt_29 : decode cX1_byteAt 29 = .ok (.ireturn, 1) := dk_172 (dk_at dksX1_byteAt_1 7 rfl rfl)
abbrev cX1_drawn : ByteArray := prog_1_method_55_code
def yX1_drawn : MethodName := ⟨RX1, "drawn", "(II)I"⟩
def dkwX1_drawn_1 : List UInt8 := [182, 1, 27, 153, 0, 5, 3, 172, 42, 182, 0, 249, 42, 180, 0, 36, 27, 28, 182, 1, 165, 172]
abbrev dktX1_drawn_1 : List UInt8 := dkwX1_drawn_1 ++ []
def dkwX1_drawn_0 : List UInt8 := [27, 4, 16, 60, 184, 0, 147, 153, 0, 10, 42, 182, 1, 69, 154, 0, 5, 2, 172, 42, 180, 0, 36]
abbrev dktX1_drawn_0 : List UInt8 := dkwX1_drawn_0 ++ dktX1_drawn_1
theorem dksX1_drawn_0 : cX1_drawn.data.toList.drop 0 = dktX1_drawn_0 := by decide +kernel
theorem dksX1_drawn_1 : cX1_drawn.data.toList.drop 23 = dktX1_drawn_1 := dk_seg dksX1_drawn_0 23 rfl rfl
theorem dX1_drawn_0 : decode cX1_drawn 0 = .ok (.iload_n 1, 1) := dk_27 (dk_at dksX1_drawn_0 0 rfl rfl)
theorem dX1_drawn_1 : decode cX1_drawn 1 = .ok (.iconst 1, 1) := dk_4 (dk_at dksX1_drawn_0 1 rfl rfl)
theorem dX1_drawn_2 : decode cX1_drawn 2 = .ok (.bipush 60, 2) := dk_16 60 (dk_at dksX1_drawn_0 2 rfl rfl)
theorem dX1_drawn_4 : decode cX1_drawn 4 = .ok (.invokestatic 147, 3) := dk_184 0 147 (dk_at dksX1_drawn_0 4 rfl rfl)
theorem dX1_drawn_7 : decode cX1_drawn 7 = .ok (.ifCond .eq 10, 3) := dk_153 0 10 (dk_at dksX1_drawn_0 7 rfl rfl)
theorem dX1_drawn_10 : decode cX1_drawn 10 = .ok (.aload_n 0, 1) := dk_42 (dk_at dksX1_drawn_0 10 rfl rfl)
theorem dX1_drawn_11 : decode cX1_drawn 11 = .ok (.invokevirtual 325, 3) := dk_182 1 69 (dk_at dksX1_drawn_0 11 rfl rfl)
theorem dX1_drawn_14 : decode cX1_drawn 14 = .ok (.ifCond .ne 5, 3) := dk_154 0 5 (dk_at dksX1_drawn_0 14 rfl rfl)
theorem dX1_drawn_17 : decode cX1_drawn 17 = .ok (.iconst (-1), 1) := dk_2 (dk_at dksX1_drawn_0 17 rfl rfl)
theorem dX1_drawn_18 : decode cX1_drawn 18 = .ok (.ireturn, 1) := dk_172 (dk_at dksX1_drawn_0 18 rfl rfl)
theorem dX1_drawn_19 : decode cX1_drawn 19 = .ok (.aload_n 0, 1) := dk_42 (dk_at dksX1_drawn_0 19 rfl rfl)
theorem dX1_drawn_20 : decode cX1_drawn 20 = .ok (.getfield 36, 3) := dk_180 0 36 (dk_at dksX1_drawn_0 20 rfl rfl)
theorem dX1_drawn_23 : decode cX1_drawn 23 = .ok (.invokevirtual 283, 3) := dk_182 1 27 (dk_at dksX1_drawn_1 0 rfl rfl)
theorem dX1_drawn_26 : decode cX1_drawn 26 = .ok (.ifCond .eq 5, 3) := dk_153 0 5 (dk_at dksX1_drawn_1 3 rfl rfl)
theorem dX1_drawn_29 : decode cX1_drawn 29 = .ok (.iconst 0, 1) := dk_3 (dk_at dksX1_drawn_1 6 rfl rfl)
theorem dX1_drawn_30 : decode cX1_drawn 30 = .ok (.ireturn, 1) := dk_172 (dk_at dksX1_drawn_1 7 rfl rfl)
theorem dX1_drawn_31 : decode cX1_drawn 31 = .ok (.aload_n 0, 1) := dk_42 (dk_at dksX1_drawn_1 8 rfl rfl)
theorem dX1_drawn_32 : decode cX1_drawn 32 = .ok (.invokevirtual 249, 3) := dk_182 0 249 (dk_at dksX1_drawn_1 9 rfl rfl)
theorem dX1_drawn_35 : decode cX1_drawn 35 = .ok (.aload_n 0, 1) := dk_42 (dk_at dksX1_drawn_1 12 rfl rfl)
theorem dX1_drawn_36 : decode cX1_drawn 36 = .ok (.getfield 36, 3) := dk_180 0 36 (dk_at dksX1_drawn_1 13 rfl rfl)
theorem dX1_drawn_39 : decode cX1_drawn 39 = .ok (.iload_n 1, 1) := dk_27 (dk_at dksX1_drawn_1 16 rfl rfl)
theorem dX1_drawn_40 : decode cX1_drawn 40 = .ok (.iload_n 2, 1) := dk_28 (dk_at dksX1_drawn_1 17 rfl rfl)
theorem dX1_drawn_41 : decode cX1_drawn 41 = .ok (.invokevirtual 421, 3) := dk_182 1 165 (dk_at dksX1_drawn_1 18 rfl rfl)
theorem dX1_drawn_44 : decode cX1_drawn 44 = .ok (.ireturn, 1) := dk_172 (dk_at dksX1_drawn_1 21 rfl rfl)
abbrev cX1_odds : ByteArray := prog_1_method_56_code
def yX1_odds : MethodName := ⟨RX1, "odds", "(III)I"⟩
def dkwX1_odds_3 : List UInt8 := [164, 0, 6, 132, 4, 1, 132, 5, 1, 167, 255, 202, 21, 4, 172]
abbrev dktX1_odds_3 : List UInt8 := dkwX1_odds_3 ++ []
def dkwX1_odds_2 : List UInt8 := [96, 182, 1, 165, 87, 42, 180, 0, 40, 180, 0, 161, 27, 46, 42, 180, 0, 36, 180, 0, 161, 27, 46]
abbrev dktX1_odds_2 : List UInt8 := dkwX1_odds_2 ++ dktX1_odds_3
def dkwX1_odds_1 : List UInt8 := [54, 5, 21, 5, 28, 162, 0, 54, 42, 180, 0, 40, 42, 180, 0, 36, 182, 0, 239, 16, 20, 29, 21, 5]
abbrev dktX1_odds_1 : List UInt8 := dkwX1_odds_1 ++ dktX1_odds_2
def dkwX1_odds_0 : List UInt8 := [42, 27, 182, 0, 146, 153, 0, 13, 28, 4, 16, 30, 184, 0, 147, 154, 0, 5, 2, 172, 3, 54, 4, 3]
abbrev dktX1_odds_0 : List UInt8 := dkwX1_odds_0 ++ dktX1_odds_1
theorem dksX1_odds_0 : cX1_odds.data.toList.drop 0 = dktX1_odds_0 := by decide +kernel
theorem dksX1_odds_1 : cX1_odds.data.toList.drop 24 = dktX1_odds_1 := dk_seg dksX1_odds_0 24 rfl rfl
theorem dksX1_odds_2 : cX1_odds.data.toList.drop 48 = dktX1_odds_2 := dk_seg dksX1_odds_1 24 rfl rfl
theorem dksX1_odds_3 : cX1_odds.data.toList.drop 71 = dktX1_odds_3 := dk_seg dksX1_odds_2 23 rfl rfl
theorem dX1_odds_0 : decode cX1_odds 0 = .ok (.aload_n 0, 1) := dk_42 (dk_at dksX1_odds_0 0 rfl rfl)
theorem dX1_odds_1 : decode cX1_odds 1 = .ok (.iload_n 1, 1) := dk_27 (dk_at dksX1_odds_0 1 rfl rfl)
theorem dX1_odds_2 : decode cX1_odds 2 = .ok (.invokevirtual 146, 3) := dk_182 0 146 (dk_at dksX1_odds_0 2 rfl rfl)
theorem dX1_odds_5 : decode cX1_odds 5 = .ok (.ifCond .eq 13, 3) := dk_153 0 13 (dk_at dksX1_odds_0 5 rfl rfl)
theorem dX1_odds_8 : decode cX1_odds 8 = .ok (.iload_n 2, 1) := dk_28 (dk_at dksX1_odds_0 8 rfl rfl)
theorem dX1_odds_9 : decode cX1_odds 9 = .ok (.iconst 1, 1) := dk_4 (dk_at dksX1_odds_0 9 rfl rfl)
theorem dX1_odds_10 : decode cX1_odds 10 = .ok (.bipush 30, 2) := dk_16 30 (dk_at dksX1_odds_0 10 rfl rfl)
theorem dX1_odds_12 : decode cX1_odds 12 = .ok (.invokestatic 147, 3) := dk_184 0 147 (dk_at dksX1_odds_0 12 rfl rfl)
theorem dX1_odds_15 : decode cX1_odds 15 = .ok (.ifCond .ne 5, 3) := dk_154 0 5 (dk_at dksX1_odds_0 15 rfl rfl)
theorem dX1_odds_18 : decode cX1_odds 18 = .ok (.iconst (-1), 1) := dk_2 (dk_at dksX1_odds_0 18 rfl rfl)
theorem dX1_odds_19 : decode cX1_odds 19 = .ok (.ireturn, 1) := dk_172 (dk_at dksX1_odds_0 19 rfl rfl)
theorem dX1_odds_20 : decode cX1_odds 20 = .ok (.iconst 0, 1) := dk_3 (dk_at dksX1_odds_0 20 rfl rfl)
theorem dX1_odds_21 : decode cX1_odds 21 = .ok (.istore 4, 2) := dk_54 4 (dk_at dksX1_odds_0 21 rfl rfl)
theorem dX1_odds_23 : decode cX1_odds 23 = .ok (.iconst 0, 1) := dk_3 (dk_at dksX1_odds_0 23 rfl rfl)
theorem dX1_odds_24 : decode cX1_odds 24 = .ok (.istore 5, 2) := dk_54 5 (dk_at dksX1_odds_1 0 rfl rfl)
theorem dX1_odds_26 : decode cX1_odds 26 = .ok (.iload 5, 2) := dk_21 5 (dk_at dksX1_odds_1 2 rfl rfl)
theorem dX1_odds_28 : decode cX1_odds 28 = .ok (.iload_n 2, 1) := dk_28 (dk_at dksX1_odds_1 4 rfl rfl)
theorem dX1_odds_29 : decode cX1_odds 29 = .ok (.if_icmp .ge 54, 3) := dk_162 0 54 (dk_at dksX1_odds_1 5 rfl rfl)
theorem dX1_odds_32 : decode cX1_odds 32 = .ok (.aload_n 0, 1) := dk_42 (dk_at dksX1_odds_1 8 rfl rfl)
theorem dX1_odds_33 : decode cX1_odds 33 = .ok (.getfield 40, 3) := dk_180 0 40 (dk_at dksX1_odds_1 9 rfl rfl)
theorem dX1_odds_36 : decode cX1_odds 36 = .ok (.aload_n 0, 1) := dk_42 (dk_at dksX1_odds_1 12 rfl rfl)
theorem dX1_odds_37 : decode cX1_odds 37 = .ok (.getfield 36, 3) := dk_180 0 36 (dk_at dksX1_odds_1 13 rfl rfl)
theorem dX1_odds_40 : decode cX1_odds 40 = .ok (.invokevirtual 239, 3) := dk_182 0 239 (dk_at dksX1_odds_1 16 rfl rfl)
theorem dX1_odds_43 : decode cX1_odds 43 = .ok (.bipush 20, 2) := dk_16 20 (dk_at dksX1_odds_1 19 rfl rfl)
theorem dX1_odds_45 : decode cX1_odds 45 = .ok (.iload_n 3, 1) := dk_29 (dk_at dksX1_odds_1 21 rfl rfl)
theorem dX1_odds_46 : decode cX1_odds 46 = .ok (.iload 5, 2) := dk_21 5 (dk_at dksX1_odds_1 22 rfl rfl)
theorem dX1_odds_48 : decode cX1_odds 48 = .ok (.iadd, 1) := dk_96 (dk_at dksX1_odds_2 0 rfl rfl)
theorem dX1_odds_49 : decode cX1_odds 49 = .ok (.invokevirtual 421, 3) := dk_182 1 165 (dk_at dksX1_odds_2 1 rfl rfl)
theorem dX1_odds_52 : decode cX1_odds 52 = .ok (.pop, 1) := dk_87 (dk_at dksX1_odds_2 4 rfl rfl)
theorem dX1_odds_53 : decode cX1_odds 53 = .ok (.aload_n 0, 1) := dk_42 (dk_at dksX1_odds_2 5 rfl rfl)
theorem dX1_odds_54 : decode cX1_odds 54 = .ok (.getfield 40, 3) := dk_180 0 40 (dk_at dksX1_odds_2 6 rfl rfl)
theorem dX1_odds_57 : decode cX1_odds 57 = .ok (.getfield 161, 3) := dk_180 0 161 (dk_at dksX1_odds_2 9 rfl rfl)
theorem dX1_odds_60 : decode cX1_odds 60 = .ok (.iload_n 1, 1) := dk_27 (dk_at dksX1_odds_2 12 rfl rfl)
theorem dX1_odds_61 : decode cX1_odds 61 = .ok (.iaload, 1) := dk_46 (dk_at dksX1_odds_2 13 rfl rfl)
theorem dX1_odds_62 : decode cX1_odds 62 = .ok (.aload_n 0, 1) := dk_42 (dk_at dksX1_odds_2 14 rfl rfl)
theorem dX1_odds_63 : decode cX1_odds 63 = .ok (.getfield 36, 3) := dk_180 0 36 (dk_at dksX1_odds_2 15 rfl rfl)
theorem dX1_odds_66 : decode cX1_odds 66 = .ok (.getfield 161, 3) := dk_180 0 161 (dk_at dksX1_odds_2 18 rfl rfl)
theorem dX1_odds_69 : decode cX1_odds 69 = .ok (.iload_n 1, 1) := dk_27 (dk_at dksX1_odds_2 21 rfl rfl)
theorem dX1_odds_70 : decode cX1_odds 70 = .ok (.iaload, 1) := dk_46 (dk_at dksX1_odds_2 22 rfl rfl)
theorem dX1_odds_71 : decode cX1_odds 71 = .ok (.if_icmp .le 6, 3) := dk_164 0 6 (dk_at dksX1_odds_3 0 rfl rfl)
theorem dX1_odds_74 : decode cX1_odds 74 = .ok (.iinc 4 1, 3) := dk_132 4 1 (dk_at dksX1_odds_3 3 rfl rfl)
theorem dX1_odds_77 : decode cX1_odds 77 = .ok (.iinc 5 1, 3) := dk_132 5 1 (dk_at dksX1_odds_3 6 rfl rfl)
theorem dX1_odds_80 : decode cX1_odds 80 = .ok (.goto (-54), 3) := dk_167 255 202 (dk_at dksX1_odds_3 9 rfl rfl)
theorem dX1_odds_83 : decode cX1_odds 83 = .ok (.iload 4, 2) := dk_21 4 (dk_at dksX1_odds_3 12 rfl rfl)
theorem dX1_odds_85 : decode cX1_odds 85 = .ok (.ireturn, 1) := dk_172 (dk_at dksX1_odds_3 14 rfl rfl)
abbrev cX1_book : ByteArray := prog_1_method_57_code
def yX1_book : MethodName := ⟨RX1, "book", "(I)I"⟩
def dkwX1_book_3 : List UInt8 := [100, 172]
abbrev dktX1_book_3 : List UInt8 := dkwX1_book_3 ++ []
def dkwX1_book_2 : List UInt8 := [4, 167, 0, 4, 3, 182, 1, 176, 172, 78, 42, 45, 180, 0, 121, 181, 0, 97, 16, 254, 45, 180, 0, 124]
abbrev dktX1_book_2 : List UInt8 := dkwX1_book_2 ++ dktX1_book_3
def dkwX1_book_1 : List UInt8 := [187, 1, 168, 89, 42, 180, 0, 18, 28, 42, 180, 0, 25, 183, 1, 170, 182, 1, 173, 27, 4, 160, 0, 7]
abbrev dktX1_book_1 : List UInt8 := dkwX1_book_1 ++ dktX1_book_2
def dkwX1_book_0 : List UInt8 := [27, 3, 4, 184, 0, 147, 154, 0, 7, 17, 252, 24, 172, 42, 182, 0, 93, 61, 42, 3, 181, 0, 97, 42]
abbrev dktX1_book_0 : List UInt8 := dkwX1_book_0 ++ dktX1_book_1
theorem dksX1_book_0 : cX1_book.data.toList.drop 0 = dktX1_book_0 := by decide +kernel
theorem dksX1_book_1 : cX1_book.data.toList.drop 24 = dktX1_book_1 := dk_seg dksX1_book_0 24 rfl rfl
theorem dksX1_book_2 : cX1_book.data.toList.drop 48 = dktX1_book_2 := dk_seg dksX1_book_1 24 rfl rfl
theorem dksX1_book_3 : cX1_book.data.toList.drop 72 = dktX1_book_3 := dk_seg dksX1_book_2 24 rfl rfl
theorem dX1_book_0 : decode cX1_book 0 = .ok (.iload_n 1, 1) := dk_27 (dk_at dksX1_book_0 0 rfl rfl)
theorem dX1_book_1 : decode cX1_book 1 = .ok (.iconst 0, 1) := dk_3 (dk_at dksX1_book_0 1 rfl rfl)
theorem dX1_book_2 : decode cX1_book 2 = .ok (.iconst 1, 1) := dk_4 (dk_at dksX1_book_0 2 rfl rfl)
theorem dX1_book_3 : decode cX1_book 3 = .ok (.invokestatic 147, 3) := dk_184 0 147 (dk_at dksX1_book_0 3 rfl rfl)
theorem dX1_book_6 : decode cX1_book 6 = .ok (.ifCond .ne 7, 3) := dk_154 0 7 (dk_at dksX1_book_0 6 rfl rfl)
theorem dX1_book_9 : decode cX1_book 9 = .ok (.sipush (-1000), 3) := dk_17 252 24 (dk_at dksX1_book_0 9 rfl rfl)
theorem dX1_book_12 : decode cX1_book 12 = .ok (.ireturn, 1) := dk_172 (dk_at dksX1_book_0 12 rfl rfl)
theorem dX1_book_13 : decode cX1_book 13 = .ok (.aload_n 0, 1) := dk_42 (dk_at dksX1_book_0 13 rfl rfl)
theorem dX1_book_14 : decode cX1_book 14 = .ok (.invokevirtual 93, 3) := dk_182 0 93 (dk_at dksX1_book_0 14 rfl rfl)
theorem dX1_book_17 : decode cX1_book 17 = .ok (.istore_n 2, 1) := dk_61 (dk_at dksX1_book_0 17 rfl rfl)
theorem dX1_book_18 : decode cX1_book 18 = .ok (.aload_n 0, 1) := dk_42 (dk_at dksX1_book_0 18 rfl rfl)
theorem dX1_book_19 : decode cX1_book 19 = .ok (.iconst 0, 1) := dk_3 (dk_at dksX1_book_0 19 rfl rfl)
theorem dX1_book_20 : decode cX1_book 20 = .ok (.putfield 97, 3) := dk_181 0 97 (dk_at dksX1_book_0 20 rfl rfl)
theorem dX1_book_23 : decode cX1_book 23 = .ok (.aload_n 0, 1) := dk_42 (dk_at dksX1_book_0 23 rfl rfl)
theorem dX1_book_24 : decode cX1_book 24 = .ok (.new 424, 3) := dk_187 1 168 (dk_at dksX1_book_1 0 rfl rfl)
theorem dX1_book_27 : decode cX1_book 27 = .ok (.dup, 1) := dk_89 (dk_at dksX1_book_1 3 rfl rfl)
theorem dX1_book_28 : decode cX1_book 28 = .ok (.aload_n 0, 1) := dk_42 (dk_at dksX1_book_1 4 rfl rfl)
theorem dX1_book_29 : decode cX1_book 29 = .ok (.getfield 18, 3) := dk_180 0 18 (dk_at dksX1_book_1 5 rfl rfl)
theorem dX1_book_32 : decode cX1_book 32 = .ok (.iload_n 2, 1) := dk_28 (dk_at dksX1_book_1 8 rfl rfl)
theorem dX1_book_33 : decode cX1_book 33 = .ok (.aload_n 0, 1) := dk_42 (dk_at dksX1_book_1 9 rfl rfl)
theorem dX1_book_34 : decode cX1_book 34 = .ok (.getfield 25, 3) := dk_180 0 25 (dk_at dksX1_book_1 10 rfl rfl)
theorem dX1_book_37 : decode cX1_book 37 = .ok (.invokespecial 426, 3) := dk_183 1 170 (dk_at dksX1_book_1 13 rfl rfl)
theorem dX1_book_40 : decode cX1_book 40 = .ok (.invokevirtual 429, 3) := dk_182 1 173 (dk_at dksX1_book_1 16 rfl rfl)
theorem dX1_book_43 : decode cX1_book 43 = .ok (.iload_n 1, 1) := dk_27 (dk_at dksX1_book_1 19 rfl rfl)
theorem dX1_book_44 : decode cX1_book 44 = .ok (.iconst 1, 1) := dk_4 (dk_at dksX1_book_1 20 rfl rfl)
theorem dX1_book_45 : decode cX1_book 45 = .ok (.if_icmp .ne 7, 3) := dk_160 0 7 (dk_at dksX1_book_1 21 rfl rfl)
theorem dX1_book_48 : decode cX1_book 48 = .ok (.iconst 1, 1) := dk_4 (dk_at dksX1_book_2 0 rfl rfl)
theorem dX1_book_49 : decode cX1_book 49 = .ok (.goto 4, 3) := dk_167 0 4 (dk_at dksX1_book_2 1 rfl rfl)
theorem dX1_book_52 : decode cX1_book 52 = .ok (.iconst 0, 1) := dk_3 (dk_at dksX1_book_2 4 rfl rfl)
theorem dX1_book_53 : decode cX1_book 53 = .ok (.invokevirtual 432, 3) := dk_182 1 176 (dk_at dksX1_book_2 5 rfl rfl)
theorem dX1_book_56 : decode cX1_book 56 = .ok (.ireturn, 1) := dk_172 (dk_at dksX1_book_2 8 rfl rfl)
theorem dX1_book_57 : decode cX1_book 57 = .ok (.astore_n 3, 1) := dk_78 (dk_at dksX1_book_2 9 rfl rfl)
theorem dX1_book_58 : decode cX1_book 58 = .ok (.aload_n 0, 1) := dk_42 (dk_at dksX1_book_2 10 rfl rfl)
theorem dX1_book_59 : decode cX1_book 59 = .ok (.aload_n 3, 1) := dk_45 (dk_at dksX1_book_2 11 rfl rfl)
theorem dX1_book_60 : decode cX1_book 60 = .ok (.getfield 121, 3) := dk_180 0 121 (dk_at dksX1_book_2 12 rfl rfl)
theorem dX1_book_63 : decode cX1_book 63 = .ok (.putfield 97, 3) := dk_181 0 97 (dk_at dksX1_book_2 15 rfl rfl)
theorem dX1_book_66 : decode cX1_book 66 = .ok (.bipush (-2), 2) := dk_16 254 (dk_at dksX1_book_2 18 rfl rfl)
theorem dX1_book_68 : decode cX1_book 68 = .ok (.aload_n 3, 1) := dk_45 (dk_at dksX1_book_2 20 rfl rfl)
theorem dX1_book_69 : decode cX1_book 69 = .ok (.getfield 124, 3) := dk_180 0 124 (dk_at dksX1_book_2 21 rfl rfl)
theorem dX1_book_72 : decode cX1_book 72 = .ok (.isub, 1) := dk_100 (dk_at dksX1_book_3 0 rfl rfl)
theorem dX1_book_73 : decode cX1_book 73 = .ok (.ireturn, 1) := dk_172 (dk_at dksX1_book_3 1 rfl rfl)
abbrev cX1_lived : ByteArray := prog_1_method_58_code
def yX1_lived : MethodName := ⟨RX1, "lived", "(Ljava/util/ArrayList;Z)I"⟩
def dkwX1_lived_5 : List UInt8 := [180, 0, 40, 182, 0, 239, 87, 29, 154, 0, 7, 2, 167, 0, 5, 21, 4, 172]
abbrev dktX1_lived_5 : List UInt8 := dkwX1_lived_5 ++ []
def dkwX1_lived_4 : List UInt8 := [182, 0, 222, 79, 28, 153, 0, 24, 21, 4, 158, 0, 19, 42, 182, 0, 249, 42, 180, 0, 36, 42]
abbrev dktX1_lived_4 : List UInt8 := dkwX1_lived_4 ++ dktX1_lived_5
def dkwX1_lived_3 : List UInt8 := [79, 42, 180, 0, 76, 5, 42, 180, 0, 40, 180, 0, 219, 79, 42, 180, 0, 76, 6, 42, 180, 0, 40]
abbrev dktX1_lived_3 : List UInt8 := dkwX1_lived_3 ++ dktX1_lived_4
def dkwX1_lived_2 : List UInt8 := [29, 154, 255, 225, 132, 4, 1, 167, 255, 219, 42, 180, 0, 76, 3, 29, 79, 42, 180, 0, 76, 4, 21, 4]
abbrev dktX1_lived_2 : List UInt8 := dkwX1_lived_2 ++ dktX1_lived_3
def dkwX1_lived_1 : List UInt8 := [162, 0, 34, 29, 154, 0, 30, 43, 21, 4, 182, 0, 179, 192, 0, 244, 42, 180, 0, 40, 182, 0, 243, 62]
abbrev dktX1_lived_1 : List UInt8 := dkwX1_lived_1 ++ dktX1_lived_2
def dkwX1_lived_0 : List UInt8 := [42, 180, 0, 40, 42, 180, 0, 36, 182, 0, 239, 87, 3, 62, 3, 54, 4, 21, 4, 43, 182, 0, 138]
abbrev dktX1_lived_0 : List UInt8 := dkwX1_lived_0 ++ dktX1_lived_1
theorem dksX1_lived_0 : cX1_lived.data.toList.drop 0 = dktX1_lived_0 := by decide +kernel
theorem dksX1_lived_1 : cX1_lived.data.toList.drop 23 = dktX1_lived_1 := dk_seg dksX1_lived_0 23 rfl rfl
theorem dksX1_lived_2 : cX1_lived.data.toList.drop 47 = dktX1_lived_2 := dk_seg dksX1_lived_1 24 rfl rfl
theorem dksX1_lived_3 : cX1_lived.data.toList.drop 71 = dktX1_lived_3 := dk_seg dksX1_lived_2 24 rfl rfl
theorem dksX1_lived_4 : cX1_lived.data.toList.drop 94 = dktX1_lived_4 := dk_seg dksX1_lived_3 23 rfl rfl
theorem dksX1_lived_5 : cX1_lived.data.toList.drop 116 = dktX1_lived_5 := dk_seg dksX1_lived_4 22 rfl rfl
theorem dX1_lived_0 : decode cX1_lived 0 = .ok (.aload_n 0, 1) := dk_42 (dk_at dksX1_lived_0 0 rfl rfl)
theorem dX1_lived_1 : decode cX1_lived 1 = .ok (.getfield 40, 3) := dk_180 0 40 (dk_at dksX1_lived_0 1 rfl rfl)
theorem dX1_lived_4 : decode cX1_lived 4 = .ok (.aload_n 0, 1) := dk_42 (dk_at dksX1_lived_0 4 rfl rfl)
theorem dX1_lived_5 : decode cX1_lived 5 = .ok (.getfield 36, 3) := dk_180 0 36 (dk_at dksX1_lived_0 5 rfl rfl)
theorem dX1_lived_8 : decode cX1_lived 8 = .ok (.invokevirtual 239, 3) := dk_182 0 239 (dk_at dksX1_lived_0 8 rfl rfl)
theorem dX1_lived_11 : decode cX1_lived 11 = .ok (.pop, 1) := dk_87 (dk_at dksX1_lived_0 11 rfl rfl)
theorem dX1_lived_12 : decode cX1_lived 12 = .ok (.iconst 0, 1) := dk_3 (dk_at dksX1_lived_0 12 rfl rfl)
theorem dX1_lived_13 : decode cX1_lived 13 = .ok (.istore_n 3, 1) := dk_62 (dk_at dksX1_lived_0 13 rfl rfl)
theorem dX1_lived_14 : decode cX1_lived 14 = .ok (.iconst 0, 1) := dk_3 (dk_at dksX1_lived_0 14 rfl rfl)
theorem dX1_lived_15 : decode cX1_lived 15 = .ok (.istore 4, 2) := dk_54 4 (dk_at dksX1_lived_0 15 rfl rfl)
theorem dX1_lived_17 : decode cX1_lived 17 = .ok (.iload 4, 2) := dk_21 4 (dk_at dksX1_lived_0 17 rfl rfl)
theorem dX1_lived_19 : decode cX1_lived 19 = .ok (.aload_n 1, 1) := dk_43 (dk_at dksX1_lived_0 19 rfl rfl)
theorem dX1_lived_20 : decode cX1_lived 20 = .ok (.invokevirtual 138, 3) := dk_182 0 138 (dk_at dksX1_lived_0 20 rfl rfl)
theorem dX1_lived_23 : decode cX1_lived 23 = .ok (.if_icmp .ge 34, 3) := dk_162 0 34 (dk_at dksX1_lived_1 0 rfl rfl)
theorem dX1_lived_26 : decode cX1_lived 26 = .ok (.iload_n 3, 1) := dk_29 (dk_at dksX1_lived_1 3 rfl rfl)
theorem dX1_lived_27 : decode cX1_lived 27 = .ok (.ifCond .ne 30, 3) := dk_154 0 30 (dk_at dksX1_lived_1 4 rfl rfl)
theorem dX1_lived_30 : decode cX1_lived 30 = .ok (.aload_n 1, 1) := dk_43 (dk_at dksX1_lived_1 7 rfl rfl)
theorem dX1_lived_31 : decode cX1_lived 31 = .ok (.iload 4, 2) := dk_21 4 (dk_at dksX1_lived_1 8 rfl rfl)
theorem dX1_lived_33 : decode cX1_lived 33 = .ok (.invokevirtual 179, 3) := dk_182 0 179 (dk_at dksX1_lived_1 10 rfl rfl)
theorem dX1_lived_36 : decode cX1_lived 36 = .ok (.checkcast 244, 3) := dk_192 0 244 (dk_at dksX1_lived_1 13 rfl rfl)
theorem dX1_lived_39 : decode cX1_lived 39 = .ok (.aload_n 0, 1) := dk_42 (dk_at dksX1_lived_1 16 rfl rfl)
theorem dX1_lived_40 : decode cX1_lived 40 = .ok (.getfield 40, 3) := dk_180 0 40 (dk_at dksX1_lived_1 17 rfl rfl)
theorem dX1_lived_43 : decode cX1_lived 43 = .ok (.invokevirtual 243, 3) := dk_182 0 243 (dk_at dksX1_lived_1 20 rfl rfl)
theorem dX1_lived_46 : decode cX1_lived 46 = .ok (.istore_n 3, 1) := dk_62 (dk_at dksX1_lived_1 23 rfl rfl)
theorem dX1_lived_47 : decode cX1_lived 47 = .ok (.iload_n 3, 1) := dk_29 (dk_at dksX1_lived_2 0 rfl rfl)
theorem dX1_lived_48 : decode cX1_lived 48 = .ok (.ifCond .ne (-31), 3) := dk_154 255 225 (dk_at dksX1_lived_2 1 rfl rfl)
theorem dX1_lived_51 : decode cX1_lived 51 = .ok (.iinc 4 1, 3) := dk_132 4 1 (dk_at dksX1_lived_2 4 rfl rfl)
theorem dX1_lived_54 : decode cX1_lived 54 = .ok (.goto (-37), 3) := dk_167 255 219 (dk_at dksX1_lived_2 7 rfl rfl)
theorem dX1_lived_57 : decode cX1_lived 57 = .ok (.aload_n 0, 1) := dk_42 (dk_at dksX1_lived_2 10 rfl rfl)
theorem dX1_lived_58 : decode cX1_lived 58 = .ok (.getfield 76, 3) := dk_180 0 76 (dk_at dksX1_lived_2 11 rfl rfl)
theorem dX1_lived_61 : decode cX1_lived 61 = .ok (.iconst 0, 1) := dk_3 (dk_at dksX1_lived_2 14 rfl rfl)
theorem dX1_lived_62 : decode cX1_lived 62 = .ok (.iload_n 3, 1) := dk_29 (dk_at dksX1_lived_2 15 rfl rfl)
theorem dX1_lived_63 : decode cX1_lived 63 = .ok (.iastore, 1) := dk_79 (dk_at dksX1_lived_2 16 rfl rfl)
theorem dX1_lived_64 : decode cX1_lived 64 = .ok (.aload_n 0, 1) := dk_42 (dk_at dksX1_lived_2 17 rfl rfl)
theorem dX1_lived_65 : decode cX1_lived 65 = .ok (.getfield 76, 3) := dk_180 0 76 (dk_at dksX1_lived_2 18 rfl rfl)
theorem dX1_lived_68 : decode cX1_lived 68 = .ok (.iconst 1, 1) := dk_4 (dk_at dksX1_lived_2 21 rfl rfl)
theorem dX1_lived_69 : decode cX1_lived 69 = .ok (.iload 4, 2) := dk_21 4 (dk_at dksX1_lived_2 22 rfl rfl)
theorem dX1_lived_71 : decode cX1_lived 71 = .ok (.iastore, 1) := dk_79 (dk_at dksX1_lived_3 0 rfl rfl)
theorem dX1_lived_72 : decode cX1_lived 72 = .ok (.aload_n 0, 1) := dk_42 (dk_at dksX1_lived_3 1 rfl rfl)
theorem dX1_lived_73 : decode cX1_lived 73 = .ok (.getfield 76, 3) := dk_180 0 76 (dk_at dksX1_lived_3 2 rfl rfl)
theorem dX1_lived_76 : decode cX1_lived 76 = .ok (.iconst 2, 1) := dk_5 (dk_at dksX1_lived_3 5 rfl rfl)
theorem dX1_lived_77 : decode cX1_lived 77 = .ok (.aload_n 0, 1) := dk_42 (dk_at dksX1_lived_3 6 rfl rfl)
theorem dX1_lived_78 : decode cX1_lived 78 = .ok (.getfield 40, 3) := dk_180 0 40 (dk_at dksX1_lived_3 7 rfl rfl)
theorem dX1_lived_81 : decode cX1_lived 81 = .ok (.getfield 219, 3) := dk_180 0 219 (dk_at dksX1_lived_3 10 rfl rfl)
theorem dX1_lived_84 : decode cX1_lived 84 = .ok (.iastore, 1) := dk_79 (dk_at dksX1_lived_3 13 rfl rfl)
theorem dX1_lived_85 : decode cX1_lived 85 = .ok (.aload_n 0, 1) := dk_42 (dk_at dksX1_lived_3 14 rfl rfl)
theorem dX1_lived_86 : decode cX1_lived 86 = .ok (.getfield 76, 3) := dk_180 0 76 (dk_at dksX1_lived_3 15 rfl rfl)
theorem dX1_lived_89 : decode cX1_lived 89 = .ok (.iconst 3, 1) := dk_6 (dk_at dksX1_lived_3 18 rfl rfl)
theorem dX1_lived_90 : decode cX1_lived 90 = .ok (.aload_n 0, 1) := dk_42 (dk_at dksX1_lived_3 19 rfl rfl)
theorem dX1_lived_91 : decode cX1_lived 91 = .ok (.getfield 40, 3) := dk_180 0 40 (dk_at dksX1_lived_3 20 rfl rfl)
theorem dX1_lived_94 : decode cX1_lived 94 = .ok (.invokevirtual 222, 3) := dk_182 0 222 (dk_at dksX1_lived_4 0 rfl rfl)
theorem dX1_lived_97 : decode cX1_lived 97 = .ok (.iastore, 1) := dk_79 (dk_at dksX1_lived_4 3 rfl rfl)
theorem dX1_lived_98 : decode cX1_lived 98 = .ok (.iload_n 2, 1) := dk_28 (dk_at dksX1_lived_4 4 rfl rfl)
theorem dX1_lived_99 : decode cX1_lived 99 = .ok (.ifCond .eq 24, 3) := dk_153 0 24 (dk_at dksX1_lived_4 5 rfl rfl)
theorem dX1_lived_102 : decode cX1_lived 102 = .ok (.iload 4, 2) := dk_21 4 (dk_at dksX1_lived_4 8 rfl rfl)
theorem dX1_lived_104 : decode cX1_lived 104 = .ok (.ifCond .le 19, 3) := dk_158 0 19 (dk_at dksX1_lived_4 10 rfl rfl)
theorem dX1_lived_107 : decode cX1_lived 107 = .ok (.aload_n 0, 1) := dk_42 (dk_at dksX1_lived_4 13 rfl rfl)
theorem dX1_lived_108 : decode cX1_lived 108 = .ok (.invokevirtual 249, 3) := dk_182 0 249 (dk_at dksX1_lived_4 14 rfl rfl)
theorem dX1_lived_111 : decode cX1_lived 111 = .ok (.aload_n 0, 1) := dk_42 (dk_at dksX1_lived_4 17 rfl rfl)
theorem dX1_lived_112 : decode cX1_lived 112 = .ok (.getfield 36, 3) := dk_180 0 36 (dk_at dksX1_lived_4 18 rfl rfl)
theorem dX1_lived_115 : decode cX1_lived 115 = .ok (.aload_n 0, 1) := dk_42 (dk_at dksX1_lived_4 21 rfl rfl)
theorem dX1_lived_116 : decode cX1_lived 116 = .ok (.getfield 40, 3) := dk_180 0 40 (dk_at dksX1_lived_5 0 rfl rfl)
theorem dX1_lived_119 : decode cX1_lived 119 = .ok (.invokevirtual 239, 3) := dk_182 0 239 (dk_at dksX1_lived_5 3 rfl rfl)
theorem dX1_lived_122 : decode cX1_lived 122 = .ok (.pop, 1) := dk_87 (dk_at dksX1_lived_5 6 rfl rfl)
theorem dX1_lived_123 : decode cX1_lived 123 = .ok (.iload_n 3, 1) := dk_29 (dk_at dksX1_lived_5 7 rfl rfl)
theorem dX1_lived_124 : decode cX1_lived 124 = .ok (.ifCond .ne 7, 3) := dk_154 0 7 (dk_at dksX1_lived_5 8 rfl rfl)
theorem dX1_lived_127 : decode cX1_lived 127 = .ok (.iconst (-1), 1) := dk_2 (dk_at dksX1_lived_5 11 rfl rfl)
theorem dX1_lived_128 : decode cX1_lived 128 = .ok (.goto 5, 3) := dk_167 0 5 (dk_at dksX1_lived_5 12 rfl rfl)
theorem dX1_lived_131 : decode cX1_lived 131 = .ok (.iload 4, 2) := dk_21 4 (dk_at dksX1_lived_5 15 rfl rfl)
theorem dX1_lived_133 : decode cX1_lived 133 = .ok (.ireturn, 1) := dk_172 (dk_at dksX1_lived_5 17 rfl rfl)
abbrev cX1_told : ByteArray := prog_1_method_59_code
def yX1_told : MethodName := ⟨RX1, "told", "(I)I"⟩
def dkwX1_told_0 : List UInt8 := [27, 3, 6, 184, 0, 147, 153, 0, 12, 42, 180, 0, 76, 27, 46, 167, 0, 4, 2, 172]
abbrev dktX1_told_0 : List UInt8 := dkwX1_told_0 ++ []
theorem dksX1_told_0 : cX1_told.data.toList.drop 0 = dktX1_told_0 := by decide +kernel
theorem dX1_told_0 : decode cX1_told 0 = .ok (.iload_n 1, 1) := dk_27 (dk_at dksX1_told_0 0 rfl rfl)
theorem dX1_told_1 : decode cX1_told 1 = .ok (.iconst 0, 1) := dk_3 (dk_at dksX1_told_0 1 rfl rfl)
theorem dX1_told_2 : decode cX1_told 2 = .ok (.iconst 3, 1) := dk_6 (dk_at dksX1_told_0 2 rfl rfl)
theorem dX1_told_3 : decode cX1_told 3 = .ok (.invokestatic 147, 3) := dk_184 0 147 (dk_at dksX1_told_0 3 rfl rfl)
theorem dX1_told_6 : decode cX1_told 6 = .ok (.ifCond .eq 12, 3) := dk_153 0 12 (dk_at dksX1_told_0 6 rfl rfl)
theorem dX1_told_9 : decode cX1_told 9 = .ok (.aload_n 0, 1) := dk_42 (dk_at dksX1_told_0 9 rfl rfl)
theorem dX1_told_10 : decode cX1_told 10 = .ok (.getfield 76, 3) := dk_180 0 76 (dk_at dksX1_told_0 10 rfl rfl)
theorem dX1_told_13 : decode cX1_told 13 = .ok (.iload_n 1, 1) := dk_27 (dk_at dksX1_told_0 13 rfl rfl)
theorem dX1_told_14 : decode cX1_told 14 = .ok (.iaload, 1) := dk_46 (dk_at dksX1_told_0 14 rfl rfl)
theorem dX1_told_15 : decode cX1_told 15 = .ok (.goto 4, 3) := dk_167 0 4 (dk_at dksX1_told_0 15 rfl rfl)
theorem dX1_told_18 : decode cX1_told 18 = .ok (.iconst (-1), 1) := dk_2 (dk_at dksX1_told_0 18 rfl rfl)
theorem dX1_told_19 : decode cX1_told 19 = .ok (.ireturn, 1) := dk_172 (dk_at dksX1_told_0 19 rfl rfl)
abbrev cX1_sentence : ByteArray := prog_1_method_60_code
def yX1_sentence : MethodName := ⟨RX1, "sentence", "()I"⟩
def dkwX1_sentence_2 : List UInt8 := [181, 0, 97, 2, 44, 180, 0, 124, 100, 172]
abbrev dktX1_sentence_2 : List UInt8 := dkwX1_sentence_2 ++ []
def dkwX1_sentence_1 : List UInt8 := [183, 1, 182, 77, 42, 44, 182, 1, 183, 181, 0, 109, 44, 180, 1, 186, 172, 77, 42, 44, 180, 0, 121]
abbrev dktX1_sentence_1 : List UInt8 := dkwX1_sentence_1 ++ dktX1_sentence_2
def dkwX1_sentence_0 : List UInt8 := [42, 182, 0, 93, 60, 42, 3, 181, 0, 97, 187, 1, 180, 89, 42, 180, 0, 18, 27, 42, 180, 0, 25]
abbrev dktX1_sentence_0 : List UInt8 := dkwX1_sentence_0 ++ dktX1_sentence_1
theorem dksX1_sentence_0 : cX1_sentence.data.toList.drop 0 = dktX1_sentence_0 := by decide +kernel
theorem dksX1_sentence_1 : cX1_sentence.data.toList.drop 23 = dktX1_sentence_1 := dk_seg dksX1_sentence_0 23 rfl rfl
theorem dksX1_sentence_2 : cX1_sentence.data.toList.drop 46 = dktX1_sentence_2 := dk_seg dksX1_sentence_1 23 rfl rfl
theorem dX1_sentence_0 : decode cX1_sentence 0 = .ok (.aload_n 0, 1) := dk_42 (dk_at dksX1_sentence_0 0 rfl rfl)
theorem dX1_sentence_1 : decode cX1_sentence 1 = .ok (.invokevirtual 93, 3) := dk_182 0 93 (dk_at dksX1_sentence_0 1 rfl rfl)
theorem dX1_sentence_4 : decode cX1_sentence 4 = .ok (.istore_n 1, 1) := dk_60 (dk_at dksX1_sentence_0 4 rfl rfl)
theorem dX1_sentence_5 : decode cX1_sentence 5 = .ok (.aload_n 0, 1) := dk_42 (dk_at dksX1_sentence_0 5 rfl rfl)
theorem dX1_sentence_6 : decode cX1_sentence 6 = .ok (.iconst 0, 1) := dk_3 (dk_at dksX1_sentence_0 6 rfl rfl)
theorem dX1_sentence_7 : decode cX1_sentence 7 = .ok (.putfield 97, 3) := dk_181 0 97 (dk_at dksX1_sentence_0 7 rfl rfl)
theorem dX1_sentence_10 : decode cX1_sentence 10 = .ok (.new 436, 3) := dk_187 1 180 (dk_at dksX1_sentence_0 10 rfl rfl)
theorem dX1_sentence_13 : decode cX1_sentence 13 = .ok (.dup, 1) := dk_89 (dk_at dksX1_sentence_0 13 rfl rfl)
theorem dX1_sentence_14 : decode cX1_sentence 14 = .ok (.aload_n 0, 1) := dk_42 (dk_at dksX1_sentence_0 14 rfl rfl)
theorem dX1_sentence_15 : decode cX1_sentence 15 = .ok (.getfield 18, 3) := dk_180 0 18 (dk_at dksX1_sentence_0 15 rfl rfl)
theorem dX1_sentence_18 : decode cX1_sentence 18 = .ok (.iload_n 1, 1) := dk_27 (dk_at dksX1_sentence_0 18 rfl rfl)
theorem dX1_sentence_19 : decode cX1_sentence 19 = .ok (.aload_n 0, 1) := dk_42 (dk_at dksX1_sentence_0 19 rfl rfl)
theorem dX1_sentence_20 : decode cX1_sentence 20 = .ok (.getfield 25, 3) := dk_180 0 25 (dk_at dksX1_sentence_0 20 rfl rfl)
theorem dX1_sentence_23 : decode cX1_sentence 23 = .ok (.invokespecial 438, 3) := dk_183 1 182 (dk_at dksX1_sentence_1 0 rfl rfl)
theorem dX1_sentence_26 : decode cX1_sentence 26 = .ok (.astore_n 2, 1) := dk_77 (dk_at dksX1_sentence_1 3 rfl rfl)
theorem dX1_sentence_27 : decode cX1_sentence 27 = .ok (.aload_n 0, 1) := dk_42 (dk_at dksX1_sentence_1 4 rfl rfl)
theorem dX1_sentence_28 : decode cX1_sentence 28 = .ok (.aload_n 2, 1) := dk_44 (dk_at dksX1_sentence_1 5 rfl rfl)
theorem dX1_sentence_29 : decode cX1_sentence 29 = .ok (.invokevirtual 439, 3) := dk_182 1 183 (dk_at dksX1_sentence_1 6 rfl rfl)
theorem dX1_sentence_32 : decode cX1_sentence 32 = .ok (.putfield 109, 3) := dk_181 0 109 (dk_at dksX1_sentence_1 9 rfl rfl)
theorem dX1_sentence_35 : decode cX1_sentence 35 = .ok (.aload_n 2, 1) := dk_44 (dk_at dksX1_sentence_1 12 rfl rfl)
theorem dX1_sentence_36 : decode cX1_sentence 36 = .ok (.getfield 442, 3) := dk_180 1 186 (dk_at dksX1_sentence_1 13 rfl rfl)
theorem dX1_sentence_39 : decode cX1_sentence 39 = .ok (.ireturn, 1) := dk_172 (dk_at dksX1_sentence_1 16 rfl rfl)
theorem dX1_sentence_40 : decode cX1_sentence 40 = .ok (.astore_n 2, 1) := dk_77 (dk_at dksX1_sentence_1 17 rfl rfl)
theorem dX1_sentence_41 : decode cX1_sentence 41 = .ok (.aload_n 0, 1) := dk_42 (dk_at dksX1_sentence_1 18 rfl rfl)
theorem dX1_sentence_42 : decode cX1_sentence 42 = .ok (.aload_n 2, 1) := dk_44 (dk_at dksX1_sentence_1 19 rfl rfl)
theorem dX1_sentence_43 : decode cX1_sentence 43 = .ok (.getfield 121, 3) := dk_180 0 121 (dk_at dksX1_sentence_1 20 rfl rfl)
theorem dX1_sentence_46 : decode cX1_sentence 46 = .ok (.putfield 97, 3) := dk_181 0 97 (dk_at dksX1_sentence_2 0 rfl rfl)
theorem dX1_sentence_49 : decode cX1_sentence 49 = .ok (.iconst (-1), 1) := dk_2 (dk_at dksX1_sentence_2 3 rfl rfl)
theorem dX1_sentence_50 : decode cX1_sentence 50 = .ok (.aload_n 2, 1) := dk_44 (dk_at dksX1_sentence_2 4 rfl rfl)
theorem dX1_sentence_51 : decode cX1_sentence 51 = .ok (.getfield 124, 3) := dk_180 0 124 (dk_at dksX1_sentence_2 5 rfl rfl)
theorem dX1_sentence_54 : decode cX1_sentence 54 = .ok (.isub, 1) := dk_100 (dk_at dksX1_sentence_2 8 rfl rfl)
theorem dX1_sentence_55 : decode cX1_sentence 55 = .ok (.ireturn, 1) := dk_172 (dk_at dksX1_sentence_2 9 rfl rfl)
abbrev cX1_said : ByteArray := prog_1_method_61_code
def yX1_said : MethodName := ⟨RX1, "said", "(I)I"⟩
def dkwX1_said_2 : List UInt8 := [132, 2, 1, 132, 3, 1, 167, 255, 217, 27, 2, 160, 0, 7, 28, 167, 0, 4, 2, 172]
abbrev dktX1_said_2 : List UInt8 := dkwX1_said_2 ++ []
def dkwX1_said_1 : List UInt8 := [180, 0, 109, 42, 180, 0, 36, 29, 182, 1, 189, 154, 0, 6, 167, 0, 13, 28, 27, 160, 0, 5, 29, 172]
abbrev dktX1_said_1 : List UInt8 := dkwX1_said_1 ++ dktX1_said_2
def dkwX1_said_0 : List UInt8 := [42, 180, 0, 109, 199, 0, 5, 2, 172, 3, 61, 3, 62, 29, 42, 182, 0, 194, 162, 0, 37, 42]
abbrev dktX1_said_0 : List UInt8 := dkwX1_said_0 ++ dktX1_said_1
theorem dksX1_said_0 : cX1_said.data.toList.drop 0 = dktX1_said_0 := by decide +kernel
theorem dksX1_said_1 : cX1_said.data.toList.drop 22 = dktX1_said_1 := dk_seg dksX1_said_0 22 rfl rfl
theorem dksX1_said_2 : cX1_said.data.toList.drop 46 = dktX1_said_2 := dk_seg dksX1_said_1 24 rfl rfl
theorem dX1_said_0 : decode cX1_said 0 = .ok (.aload_n 0, 1) := dk_42 (dk_at dksX1_said_0 0 rfl rfl)
theorem dX1_said_1 : decode cX1_said 1 = .ok (.getfield 109, 3) := dk_180 0 109 (dk_at dksX1_said_0 1 rfl rfl)
theorem dX1_said_4 : decode cX1_said 4 = .ok (.ifnonnull 5, 3) := dk_199 0 5 (dk_at dksX1_said_0 4 rfl rfl)
theorem dX1_said_7 : decode cX1_said 7 = .ok (.iconst (-1), 1) := dk_2 (dk_at dksX1_said_0 7 rfl rfl)
theorem dX1_said_8 : decode cX1_said 8 = .ok (.ireturn, 1) := dk_172 (dk_at dksX1_said_0 8 rfl rfl)
theorem dX1_said_9 : decode cX1_said 9 = .ok (.iconst 0, 1) := dk_3 (dk_at dksX1_said_0 9 rfl rfl)
theorem dX1_said_10 : decode cX1_said 10 = .ok (.istore_n 2, 1) := dk_61 (dk_at dksX1_said_0 10 rfl rfl)
theorem dX1_said_11 : decode cX1_said 11 = .ok (.iconst 0, 1) := dk_3 (dk_at dksX1_said_0 11 rfl rfl)
theorem dX1_said_12 : decode cX1_said 12 = .ok (.istore_n 3, 1) := dk_62 (dk_at dksX1_said_0 12 rfl rfl)
theorem dX1_said_13 : decode cX1_said 13 = .ok (.iload_n 3, 1) := dk_29 (dk_at dksX1_said_0 13 rfl rfl)
theorem dX1_said_14 : decode cX1_said 14 = .ok (.aload_n 0, 1) := dk_42 (dk_at dksX1_said_0 14 rfl rfl)
theorem dX1_said_15 : decode cX1_said 15 = .ok (.invokevirtual 194, 3) := dk_182 0 194 (dk_at dksX1_said_0 15 rfl rfl)
theorem dX1_said_18 : decode cX1_said 18 = .ok (.if_icmp .ge 37, 3) := dk_162 0 37 (dk_at dksX1_said_0 18 rfl rfl)
theorem dX1_said_21 : decode cX1_said 21 = .ok (.aload_n 0, 1) := dk_42 (dk_at dksX1_said_0 21 rfl rfl)
theorem dX1_said_22 : decode cX1_said 22 = .ok (.getfield 109, 3) := dk_180 0 109 (dk_at dksX1_said_1 0 rfl rfl)
theorem dX1_said_25 : decode cX1_said 25 = .ok (.aload_n 0, 1) := dk_42 (dk_at dksX1_said_1 3 rfl rfl)
theorem dX1_said_26 : decode cX1_said 26 = .ok (.getfield 36, 3) := dk_180 0 36 (dk_at dksX1_said_1 4 rfl rfl)
theorem dX1_said_29 : decode cX1_said 29 = .ok (.iload_n 3, 1) := dk_29 (dk_at dksX1_said_1 7 rfl rfl)
theorem dX1_said_30 : decode cX1_said 30 = .ok (.invokevirtual 445, 3) := dk_182 1 189 (dk_at dksX1_said_1 8 rfl rfl)
theorem dX1_said_33 : decode cX1_said 33 = .ok (.ifCond .ne 6, 3) := dk_154 0 6 (dk_at dksX1_said_1 11 rfl rfl)
theorem dX1_said_36 : decode cX1_said 36 = .ok (.goto 13, 3) := dk_167 0 13 (dk_at dksX1_said_1 14 rfl rfl)
theorem dX1_said_39 : decode cX1_said 39 = .ok (.iload_n 2, 1) := dk_28 (dk_at dksX1_said_1 17 rfl rfl)
theorem dX1_said_40 : decode cX1_said 40 = .ok (.iload_n 1, 1) := dk_27 (dk_at dksX1_said_1 18 rfl rfl)
theorem dX1_said_41 : decode cX1_said 41 = .ok (.if_icmp .ne 5, 3) := dk_160 0 5 (dk_at dksX1_said_1 19 rfl rfl)
theorem dX1_said_44 : decode cX1_said 44 = .ok (.iload_n 3, 1) := dk_29 (dk_at dksX1_said_1 22 rfl rfl)
theorem dX1_said_45 : decode cX1_said 45 = .ok (.ireturn, 1) := dk_172 (dk_at dksX1_said_1 23 rfl rfl)
theorem dX1_said_46 : decode cX1_said 46 = .ok (.iinc 2 1, 3) := dk_132 2 1 (dk_at dksX1_said_2 0 rfl rfl)
theorem dX1_said_49 : decode cX1_said 49 = .ok (.iinc 3 1, 3) := dk_132 3 1 (dk_at dksX1_said_2 3 rfl rfl)
theorem dX1_said_52 : decode cX1_said 52 = .ok (.goto (-39), 3) := dk_167 255 217 (dk_at dksX1_said_2 6 rfl rfl)
theorem dX1_said_55 : decode cX1_said 55 = .ok (.iload_n 1, 1) := dk_27 (dk_at dksX1_said_2 9 rfl rfl)
theorem dX1_said_56 : decode cX1_said 56 = .ok (.iconst (-1), 1) := dk_2 (dk_at dksX1_said_2 10 rfl rfl)
theorem dX1_said_57 : decode cX1_said 57 = .ok (.if_icmp .ne 7, 3) := dk_160 0 7 (dk_at dksX1_said_2 11 rfl rfl)
theorem dX1_said_60 : decode cX1_said 60 = .ok (.iload_n 2, 1) := dk_28 (dk_at dksX1_said_2 14 rfl rfl)
theorem dX1_said_61 : decode cX1_said 61 = .ok (.goto 4, 3) := dk_167 0 4 (dk_at dksX1_said_2 15 rfl rfl)
theorem dX1_said_64 : decode cX1_said 64 = .ok (.iconst (-1), 1) := dk_2 (dk_at dksX1_said_2 18 rfl rfl)
theorem dX1_said_65 : decode cX1_said 65 = .ok (.ireturn, 1) := dk_172 (dk_at dksX1_said_2 19 rfl rfl)
abbrev cX1_image : ByteArray := prog_1_method_62_code
def yX1_image : MethodName := ⟨RX1, "image", "(I)Z"⟩
def dkwX1_image_2 : List UInt8 := [180, 0, 36, 182, 0, 239, 87, 4, 172]
abbrev dktX1_image_2 : List UInt8 := dkwX1_image_2 ++ []
def dkwX1_image_1 : List UInt8 := [42, 180, 0, 82, 27, 50, 42, 180, 0, 109, 181, 1, 196, 42, 180, 0, 82, 27, 50, 180, 1, 197, 42]
abbrev dktX1_image_1 : List UInt8 := dkwX1_image_1 ++ dktX1_image_2
def dkwX1_image_0 : List UInt8 := [27, 3, 4, 184, 0, 147, 154, 0, 5, 3, 172, 42, 180, 0, 82, 27, 50, 42, 180, 0, 25, 181, 1, 195]
abbrev dktX1_image_0 : List UInt8 := dkwX1_image_0 ++ dktX1_image_1
theorem dksX1_image_0 : cX1_image.data.toList.drop 0 = dktX1_image_0 := by decide +kernel
theorem dksX1_image_1 : cX1_image.data.toList.drop 24 = dktX1_image_1 := dk_seg dksX1_image_0 24 rfl rfl
theorem dksX1_image_2 : cX1_image.data.toList.drop 47 = dktX1_image_2 := dk_seg dksX1_image_1 23 rfl rfl
theorem dX1_image_0 : decode cX1_image 0 = .ok (.iload_n 1, 1) := dk_27 (dk_at dksX1_image_0 0 rfl rfl)
theorem dX1_image_1 : decode cX1_image 1 = .ok (.iconst 0, 1) := dk_3 (dk_at dksX1_image_0 1 rfl rfl)
theorem dX1_image_2 : decode cX1_image 2 = .ok (.iconst 1, 1) := dk_4 (dk_at dksX1_image_0 2 rfl rfl)
theorem dX1_image_3 : decode cX1_image 3 = .ok (.invokestatic 147, 3) := dk_184 0 147 (dk_at dksX1_image_0 3 rfl rfl)
theorem dX1_image_6 : decode cX1_image 6 = .ok (.ifCond .ne 5, 3) := dk_154 0 5 (dk_at dksX1_image_0 6 rfl rfl)
theorem dX1_image_9 : decode cX1_image 9 = .ok (.iconst 0, 1) := dk_3 (dk_at dksX1_image_0 9 rfl rfl)
theorem dX1_image_10 : decode cX1_image 10 = .ok (.ireturn, 1) := dk_172 (dk_at dksX1_image_0 10 rfl rfl)
theorem dX1_image_11 : decode cX1_image 11 = .ok (.aload_n 0, 1) := dk_42 (dk_at dksX1_image_0 11 rfl rfl)
theorem dX1_image_12 : decode cX1_image 12 = .ok (.getfield 82, 3) := dk_180 0 82 (dk_at dksX1_image_0 12 rfl rfl)
theorem dX1_image_15 : decode cX1_image 15 = .ok (.iload_n 1, 1) := dk_27 (dk_at dksX1_image_0 15 rfl rfl)
theorem dX1_image_16 : decode cX1_image 16 = .ok (.aaload, 1) := dk_50 (dk_at dksX1_image_0 16 rfl rfl)
theorem dX1_image_17 : decode cX1_image 17 = .ok (.aload_n 0, 1) := dk_42 (dk_at dksX1_image_0 17 rfl rfl)
theorem dX1_image_18 : decode cX1_image 18 = .ok (.getfield 25, 3) := dk_180 0 25 (dk_at dksX1_image_0 18 rfl rfl)
theorem dX1_image_21 : decode cX1_image 21 = .ok (.putfield 451, 3) := dk_181 1 195 (dk_at dksX1_image_0 21 rfl rfl)
theorem dX1_image_24 : decode cX1_image 24 = .ok (.aload_n 0, 1) := dk_42 (dk_at dksX1_image_1 0 rfl rfl)
theorem dX1_image_25 : decode cX1_image 25 = .ok (.getfield 82, 3) := dk_180 0 82 (dk_at dksX1_image_1 1 rfl rfl)
theorem dX1_image_28 : decode cX1_image 28 = .ok (.iload_n 1, 1) := dk_27 (dk_at dksX1_image_1 4 rfl rfl)
theorem dX1_image_29 : decode cX1_image 29 = .ok (.aaload, 1) := dk_50 (dk_at dksX1_image_1 5 rfl rfl)
theorem dX1_image_30 : decode cX1_image 30 = .ok (.aload_n 0, 1) := dk_42 (dk_at dksX1_image_1 6 rfl rfl)
theorem dX1_image_31 : decode cX1_image 31 = .ok (.getfield 109, 3) := dk_180 0 109 (dk_at dksX1_image_1 7 rfl rfl)
theorem dX1_image_34 : decode cX1_image 34 = .ok (.putfield 452, 3) := dk_181 1 196 (dk_at dksX1_image_1 10 rfl rfl)
theorem dX1_image_37 : decode cX1_image 37 = .ok (.aload_n 0, 1) := dk_42 (dk_at dksX1_image_1 13 rfl rfl)
theorem dX1_image_38 : decode cX1_image 38 = .ok (.getfield 82, 3) := dk_180 0 82 (dk_at dksX1_image_1 14 rfl rfl)
theorem dX1_image_41 : decode cX1_image 41 = .ok (.iload_n 1, 1) := dk_27 (dk_at dksX1_image_1 17 rfl rfl)
theorem dX1_image_42 : decode cX1_image 42 = .ok (.aaload, 1) := dk_50 (dk_at dksX1_image_1 18 rfl rfl)
theorem dX1_image_43 : decode cX1_image 43 = .ok (.getfield 453, 3) := dk_180 1 197 (dk_at dksX1_image_1 19 rfl rfl)
theorem dX1_image_46 : decode cX1_image 46 = .ok (.aload_n 0, 1) := dk_42 (dk_at dksX1_image_1 22 rfl rfl)
theorem dX1_image_47 : decode cX1_image 47 = .ok (.getfield 36, 3) := dk_180 0 36 (dk_at dksX1_image_2 0 rfl rfl)
theorem dX1_image_50 : decode cX1_image 50 = .ok (.invokevirtual 239, 3) := dk_182 0 239 (dk_at dksX1_image_2 3 rfl rfl)
theorem dX1_image_53 : decode cX1_image 53 = .ok (.pop, 1) := dk_87 (dk_at dksX1_image_2 6 rfl rfl)
theorem dX1_image_54 : decode cX1_image 54 = .ok (.iconst 1, 1) := dk_4 (dk_at dksX1_image_2 7 rfl rfl)
theorem dX1_image_55 : decode cX1_image 55 = .ok (.ireturn, 1) := dk_172 (dk_at dksX1_image_2 8 rfl rfl)
abbrev cX1_restore : ByteArray := prog_1_method_63_code
def yX1_restore : MethodName := ⟨RX1, "restore", "(I)Z"⟩
def dkwX1_restore_3 : List UInt8 := [181, 0, 113, 4, 172]
abbrev dktX1_restore_3 : List UInt8 := dkwX1_restore_3 ++ []
def dkwX1_restore_2 : List UInt8 := [181, 0, 109, 42, 180, 0, 36, 42, 180, 0, 82, 27, 50, 180, 1, 197, 182, 0, 239, 87, 42, 3]
abbrev dktX1_restore_2 : List UInt8 := dkwX1_restore_2 ++ dktX1_restore_3
def dkwX1_restore_1 : List UInt8 := [42, 180, 0, 82, 27, 50, 180, 1, 195, 181, 0, 25, 42, 42, 180, 0, 82, 27, 50, 180, 1, 196]
abbrev dktX1_restore_1 : List UInt8 := dkwX1_restore_1 ++ dktX1_restore_2
def dkwX1_restore_0 : List UInt8 := [27, 3, 4, 184, 0, 147, 153, 0, 15, 42, 180, 0, 82, 27, 50, 180, 1, 195, 199, 0, 5, 3, 172, 42]
abbrev dktX1_restore_0 : List UInt8 := dkwX1_restore_0 ++ dktX1_restore_1
theorem dksX1_restore_0 : cX1_restore.data.toList.drop 0 = dktX1_restore_0 := by decide +kernel
theorem dksX1_restore_1 : cX1_restore.data.toList.drop 24 = dktX1_restore_1 := dk_seg dksX1_restore_0 24 rfl rfl
theorem dksX1_restore_2 : cX1_restore.data.toList.drop 46 = dktX1_restore_2 := dk_seg dksX1_restore_1 22 rfl rfl
theorem dksX1_restore_3 : cX1_restore.data.toList.drop 68 = dktX1_restore_3 := dk_seg dksX1_restore_2 22 rfl rfl
theorem dX1_restore_0 : decode cX1_restore 0 = .ok (.iload_n 1, 1) := dk_27 (dk_at dksX1_restore_0 0 rfl rfl)
theorem dX1_restore_1 : decode cX1_restore 1 = .ok (.iconst 0, 1) := dk_3 (dk_at dksX1_restore_0 1 rfl rfl)
theorem dX1_restore_2 : decode cX1_restore 2 = .ok (.iconst 1, 1) := dk_4 (dk_at dksX1_restore_0 2 rfl rfl)
theorem dX1_restore_3 : decode cX1_restore 3 = .ok (.invokestatic 147, 3) := dk_184 0 147 (dk_at dksX1_restore_0 3 rfl rfl)
theorem dX1_restore_6 : decode cX1_restore 6 = .ok (.ifCond .eq 15, 3) := dk_153 0 15 (dk_at dksX1_restore_0 6 rfl rfl)
theorem dX1_restore_9 : decode cX1_restore 9 = .ok (.aload_n 0, 1) := dk_42 (dk_at dksX1_restore_0 9 rfl rfl)
theorem dX1_restore_10 : decode cX1_restore 10 = .ok (.getfield 82, 3) := dk_180 0 82 (dk_at dksX1_restore_0 10 rfl rfl)
theorem dX1_restore_13 : decode cX1_restore 13 = .ok (.iload_n 1, 1) := dk_27 (dk_at dksX1_restore_0 13 rfl rfl)
theorem dX1_restore_14 : decode cX1_restore 14 = .ok (.aaload, 1) := dk_50 (dk_at dksX1_restore_0 14 rfl rfl)
theorem dX1_restore_15 : decode cX1_restore 15 = .ok (.getfield 451, 3) := dk_180 1 195 (dk_at dksX1_restore_0 15 rfl rfl)
theorem dX1_restore_18 : decode cX1_restore 18 = .ok (.ifnonnull 5, 3) := dk_199 0 5 (dk_at dksX1_restore_0 18 rfl rfl)
theorem dX1_restore_21 : decode cX1_restore 21 = .ok (.iconst 0, 1) := dk_3 (dk_at dksX1_restore_0 21 rfl rfl)
theorem dX1_restore_22 : decode cX1_restore 22 = .ok (.ireturn, 1) := dk_172 (dk_at dksX1_restore_0 22 rfl rfl)
theorem dX1_restore_23 : decode cX1_restore 23 = .ok (.aload_n 0, 1) := dk_42 (dk_at dksX1_restore_0 23 rfl rfl)
theorem dX1_restore_24 : decode cX1_restore 24 = .ok (.aload_n 0, 1) := dk_42 (dk_at dksX1_restore_1 0 rfl rfl)
theorem dX1_restore_25 : decode cX1_restore 25 = .ok (.getfield 82, 3) := dk_180 0 82 (dk_at dksX1_restore_1 1 rfl rfl)
theorem dX1_restore_28 : decode cX1_restore 28 = .ok (.iload_n 1, 1) := dk_27 (dk_at dksX1_restore_1 4 rfl rfl)
theorem dX1_restore_29 : decode cX1_restore 29 = .ok (.aaload, 1) := dk_50 (dk_at dksX1_restore_1 5 rfl rfl)
theorem dX1_restore_30 : decode cX1_restore 30 = .ok (.getfield 451, 3) := dk_180 1 195 (dk_at dksX1_restore_1 6 rfl rfl)
theorem dX1_restore_33 : decode cX1_restore 33 = .ok (.putfield 25, 3) := dk_181 0 25 (dk_at dksX1_restore_1 9 rfl rfl)
theorem dX1_restore_36 : decode cX1_restore 36 = .ok (.aload_n 0, 1) := dk_42 (dk_at dksX1_restore_1 12 rfl rfl)
theorem dX1_restore_37 : decode cX1_restore 37 = .ok (.aload_n 0, 1) := dk_42 (dk_at dksX1_restore_1 13 rfl rfl)
theorem dX1_restore_38 : decode cX1_restore 38 = .ok (.getfield 82, 3) := dk_180 0 82 (dk_at dksX1_restore_1 14 rfl rfl)
theorem dX1_restore_41 : decode cX1_restore 41 = .ok (.iload_n 1, 1) := dk_27 (dk_at dksX1_restore_1 17 rfl rfl)
theorem dX1_restore_42 : decode cX1_restore 42 = .ok (.aaload, 1) := dk_50 (dk_at dksX1_restore_1 18 rfl rfl)
theorem dX1_restore_43 : decode cX1_restore 43 = .ok (.getfield 452, 3) := dk_180 1 196 (dk_at dksX1_restore_1 19 rfl rfl)
theorem dX1_restore_46 : decode cX1_restore 46 = .ok (.putfield 109, 3) := dk_181 0 109 (dk_at dksX1_restore_2 0 rfl rfl)
theorem dX1_restore_49 : decode cX1_restore 49 = .ok (.aload_n 0, 1) := dk_42 (dk_at dksX1_restore_2 3 rfl rfl)
theorem dX1_restore_50 : decode cX1_restore 50 = .ok (.getfield 36, 3) := dk_180 0 36 (dk_at dksX1_restore_2 4 rfl rfl)
theorem dX1_restore_53 : decode cX1_restore 53 = .ok (.aload_n 0, 1) := dk_42 (dk_at dksX1_restore_2 7 rfl rfl)
theorem dX1_restore_54 : decode cX1_restore 54 = .ok (.getfield 82, 3) := dk_180 0 82 (dk_at dksX1_restore_2 8 rfl rfl)
theorem dX1_restore_57 : decode cX1_restore 57 = .ok (.iload_n 1, 1) := dk_27 (dk_at dksX1_restore_2 11 rfl rfl)
theorem dX1_restore_58 : decode cX1_restore 58 = .ok (.aaload, 1) := dk_50 (dk_at dksX1_restore_2 12 rfl rfl)
theorem dX1_restore_59 : decode cX1_restore 59 = .ok (.getfield 453, 3) := dk_180 1 197 (dk_at dksX1_restore_2 13 rfl rfl)
theorem dX1_restore_62 : decode cX1_restore 62 = .ok (.invokevirtual 239, 3) := dk_182 0 239 (dk_at dksX1_restore_2 16 rfl rfl)
theorem dX1_restore_65 : decode cX1_restore 65 = .ok (.pop, 1) := dk_87 (dk_at dksX1_restore_2 19 rfl rfl)
theorem dX1_restore_66 : decode cX1_restore 66 = .ok (.aload_n 0, 1) := dk_42 (dk_at dksX1_restore_2 20 rfl rfl)
theorem dX1_restore_67 : decode cX1_restore 67 = .ok (.iconst 0, 1) := dk_3 (dk_at dksX1_restore_2 21 rfl rfl)
theorem dX1_restore_68 : decode cX1_restore 68 = .ok (.putfield 113, 3) := dk_181 0 113 (dk_at dksX1_restore_3 0 rfl rfl)
theorem dX1_restore_71 : decode cX1_restore 71 = .ok (.iconst 1, 1) := dk_4 (dk_at dksX1_restore_3 3 rfl rfl)
theorem dX1_restore_72 : decode cX1_restore 72 = .ok (.ireturn, 1) := dk_172 (dk_at dksX1_restore_3 4 rfl rfl)
abbrev cX1_count : ByteArray := prog_1_method_64_code
def yX1_count : MethodName := ⟨RX1, "count", "(I)I"⟩
def dkwX1_count_3 : List UInt8 := [180, 0, 86, 172, 2, 172]
abbrev dktX1_count_3 : List UInt8 := dkwX1_count_3 ++ []
def dkwX1_count_2 : List UInt8 := [42, 182, 1, 69, 172, 42, 180, 0, 25, 180, 0, 199, 182, 0, 138, 172, 42, 182, 0, 194, 172, 42]
abbrev dktX1_count_2 : List UInt8 := dkwX1_count_2 ++ dktX1_count_3
def dkwX1_count_1 : List UInt8 := [170, 0, 0, 0, 0, 0, 57, 0, 0, 0, 0, 0, 0, 0, 3, 0, 0, 0, 31, 0, 0, 0, 36, 0, 0, 0, 47, 0, 0, 0, 52]
abbrev dktX1_count_1 : List UInt8 := dkwX1_count_1 ++ dktX1_count_2
def dkwX1_count_0 : List UInt8 := [27]
abbrev dktX1_count_0 : List UInt8 := dkwX1_count_0 ++ dktX1_count_1
theorem dksX1_count_0 : cX1_count.data.toList.drop 0 = dktX1_count_0 := by decide +kernel
theorem dksX1_count_1 : cX1_count.data.toList.drop 1 = dktX1_count_1 := dk_seg dksX1_count_0 1 rfl rfl
theorem dksX1_count_2 : cX1_count.data.toList.drop 32 = dktX1_count_2 := dk_seg dksX1_count_1 31 rfl rfl
theorem dksX1_count_3 : cX1_count.data.toList.drop 54 = dktX1_count_3 := dk_seg dksX1_count_2 22 rfl rfl
theorem dX1_count_0 : decode cX1_count 0 = .ok (.iload_n 1, 1) := dk_27 (dk_at dksX1_count_0 0 rfl rfl)
theorem dX1_count_1 : decode cX1_count 1 = .ok (.tableswitch 57 0 3 #[31, 36, 47, 52], 31) := by decide +kernel
theorem dX1_count_32 : decode cX1_count 32 = .ok (.aload_n 0, 1) := dk_42 (dk_at dksX1_count_2 0 rfl rfl)
theorem dX1_count_33 : decode cX1_count 33 = .ok (.invokevirtual 325, 3) := dk_182 1 69 (dk_at dksX1_count_2 1 rfl rfl)
theorem dX1_count_36 : decode cX1_count 36 = .ok (.ireturn, 1) := dk_172 (dk_at dksX1_count_2 4 rfl rfl)
theorem dX1_count_37 : decode cX1_count 37 = .ok (.aload_n 0, 1) := dk_42 (dk_at dksX1_count_2 5 rfl rfl)
theorem dX1_count_38 : decode cX1_count 38 = .ok (.getfield 25, 3) := dk_180 0 25 (dk_at dksX1_count_2 6 rfl rfl)
theorem dX1_count_41 : decode cX1_count 41 = .ok (.getfield 199, 3) := dk_180 0 199 (dk_at dksX1_count_2 9 rfl rfl)
theorem dX1_count_44 : decode cX1_count 44 = .ok (.invokevirtual 138, 3) := dk_182 0 138 (dk_at dksX1_count_2 12 rfl rfl)
theorem dX1_count_47 : decode cX1_count 47 = .ok (.ireturn, 1) := dk_172 (dk_at dksX1_count_2 15 rfl rfl)
theorem dX1_count_48 : decode cX1_count 48 = .ok (.aload_n 0, 1) := dk_42 (dk_at dksX1_count_2 16 rfl rfl)
theorem dX1_count_49 : decode cX1_count 49 = .ok (.invokevirtual 194, 3) := dk_182 0 194 (dk_at dksX1_count_2 17 rfl rfl)
theorem dX1_count_52 : decode cX1_count 52 = .ok (.ireturn, 1) := dk_172 (dk_at dksX1_count_2 20 rfl rfl)
theorem dX1_count_53 : decode cX1_count 53 = .ok (.aload_n 0, 1) := dk_42 (dk_at dksX1_count_2 21 rfl rfl)
theorem dX1_count_54 : decode cX1_count 54 = .ok (.getfield 86, 3) := dk_180 0 86 (dk_at dksX1_count_3 0 rfl rfl)
theorem dX1_count_57 : decode cX1_count 57 = .ok (.ireturn, 1) := dk_172 (dk_at dksX1_count_3 3 rfl rfl)
theorem dX1_count_58 : decode cX1_count 58 = .ok (.iconst (-1), 1) := dk_2 (dk_at dksX1_count_3 4 rfl rfl)
theorem dX1_count_59 : decode cX1_count 59 = .ok (.ireturn, 1) := dk_172 (dk_at dksX1_count_3 5 rfl rfl)
abbrev cX1_person : ByteArray := prog_1_method_17_code
def yX1_person : MethodName := ⟨RX1, "person", "(II)I"⟩
def dkwX1_person_5 : List UInt8 := [46, 172, 42, 180, 0, 36, 180, 0, 170, 27, 46, 172, 42, 180, 0, 36, 27, 182, 0, 173, 172]
abbrev dktX1_person_5 : List UInt8 := dkwX1_person_5 ++ []
def dkwX1_person_4 : List UInt8 := [180, 0, 161, 27, 46, 172, 42, 180, 0, 36, 180, 0, 164, 27, 46, 172, 42, 180, 0, 36, 180, 0, 167, 27]
abbrev dktX1_person_4 : List UInt8 := dkwX1_person_4 ++ dktX1_person_5
def dkwX1_person_3 : List UInt8 := [42, 180, 0, 25, 27, 182, 0, 155, 172, 42, 180, 0, 36, 180, 0, 158, 27, 46, 172, 42, 180, 0, 36]
abbrev dktX1_person_3 : List UInt8 := dkwX1_person_3 ++ dktX1_person_4
def dkwX1_person_2 : List UInt8 := [170, 0, 0, 0, 96, 0, 0, 0, 0, 0, 0, 0, 5, 0, 0, 0, 37, 0, 0, 0, 46, 0, 0, 0, 56, 0, 0, 0, 66, 0, 0, 0, 76, 0, 0, 0, 86]
abbrev dktX1_person_2 : List UInt8 := dkwX1_person_2 ++ dktX1_person_3
def dkwX1_person_1 : List UInt8 := [184, 0, 151, 28]
abbrev dktX1_person_1 : List UInt8 := dkwX1_person_1 ++ dktX1_person_2
def dkwX1_person_0 : List UInt8 := [42, 27, 182, 0, 146, 153, 0, 17, 28, 3, 16, 6, 184, 0, 147, 153, 0, 7, 4, 167, 0, 4, 3]
abbrev dktX1_person_0 : List UInt8 := dkwX1_person_0 ++ dktX1_person_1
theorem dksX1_person_0 : cX1_person.data.toList.drop 0 = dktX1_person_0 := by decide +kernel
theorem dksX1_person_1 : cX1_person.data.toList.drop 23 = dktX1_person_1 := dk_seg dksX1_person_0 23 rfl rfl
theorem dksX1_person_2 : cX1_person.data.toList.drop 27 = dktX1_person_2 := dk_seg dksX1_person_1 4 rfl rfl
theorem dksX1_person_3 : cX1_person.data.toList.drop 64 = dktX1_person_3 := dk_seg dksX1_person_2 37 rfl rfl
theorem dksX1_person_4 : cX1_person.data.toList.drop 87 = dktX1_person_4 := dk_seg dksX1_person_3 23 rfl rfl
theorem dksX1_person_5 : cX1_person.data.toList.drop 111 = dktX1_person_5 := dk_seg dksX1_person_4 24 rfl rfl
theorem dX1_person_0 : decode cX1_person 0 = .ok (.aload_n 0, 1) := dk_42 (dk_at dksX1_person_0 0 rfl rfl)
theorem dX1_person_1 : decode cX1_person 1 = .ok (.iload_n 1, 1) := dk_27 (dk_at dksX1_person_0 1 rfl rfl)
theorem dX1_person_2 : decode cX1_person 2 = .ok (.invokevirtual 146, 3) := dk_182 0 146 (dk_at dksX1_person_0 2 rfl rfl)
theorem dX1_person_5 : decode cX1_person 5 = .ok (.ifCond .eq 17, 3) := dk_153 0 17 (dk_at dksX1_person_0 5 rfl rfl)
theorem dX1_person_8 : decode cX1_person 8 = .ok (.iload_n 2, 1) := dk_28 (dk_at dksX1_person_0 8 rfl rfl)
theorem dX1_person_9 : decode cX1_person 9 = .ok (.iconst 0, 1) := dk_3 (dk_at dksX1_person_0 9 rfl rfl)
theorem dX1_person_10 : decode cX1_person 10 = .ok (.bipush 6, 2) := dk_16 6 (dk_at dksX1_person_0 10 rfl rfl)
theorem dX1_person_12 : decode cX1_person 12 = .ok (.invokestatic 147, 3) := dk_184 0 147 (dk_at dksX1_person_0 12 rfl rfl)
theorem dX1_person_15 : decode cX1_person 15 = .ok (.ifCond .eq 7, 3) := dk_153 0 7 (dk_at dksX1_person_0 15 rfl rfl)
theorem dX1_person_18 : decode cX1_person 18 = .ok (.iconst 1, 1) := dk_4 (dk_at dksX1_person_0 18 rfl rfl)
theorem dX1_person_19 : decode cX1_person 19 = .ok (.goto 4, 3) := dk_167 0 4 (dk_at dksX1_person_0 19 rfl rfl)
theorem dX1_person_22 : decode cX1_person 22 = .ok (.iconst 0, 1) := dk_3 (dk_at dksX1_person_0 22 rfl rfl)
theorem dX1_person_23 : decode cX1_person 23 = .ok (.invokestatic 151, 3) := dk_184 0 151 (dk_at dksX1_person_1 0 rfl rfl)
theorem dX1_person_26 : decode cX1_person 26 = .ok (.iload_n 2, 1) := dk_28 (dk_at dksX1_person_1 3 rfl rfl)
theorem dX1_person_27 : decode cX1_person 27 = .ok (.tableswitch 96 0 5 #[37, 46, 56, 66, 76, 86], 37) := by decide +kernel
theorem dX1_person_64 : decode cX1_person 64 = .ok (.aload_n 0, 1) := dk_42 (dk_at dksX1_person_3 0 rfl rfl)
theorem dX1_person_65 : decode cX1_person 65 = .ok (.getfield 25, 3) := dk_180 0 25 (dk_at dksX1_person_3 1 rfl rfl)
theorem dX1_person_68 : decode cX1_person 68 = .ok (.iload_n 1, 1) := dk_27 (dk_at dksX1_person_3 4 rfl rfl)
theorem dX1_person_69 : decode cX1_person 69 = .ok (.invokevirtual 155, 3) := dk_182 0 155 (dk_at dksX1_person_3 5 rfl rfl)
theorem dX1_person_72 : decode cX1_person 72 = .ok (.ireturn, 1) := dk_172 (dk_at dksX1_person_3 8 rfl rfl)
theorem dX1_person_73 : decode cX1_person 73 = .ok (.aload_n 0, 1) := dk_42 (dk_at dksX1_person_3 9 rfl rfl)
theorem dX1_person_74 : decode cX1_person 74 = .ok (.getfield 36, 3) := dk_180 0 36 (dk_at dksX1_person_3 10 rfl rfl)
theorem dX1_person_77 : decode cX1_person 77 = .ok (.getfield 158, 3) := dk_180 0 158 (dk_at dksX1_person_3 13 rfl rfl)
theorem dX1_person_80 : decode cX1_person 80 = .ok (.iload_n 1, 1) := dk_27 (dk_at dksX1_person_3 16 rfl rfl)
theorem dX1_person_81 : decode cX1_person 81 = .ok (.iaload, 1) := dk_46 (dk_at dksX1_person_3 17 rfl rfl)
theorem dX1_person_82 : decode cX1_person 82 = .ok (.ireturn, 1) := dk_172 (dk_at dksX1_person_3 18 rfl rfl)
theorem dX1_person_83 : decode cX1_person 83 = .ok (.aload_n 0, 1) := dk_42 (dk_at dksX1_person_3 19 rfl rfl)
theorem dX1_person_84 : decode cX1_person 84 = .ok (.getfield 36, 3) := dk_180 0 36 (dk_at dksX1_person_3 20 rfl rfl)
theorem dX1_person_87 : decode cX1_person 87 = .ok (.getfield 161, 3) := dk_180 0 161 (dk_at dksX1_person_4 0 rfl rfl)
theorem dX1_person_90 : decode cX1_person 90 = .ok (.iload_n 1, 1) := dk_27 (dk_at dksX1_person_4 3 rfl rfl)
theorem dX1_person_91 : decode cX1_person 91 = .ok (.iaload, 1) := dk_46 (dk_at dksX1_person_4 4 rfl rfl)
theorem dX1_person_92 : decode cX1_person 92 = .ok (.ireturn, 1) := dk_172 (dk_at dksX1_person_4 5 rfl rfl)
theorem dX1_person_93 : decode cX1_person 93 = .ok (.aload_n 0, 1) := dk_42 (dk_at dksX1_person_4 6 rfl rfl)
theorem dX1_person_94 : decode cX1_person 94 = .ok (.getfield 36, 3) := dk_180 0 36 (dk_at dksX1_person_4 7 rfl rfl)
theorem dX1_person_97 : decode cX1_person 97 = .ok (.getfield 164, 3) := dk_180 0 164 (dk_at dksX1_person_4 10 rfl rfl)
theorem dX1_person_100 : decode cX1_person 100 = .ok (.iload_n 1, 1) := dk_27 (dk_at dksX1_person_4 13 rfl rfl)
theorem dX1_person_101 : decode cX1_person 101 = .ok (.iaload, 1) := dk_46 (dk_at dksX1_person_4 14 rfl rfl)
theorem dX1_person_102 : decode cX1_person 102 = .ok (.ireturn, 1) := dk_172 (dk_at dksX1_person_4 15 rfl rfl)
theorem dX1_person_103 : decode cX1_person 103 = .ok (.aload_n 0, 1) := dk_42 (dk_at dksX1_person_4 16 rfl rfl)
theorem dX1_person_104 : decode cX1_person 104 = .ok (.getfield 36, 3) := dk_180 0 36 (dk_at dksX1_person_4 17 rfl rfl)
theorem dX1_person_107 : decode cX1_person 107 = .ok (.getfield 167, 3) := dk_180 0 167 (dk_at dksX1_person_4 20 rfl rfl)
theorem dX1_person_110 : decode cX1_person 110 = .ok (.iload_n 1, 1) := dk_27 (dk_at dksX1_person_4 23 rfl rfl)
theorem dX1_person_111 : decode cX1_person 111 = .ok (.iaload, 1) := dk_46 (dk_at dksX1_person_5 0 rfl rfl)
theorem dX1_person_112 : decode cX1_person 112 = .ok (.ireturn, 1) := dk_172 (dk_at dksX1_person_5 1 rfl rfl)
theorem dX1_person_113 : decode cX1_person 113 = .ok (.aload_n 0, 1) := dk_42 (dk_at dksX1_person_5 2 rfl rfl)
theorem dX1_person_114 : decode cX1_person 114 = .ok (.getfield 36, 3) := dk_180 0 36 (dk_at dksX1_person_5 3 rfl rfl)
theorem dX1_person_117 : decode cX1_person 117 = .ok (.getfield 170, 3) := dk_180 0 170 (dk_at dksX1_person_5 6 rfl rfl)
theorem dX1_person_120 : decode cX1_person 120 = .ok (.iload_n 1, 1) := dk_27 (dk_at dksX1_person_5 9 rfl rfl)
theorem dX1_person_121 : decode cX1_person 121 = .ok (.iaload, 1) := dk_46 (dk_at dksX1_person_5 10 rfl rfl)
theorem dX1_person_122 : decode cX1_person 122 = .ok (.ireturn, 1) := dk_172 (dk_at dksX1_person_5 11 rfl rfl)
theorem dX1_person_123 : decode cX1_person 123 = .ok (.aload_n 0, 1) := dk_42 (dk_at dksX1_person_5 12 rfl rfl)
theorem dX1_person_124 : decode cX1_person 124 = .ok (.getfield 36, 3) := dk_180 0 36 (dk_at dksX1_person_5 13 rfl rfl)
theorem dX1_person_127 : decode cX1_person 127 = .ok (.iload_n 1, 1) := dk_27 (dk_at dksX1_person_5 16 rfl rfl)
theorem dX1_person_128 : decode cX1_person 128 = .ok (.invokevirtual 173, 3) := dk_182 0 173 (dk_at dksX1_person_5 17 rfl rfl)
theorem dX1_person_131 : decode cX1_person 131 = .ok (.ireturn, 1) := dk_172 (dk_at dksX1_person_5 20 rfl rfl)
abbrev cX1_need : ByteArray := prog_1_method_4_code
def yX1_need : MethodName := ⟨RX1, "need", "(Z)V"⟩
def dkwX1_need_0 : List UInt8 := [26, 154, 0, 11, 187, 0, 7, 89, 183, 0, 9, 191, 177]
abbrev dktX1_need_0 : List UInt8 := dkwX1_need_0 ++ []
theorem dksX1_need_0 : cX1_need.data.toList.drop 0 = dktX1_need_0 := by decide +kernel
theorem dX1_need_0 : decode cX1_need 0 = .ok (.iload_n 0, 1) := dk_26 (dk_at dksX1_need_0 0 rfl rfl)
theorem dX1_need_1 : decode cX1_need 1 = .ok (.ifCond .ne 11, 3) := dk_154 0 11 (dk_at dksX1_need_0 1 rfl rfl)
theorem dX1_need_4 : decode cX1_need 4 = .ok (.new 7, 3) := dk_187 0 7 (dk_at dksX1_need_0 4 rfl rfl)
theorem dX1_need_7 : decode cX1_need 7 = .ok (.dup, 1) := dk_89 (dk_at dksX1_need_0 7 rfl rfl)
theorem dX1_need_8 : decode cX1_need 8 = .ok (.invokespecial 9, 3) := dk_183 0 9 (dk_at dksX1_need_0 8 rfl rfl)
theorem dX1_need_11 : decode cX1_need 11 = .ok (.athrow, 1) := dk_191 (dk_at dksX1_need_0 11 rfl rfl)
theorem dX1_need_12 : decode cX1_need 12 = .ok (.return_, 1) := dk_177 (dk_at dksX1_need_0 12 rfl rfl)
theorem q112 : (Jvm.Cond.initialized "InchBorders") ∈ lw_all := lw_g (lw_at lw_m1 1 rfl) rfl
theorem q164 : (Jvm.Cond.instantiable "InchBorders" (24 : Nat)) ∈ lw_all := lw_g (lw_at lw_m1 53 rfl) rfl
theorem q166 : (Jvm.Cond.instanceMethod ({ cls := "InchBorders", name := "<init>", desc := "()V" } : Jvm.MethodName)) ∈ lw_all := lw_g (lw_at lw_m1 55 rfl) rfl
theorem q167 : (Jvm.Cond.code ({ cls := "InchBorders", name := "<init>", desc := "()V" } : Jvm.MethodName) prog_1_method_5_code (2 : Nat) (Option.none : Option Jvm.ClassFile.FieldType)) ∈ lw_all := lw_g (lw_at lw_m1 56 rfl) rfl
theorem q168 : (Jvm.Cond.methodLink "InchBorders" (13 : Nat) ({ cls := "java/lang/Object", name := "<init>", desc := "()V" } : Jvm.MethodName)) ∈ lw_all := lw_g (lw_at lw_m1 57 rfl) rfl
theorem q171 : (Jvm.Cond.classLink "InchBorders" (22 : Nat) "InchBorders$Atlas") ∈ lw_all := lw_g (lw_at lw_m1 60 rfl) rfl
theorem q173 : (Jvm.Cond.methodLinkNest "InchBorders" (24 : Nat) ({ cls := "InchBorders$Atlas", name := "<init>", desc := "()V" } : Jvm.MethodName) "InchBorders") ∈ lw_tbl := lw_at lw_m1 62 rfl
theorem q205 : (Jvm.Cond.fieldLinkNest "InchBorders" (116 : Nat) "InchBorders$Atlas" "lines" "I" "InchBorders") ∈ lw_tbl := lw_at lw_m1 94 rfl
theorem q211 : (Jvm.Cond.fieldLinkNest "InchBorders" (134 : Nat) "InchBorders$Atlas" "lands" "Ljava/util/ArrayList;" "InchBorders") ∈ lw_tbl := lw_at lw_m1 100 rfl
theorem q215 : (Jvm.Cond.fieldLinkNest "InchBorders" (199 : Nat) "InchBorders$Atlas" "roads" "Ljava/util/ArrayList;" "InchBorders") ∈ lw_tbl := lw_at lw_m1 104 rfl
theorem q220 : (Jvm.Cond.fieldLinkNest "InchBorders" (143 : Nat) "InchBorders$Atlas" "persons" "Ljava/util/ArrayList;" "InchBorders") ∈ lw_tbl := lw_at lw_m1 109 rfl
theorem q230 : (Jvm.Cond.classLink "InchBorders" (29 : Nat) "InchBorders$Times") ∈ lw_all := lw_g (lw_at lw_m1 119 rfl) rfl
theorem q232 : (Jvm.Cond.methodLinkNest "InchBorders" (31 : Nat) ({ cls := "InchBorders$Times", name := "<init>", desc := "()V" } : Jvm.MethodName) "InchBorders") ∈ lw_tbl := lw_at lw_m1 121 rfl
theorem q243 : (Jvm.Cond.fieldLinkNest "InchBorders" (219 : Nat) "InchBorders$Times" "day" "I" "InchBorders") ∈ lw_tbl := lw_at lw_m1 132 rfl
theorem q245 : (Jvm.Cond.fieldLinkNest "InchBorders" (229 : Nat) "InchBorders$Times" "crossings" "I" "InchBorders") ∈ lw_tbl := lw_at lw_m1 134 rfl
theorem q248 : (Jvm.Cond.fieldLinkNest "InchBorders" (216 : Nat) "InchBorders$Times" "closed" "I" "InchBorders") ∈ lw_tbl := lw_at lw_m1 137 rfl
theorem q252 : (Jvm.Cond.fieldLinkNest "InchBorders" (188 : Nat) "InchBorders$Times" "store" "[I" "InchBorders") ∈ lw_tbl := lw_at lw_m1 141 rfl
theorem q257 : (Jvm.Cond.fieldLinkNest "InchBorders" (191 : Nat) "InchBorders$Times" "spares" "[I" "InchBorders") ∈ lw_tbl := lw_at lw_m1 146 rfl
theorem q263 : (Jvm.Cond.fieldLinkNest "InchBorders" (158 : Nat) "InchBorders$Times" "at" "[I" "InchBorders") ∈ lw_tbl := lw_at lw_m1 152 rfl
theorem q267 : (Jvm.Cond.fieldLinkNest "InchBorders" (161 : Nat) "InchBorders$Times" "tall" "[I" "InchBorders") ∈ lw_tbl := lw_at lw_m1 156 rfl
theorem q270 : (Jvm.Cond.fieldLinkNest "InchBorders" (164 : Nat) "InchBorders$Times" "taken" "[I" "InchBorders") ∈ lw_tbl := lw_at lw_m1 159 rfl
theorem q272 : (Jvm.Cond.fieldLinkNest "InchBorders" (167 : Nat) "InchBorders$Times" "given" "[I" "InchBorders") ∈ lw_tbl := lw_at lw_m1 161 rfl
theorem q275 : (Jvm.Cond.fieldLinkNest "InchBorders" (170 : Nat) "InchBorders$Times" "crossed" "[I" "InchBorders") ∈ lw_tbl := lw_at lw_m1 164 rfl
theorem q303 : (Jvm.Cond.methodLink "InchBorders" (32 : Nat) ({ cls := "InchBorders$Times", name := "begin", desc := "(LInchBorders$Atlas;)LInchBorders$Times;" } : Jvm.MethodName)) ∈ lw_all := lw_g (lw_at lw_m1 192 rfl) rfl
theorem q348 : (Jvm.Cond.stringRef "InchBorders" (70 : Nat) "") ∈ lw_tbl := lw_at lw_m1 237 rfl
theorem q349 : (Jvm.Cond.classLink "InchBorders" (79 : Nat) "InchBorders$Kept") ∈ lw_all := lw_g (lw_at lw_m1 238 rfl) rfl
theorem q352 : (Jvm.Cond.methodLinkNest "InchBorders" (81 : Nat) ({ cls := "InchBorders$Kept", name := "<init>", desc := "()V" } : Jvm.MethodName) "InchBorders") ∈ lw_tbl := lw_at lw_m2 1 rfl
theorem q358 : (Jvm.Cond.fieldLinkNest "InchBorders" (451 : Nat) "InchBorders$Kept" "atlas" "LInchBorders$Atlas;" "InchBorders") ∈ lw_tbl := lw_at lw_m2 7 rfl
theorem q359 : (Jvm.Cond.fieldLinkNest "InchBorders" (452 : Nat) "InchBorders$Kept" "sentence" "LInchBorders$Cond;" "InchBorders") ∈ lw_tbl := lw_at lw_m2 8 rfl
theorem q361 : (Jvm.Cond.fieldLinkNest "InchBorders" (453 : Nat) "InchBorders$Kept" "times" "LInchBorders$Times;" "InchBorders") ∈ lw_tbl := lw_at lw_m2 10 rfl
theorem q369 : (Jvm.Cond.fieldLink "InchBorders" (18 : Nat) "InchBorders" "tape" "[B") ∈ lw_all := lw_g (lw_at lw_m2 18 rfl) rfl
theorem q370 : (Jvm.Cond.fieldLink "InchBorders" (86 : Nat) "InchBorders" "taped" "I") ∈ lw_all := lw_g (lw_at lw_m2 19 rfl) rfl
theorem q371 : (Jvm.Cond.fieldLink "InchBorders" (97 : Nat) "InchBorders" "fault" "I") ∈ lw_all := lw_g (lw_at lw_m2 20 rfl) rfl
theorem q372 : (Jvm.Cond.fieldLink "InchBorders" (25 : Nat) "InchBorders" "atlas" "LInchBorders$Atlas;") ∈ lw_all := lw_g (lw_at lw_m2 21 rfl) rfl
theorem q373 : (Jvm.Cond.fieldLink "InchBorders" (36 : Nat) "InchBorders" "now" "LInchBorders$Times;") ∈ lw_all := lw_g (lw_at lw_m2 22 rfl) rfl
theorem q374 : (Jvm.Cond.fieldLink "InchBorders" (40 : Nat) "InchBorders" "trial" "LInchBorders$Times;") ∈ lw_all := lw_g (lw_at lw_m2 23 rfl) rfl
theorem q375 : (Jvm.Cond.fieldLink "InchBorders" (109 : Nat) "InchBorders" "sentence" "LInchBorders$Cond;") ∈ lw_all := lw_g (lw_at lw_m2 24 rfl) rfl
theorem q376 : (Jvm.Cond.fieldLink "InchBorders" (43 : Nat) "InchBorders" "before" "[LInchBorders$Times;") ∈ lw_all := lw_g (lw_at lw_m2 25 rfl) rfl
theorem q377 : (Jvm.Cond.fieldLink "InchBorders" (113 : Nat) "InchBorders" "befores" "I") ∈ lw_all := lw_g (lw_at lw_m2 26 rfl) rfl
theorem q378 : (Jvm.Cond.fieldLink "InchBorders" (47 : Nat) "InchBorders" "way" "[I") ∈ lw_all := lw_g (lw_at lw_m2 27 rfl) rfl
theorem q379 : (Jvm.Cond.fieldLink "InchBorders" (51 : Nat) "InchBorders" "made" "[I") ∈ lw_all := lw_g (lw_at lw_m2 28 rfl) rfl
theorem q380 : (Jvm.Cond.fieldLink "InchBorders" (310 : Nat) "InchBorders" "ways" "I") ∈ lw_all := lw_g (lw_at lw_m2 29 rfl) rfl
theorem q381 : (Jvm.Cond.fieldLink "InchBorders" (348 : Nat) "InchBorders" "mades" "I") ∈ lw_all := lw_g (lw_at lw_m2 30 rfl) rfl
theorem q382 : (Jvm.Cond.fieldLink "InchBorders" (54 : Nat) "InchBorders" "spared" "I") ∈ lw_all := lw_g (lw_at lw_m2 31 rfl) rfl
theorem q383 : (Jvm.Cond.fieldLink "InchBorders" (58 : Nat) "InchBorders" "likely" "I") ∈ lw_all := lw_g (lw_at lw_m2 32 rfl) rfl
theorem q384 : (Jvm.Cond.fieldLink "InchBorders" (61 : Nat) "InchBorders" "going" "[I") ∈ lw_all := lw_g (lw_at lw_m2 33 rfl) rfl
theorem q385 : (Jvm.Cond.fieldLink "InchBorders" (64 : Nat) "InchBorders" "caravan" "[I") ∈ lw_all := lw_g (lw_at lw_m2 34 rfl) rfl
theorem q386 : (Jvm.Cond.fieldLink "InchBorders" (353 : Nat) "InchBorders" "goers" "I") ∈ lw_all := lw_g (lw_at lw_m2 35 rfl) rfl
theorem q387 : (Jvm.Cond.fieldLink "InchBorders" (375 : Nat) "InchBorders" "caravans" "I") ∈ lw_all := lw_g (lw_at lw_m2 36 rfl) rfl
theorem q388 : (Jvm.Cond.fieldLink "InchBorders" (372 : Nat) "InchBorders" "longest" "I") ∈ lw_all := lw_g (lw_at lw_m2 37 rfl) rfl
theorem q389 : (Jvm.Cond.fieldLink "InchBorders" (67 : Nat) "InchBorders" "parting" "I") ∈ lw_all := lw_g (lw_at lw_m2 38 rfl) rfl
theorem q390 : (Jvm.Cond.fieldLink "InchBorders" (72 : Nat) "InchBorders" "pass" "Ljava/lang/String;") ∈ lw_all := lw_g (lw_at lw_m2 39 rfl) rfl
theorem q391 : (Jvm.Cond.fieldLink "InchBorders" (76 : Nat) "InchBorders" "told" "[I") ∈ lw_all := lw_g (lw_at lw_m2 40 rfl) rfl
theorem q392 : (Jvm.Cond.fieldLink "InchBorders" (82 : Nat) "InchBorders" "kept" "[LInchBorders$Kept;") ∈ lw_all := lw_g (lw_at lw_m2 41 rfl) rfl
theorem q393 : (Jvm.Cond.laysFinal "InchBorders" "InchBorders" "tape" "[B") ∈ lw_all := lw_g (lw_at lw_m2 42 rfl) rfl
theorem q394 : (Jvm.Cond.soleField "InchBorders" "tape") ∈ lw_all := lw_g (lw_at lw_m2 43 rfl) rfl
theorem q395 : (Jvm.Cond.lays "InchBorders" "InchBorders" "taped" "I") ∈ lw_all := lw_g (lw_at lw_m2 44 rfl) rfl
theorem q396 : (Jvm.Cond.soleField "InchBorders" "taped") ∈ lw_all := lw_g (lw_at lw_m2 45 rfl) rfl
theorem q397 : (Jvm.Cond.lays "InchBorders" "InchBorders" "fault" "I") ∈ lw_all := lw_g (lw_at lw_m2 46 rfl) rfl
theorem q398 : (Jvm.Cond.soleField "InchBorders" "fault") ∈ lw_all := lw_g (lw_at lw_m2 47 rfl) rfl
theorem q399 : (Jvm.Cond.lays "InchBorders" "InchBorders" "atlas" "LInchBorders$Atlas;") ∈ lw_all := lw_g (lw_at lw_m2 48 rfl) rfl
theorem q400 : (Jvm.Cond.soleField "InchBorders" "atlas") ∈ lw_all := lw_g (lw_at lw_m2 49 rfl) rfl
theorem q401 : (Jvm.Cond.laysFinal "InchBorders" "InchBorders" "now" "LInchBorders$Times;") ∈ lw_all := lw_g (lw_at lw_m2 50 rfl) rfl
theorem q402 : (Jvm.Cond.soleField "InchBorders" "now") ∈ lw_all := lw_g (lw_at lw_m2 51 rfl) rfl
theorem q403 : (Jvm.Cond.laysFinal "InchBorders" "InchBorders" "trial" "LInchBorders$Times;") ∈ lw_all := lw_g (lw_at lw_m2 52 rfl) rfl
theorem q404 : (Jvm.Cond.soleField "InchBorders" "trial") ∈ lw_all := lw_g (lw_at lw_m2 53 rfl) rfl
theorem q405 : (Jvm.Cond.lays "InchBorders" "InchBorders" "sentence" "LInchBorders$Cond;") ∈ lw_all := lw_g (lw_at lw_m2 54 rfl) rfl
theorem q406 : (Jvm.Cond.soleField "InchBorders" "sentence") ∈ lw_all := lw_g (lw_at lw_m2 55 rfl) rfl
theorem q407 : (Jvm.Cond.laysFinal "InchBorders" "InchBorders" "before" "[LInchBorders$Times;") ∈ lw_all := lw_g (lw_at lw_m2 56 rfl) rfl
theorem q408 : (Jvm.Cond.soleField "InchBorders" "before") ∈ lw_all := lw_g (lw_at lw_m2 57 rfl) rfl
theorem q409 : (Jvm.Cond.lays "InchBorders" "InchBorders" "befores" "I") ∈ lw_all := lw_g (lw_at lw_m2 58 rfl) rfl
theorem q410 : (Jvm.Cond.soleField "InchBorders" "befores") ∈ lw_all := lw_g (lw_at lw_m2 59 rfl) rfl
theorem q411 : (Jvm.Cond.laysFinal "InchBorders" "InchBorders" "way" "[I") ∈ lw_all := lw_g (lw_at lw_m2 60 rfl) rfl
theorem q412 : (Jvm.Cond.soleField "InchBorders" "way") ∈ lw_all := lw_g (lw_at lw_m2 61 rfl) rfl
theorem q413 : (Jvm.Cond.laysFinal "InchBorders" "InchBorders" "made" "[I") ∈ lw_all := lw_g (lw_at lw_m2 62 rfl) rfl
theorem q414 : (Jvm.Cond.soleField "InchBorders" "made") ∈ lw_all := lw_g (lw_at lw_m2 63 rfl) rfl
theorem q415 : (Jvm.Cond.lays "InchBorders" "InchBorders" "ways" "I") ∈ lw_all := lw_g (lw_at lw_m2 64 rfl) rfl
theorem q416 : (Jvm.Cond.soleField "InchBorders" "ways") ∈ lw_all := lw_g (lw_at lw_m2 65 rfl) rfl
theorem q417 : (Jvm.Cond.lays "InchBorders" "InchBorders" "mades" "I") ∈ lw_all := lw_g (lw_at lw_m2 66 rfl) rfl
theorem q418 : (Jvm.Cond.soleField "InchBorders" "mades") ∈ lw_all := lw_g (lw_at lw_m2 67 rfl) rfl
theorem q419 : (Jvm.Cond.lays "InchBorders" "InchBorders" "spared" "I") ∈ lw_all := lw_g (lw_at lw_m2 68 rfl) rfl
theorem q420 : (Jvm.Cond.soleField "InchBorders" "spared") ∈ lw_all := lw_g (lw_at lw_m2 69 rfl) rfl
theorem q421 : (Jvm.Cond.lays "InchBorders" "InchBorders" "likely" "I") ∈ lw_all := lw_g (lw_at lw_m2 70 rfl) rfl
theorem q422 : (Jvm.Cond.soleField "InchBorders" "likely") ∈ lw_all := lw_g (lw_at lw_m2 71 rfl) rfl
theorem q423 : (Jvm.Cond.laysFinal "InchBorders" "InchBorders" "going" "[I") ∈ lw_all := lw_g (lw_at lw_m2 72 rfl) rfl
theorem q424 : (Jvm.Cond.soleField "InchBorders" "going") ∈ lw_all := lw_g (lw_at lw_m2 73 rfl) rfl
theorem q425 : (Jvm.Cond.laysFinal "InchBorders" "InchBorders" "caravan" "[I") ∈ lw_all := lw_g (lw_at lw_m2 74 rfl) rfl
theorem q426 : (Jvm.Cond.soleField "InchBorders" "caravan") ∈ lw_all := lw_g (lw_at lw_m2 75 rfl) rfl
theorem q427 : (Jvm.Cond.lays "InchBorders" "InchBorders" "goers" "I") ∈ lw_all := lw_g (lw_at lw_m2 76 rfl) rfl
theorem q428 : (Jvm.Cond.soleField "InchBorders" "goers") ∈ lw_all := lw_g (lw_at lw_m2 77 rfl) rfl
theorem q429 : (Jvm.Cond.lays "InchBorders" "InchBorders" "caravans" "I") ∈ lw_all := lw_g (lw_at lw_m2 78 rfl) rfl
theorem q430 : (Jvm.Cond.soleField "InchBorders" "caravans") ∈ lw_all := lw_g (lw_at lw_m2 79 rfl) rfl
theorem q431 : (Jvm.Cond.lays "InchBorders" "InchBorders" "longest" "I") ∈ lw_all := lw_g (lw_at lw_m2 80 rfl) rfl
theorem q432 : (Jvm.Cond.soleField "InchBorders" "longest") ∈ lw_all := lw_g (lw_at lw_m2 81 rfl) rfl
theorem q433 : (Jvm.Cond.lays "InchBorders" "InchBorders" "parting" "I") ∈ lw_all := lw_g (lw_at lw_m2 82 rfl) rfl
theorem q434 : (Jvm.Cond.soleField "InchBorders" "parting") ∈ lw_all := lw_g (lw_at lw_m2 83 rfl) rfl
theorem q435 : (Jvm.Cond.lays "InchBorders" "InchBorders" "pass" "Ljava/lang/String;") ∈ lw_all := lw_g (lw_at lw_m2 84 rfl) rfl
theorem q436 : (Jvm.Cond.soleField "InchBorders" "pass") ∈ lw_all := lw_g (lw_at lw_m2 85 rfl) rfl
theorem q437 : (Jvm.Cond.laysFinal "InchBorders" "InchBorders" "told" "[I") ∈ lw_all := lw_g (lw_at lw_m2 86 rfl) rfl
theorem q438 : (Jvm.Cond.soleField "InchBorders" "told") ∈ lw_all := lw_g (lw_at lw_m2 87 rfl) rfl
theorem q439 : (Jvm.Cond.laysFinal "InchBorders" "InchBorders" "kept" "[LInchBorders$Kept;") ∈ lw_all := lw_g (lw_at lw_m2 88 rfl) rfl
theorem q440 : (Jvm.Cond.soleField "InchBorders" "kept") ∈ lw_all := lw_g (lw_at lw_m2 89 rfl) rfl
theorem q441 : (Jvm.Cond.superclass "InchBorders" "java/lang/Object") ∈ lw_all := lw_g (lw_at lw_m2 90 rfl) rfl
theorem q443 : (Jvm.Cond.instanceMethod ({ cls := "InchBorders", name := "feed", desc := "(IIIII)I" } : Jvm.MethodName)) ∈ lw_all := lw_g (lw_at lw_m2 92 rfl) rfl
theorem q444 : (Jvm.Cond.selects "InchBorders" ({ cls := "InchBorders", name := "feed", desc := "(IIIII)I" } : Jvm.MethodName) ({ cls := "InchBorders", name := "feed", desc := "(IIIII)I" } : Jvm.MethodName)) ∈ lw_all := lw_g (lw_at lw_m2 93 rfl) rfl
theorem q445 : (Jvm.Cond.code ({ cls := "InchBorders", name := "feed", desc := "(IIIII)I" } : Jvm.MethodName) prog_1_method_7_code (6 : Nat) (Option.some Jvm.ClassFile.FieldType.int)) ∈ lw_all := lw_g (lw_at lw_m2 94 rfl) rfl
theorem q446 : (Jvm.Cond.methodLink "InchBorders" (89 : Nat) ({ cls := "InchBorders", name := "come", desc := "(I)V" } : Jvm.MethodName)) ∈ lw_all := lw_g (lw_at lw_m2 95 rfl) rfl
theorem q447 : (Jvm.Cond.privateMethod ({ cls := "InchBorders", name := "come", desc := "(I)V" } : Jvm.MethodName)) ∈ lw_tbl := lw_at lw_m2 96 rfl
theorem q448 : (Jvm.Cond.instanceMethod ({ cls := "InchBorders", name := "come", desc := "(I)V" } : Jvm.MethodName)) ∈ lw_all := lw_g (lw_at lw_m2 97 rfl) rfl
theorem q449 : (Jvm.Cond.code ({ cls := "InchBorders", name := "come", desc := "(I)V" } : Jvm.MethodName) prog_1_method_6_code (3 : Nat) (Option.none : Option Jvm.ClassFile.FieldType)) ∈ lw_all := lw_g (lw_at lw_m2 98 rfl) rfl
theorem q451 : (Jvm.Cond.instanceMethod ({ cls := "InchBorders", name := "end", desc := "(I)Z" } : Jvm.MethodName)) ∈ lw_all := lw_g (lw_at lw_m2 100 rfl) rfl
theorem q452 : (Jvm.Cond.selects "InchBorders" ({ cls := "InchBorders", name := "end", desc := "(I)Z" } : Jvm.MethodName) ({ cls := "InchBorders", name := "end", desc := "(I)Z" } : Jvm.MethodName)) ∈ lw_all := lw_g (lw_at lw_m2 101 rfl) rfl
theorem q453 : (Jvm.Cond.code ({ cls := "InchBorders", name := "end", desc := "(I)Z" } : Jvm.MethodName) prog_1_method_8_code (2 : Nat) (Option.some Jvm.ClassFile.FieldType.boolean)) ∈ lw_all := lw_g (lw_at lw_m2 102 rfl) rfl
theorem q455 : (Jvm.Cond.instanceMethod ({ cls := "InchBorders", name := "map", desc := "()I" } : Jvm.MethodName)) ∈ lw_all := lw_g (lw_at lw_m2 104 rfl) rfl
theorem q456 : (Jvm.Cond.selects "InchBorders" ({ cls := "InchBorders", name := "map", desc := "()I" } : Jvm.MethodName) ({ cls := "InchBorders", name := "map", desc := "()I" } : Jvm.MethodName)) ∈ lw_all := lw_g (lw_at lw_m2 105 rfl) rfl
theorem q457 : (Jvm.Cond.codeWith ({ cls := "InchBorders", name := "map", desc := "()I" } : Jvm.MethodName) prog_1_method_11_code (3 : Nat) (Option.some Jvm.ClassFile.FieldType.int) [((10 : Nat), (58 : Nat), (59 : Nat), (119 : Nat))]) ∈ lw_all := lw_g (lw_at lw_m2 106 rfl) rfl
theorem q458 : (Jvm.Cond.classLink "InchBorders" (119 : Nat) "InchBorders$Fault") ∈ lw_all := lw_g (lw_at lw_m2 107 rfl) rfl
theorem q459 : (Jvm.Cond.methodLink "InchBorders" (93 : Nat) ({ cls := "InchBorders", name := "take", desc := "()I" } : Jvm.MethodName)) ∈ lw_all := lw_g (lw_at lw_m2 108 rfl) rfl
theorem q460 : (Jvm.Cond.privateMethod ({ cls := "InchBorders", name := "take", desc := "()I" } : Jvm.MethodName)) ∈ lw_tbl := lw_at lw_m2 109 rfl
theorem q461 : (Jvm.Cond.instanceMethod ({ cls := "InchBorders", name := "take", desc := "()I" } : Jvm.MethodName)) ∈ lw_all := lw_g (lw_at lw_m2 110 rfl) rfl
theorem q462 : (Jvm.Cond.code ({ cls := "InchBorders", name := "take", desc := "()I" } : Jvm.MethodName) prog_1_method_9_code (2 : Nat) (Option.some Jvm.ClassFile.FieldType.int)) ∈ lw_all := lw_g (lw_at lw_m2 111 rfl) rfl
theorem q463 : (Jvm.Cond.classLink "InchBorders" (100 : Nat) "InchBorders$MapReader") ∈ lw_all := lw_g (lw_at lw_m2 112 rfl) rfl
theorem q465 : (Jvm.Cond.methodLink "InchBorders" (102 : Nat) ({ cls := "InchBorders$MapReader", name := "<init>", desc := "([BI)V" } : Jvm.MethodName)) ∈ lw_all := lw_g (lw_at lw_m2 114 rfl) rfl
theorem q516 : (Jvm.Cond.methodLink "InchBorders" (105 : Nat) ({ cls := "InchBorders$MapReader", name := "read", desc := "()LInchBorders$Atlas;" } : Jvm.MethodName)) ∈ lw_all := lw_g (lw_at lw_m2 165 rfl) rfl
theorem q803 : (Jvm.Cond.fieldLinkNest "InchBorders" (121 : Nat) "InchBorders$Fault" "kind" "I" "InchBorders") ∈ lw_tbl := lw_at lw_m3 212 rfl
theorem q805 : (Jvm.Cond.fieldLinkNest "InchBorders" (124 : Nat) "InchBorders$Fault" "place" "I" "InchBorders") ∈ lw_tbl := lw_at lw_m3 214 rfl
theorem q924 : (Jvm.Cond.static ({ cls := "InchBorders", name := "isIn", desc := "(III)Z" } : Jvm.MethodName)) ∈ lw_all := lw_g (lw_at lw_m4 93 rfl) rfl
theorem q925 : (Jvm.Cond.code ({ cls := "InchBorders", name := "isIn", desc := "(III)Z" } : Jvm.MethodName) prog_1_method_1_code (3 : Nat) (Option.some Jvm.ClassFile.FieldType.boolean)) ∈ lw_all := lw_g (lw_at lw_m4 94 rfl) rfl
theorem q940 : (Jvm.Cond.fieldLinkNest "InchBorders" (185 : Nat) "InchBorders$Land" "give" "I" "InchBorders") ∈ lw_tbl := lw_at lw_m4 109 rfl
theorem q948 : (Jvm.Cond.fieldLink "InchBorders" (391 : Nat) "InchBorders$Person" "name" "Ljava/lang/String;") ∈ lw_all := lw_g (lw_at lw_m4 117 rfl) rfl
theorem q950 : (Jvm.Cond.fieldLink "InchBorders" (400 : Nat) "InchBorders$Land" "name" "Ljava/lang/String;") ∈ lw_all := lw_g (lw_at lw_m4 119 rfl) rfl
theorem q988 : (Jvm.Cond.selects "InchBorders" ({ cls := "java/lang/Object", name := "getClass", desc := "()Ljava/lang/Class;" } : Jvm.MethodName) ({ cls := "java/lang/Object", name := "getClass", desc := "()Ljava/lang/Class;" } : Jvm.MethodName)) ∈ lw_all := lw_g (lw_at lw_m4 157 rfl) rfl
theorem q1069 : (Jvm.Cond.fieldLinkNest "InchBorders" (204 : Nat) "InchBorders$Road" "a" "I" "InchBorders") ∈ lw_tbl := lw_at lw_m4 238 rfl
theorem q1071 : (Jvm.Cond.fieldLinkNest "InchBorders" (207 : Nat) "InchBorders$Road" "b" "I" "InchBorders") ∈ lw_tbl := lw_at lw_m5 0 rfl
theorem q1074 : (Jvm.Cond.fieldLinkNest "InchBorders" (210 : Nat) "InchBorders$Road" "low" "I" "InchBorders") ∈ lw_tbl := lw_at lw_m5 3 rfl
theorem q1077 : (Jvm.Cond.fieldLinkNest "InchBorders" (213 : Nat) "InchBorders$Road" "high" "I" "InchBorders") ∈ lw_tbl := lw_at lw_m5 6 rfl
theorem q1093 : (Jvm.Cond.static ({ cls := "InchBorders", name := "isOf", desc := "(II)Z" } : Jvm.MethodName)) ∈ lw_all := lw_g (lw_at lw_m5 22 rfl) rfl
theorem q1094 : (Jvm.Cond.code ({ cls := "InchBorders", name := "isOf", desc := "(II)Z" } : Jvm.MethodName) prog_1_method_2_code (2 : Nat) (Option.some Jvm.ClassFile.FieldType.boolean)) ∈ lw_all := lw_g (lw_at lw_m5 23 rfl) rfl
theorem q1123 : (Jvm.Cond.instanceMethod ({ cls := "InchBorders", name := "fault", desc := "()I" } : Jvm.MethodName)) ∈ lw_all := lw_g (lw_at lw_m5 52 rfl) rfl
theorem q1124 : (Jvm.Cond.selects "InchBorders" ({ cls := "InchBorders", name := "fault", desc := "()I" } : Jvm.MethodName) ({ cls := "InchBorders", name := "fault", desc := "()I" } : Jvm.MethodName)) ∈ lw_all := lw_g (lw_at lw_m5 53 rfl) rfl
theorem q1125 : (Jvm.Cond.code ({ cls := "InchBorders", name := "fault", desc := "()I" } : Jvm.MethodName) prog_1_method_12_code (1 : Nat) (Option.some Jvm.ClassFile.FieldType.int)) ∈ lw_all := lw_g (lw_at lw_m5 54 rfl) rfl
theorem q1127 : (Jvm.Cond.instanceMethod ({ cls := "InchBorders", name := "land", desc := "(II)I" } : Jvm.MethodName)) ∈ lw_all := lw_g (lw_at lw_m5 56 rfl) rfl
theorem q1128 : (Jvm.Cond.selects "InchBorders" ({ cls := "InchBorders", name := "land", desc := "(II)I" } : Jvm.MethodName) ({ cls := "InchBorders", name := "land", desc := "(II)I" } : Jvm.MethodName)) ∈ lw_all := lw_g (lw_at lw_m5 57 rfl) rfl
theorem q1129 : (Jvm.Cond.code ({ cls := "InchBorders", name := "land", desc := "(II)I" } : Jvm.MethodName) prog_1_method_18_code (5 : Nat) (Option.some Jvm.ClassFile.FieldType.int)) ∈ lw_all := lw_g (lw_at lw_m5 58 rfl) rfl
theorem q1130 : (Jvm.Cond.methodLink "InchBorders" (176 : Nat) ({ cls := "InchBorders", name := "isLand", desc := "(I)Z" } : Jvm.MethodName)) ∈ lw_all := lw_g (lw_at lw_m5 59 rfl) rfl
theorem q1131 : (Jvm.Cond.privateMethod ({ cls := "InchBorders", name := "isLand", desc := "(I)Z" } : Jvm.MethodName)) ∈ lw_tbl := lw_at lw_m5 60 rfl
theorem q1132 : (Jvm.Cond.instanceMethod ({ cls := "InchBorders", name := "isLand", desc := "(I)Z" } : Jvm.MethodName)) ∈ lw_all := lw_g (lw_at lw_m5 61 rfl) rfl
theorem q1133 : (Jvm.Cond.code ({ cls := "InchBorders", name := "isLand", desc := "(I)Z" } : Jvm.MethodName) prog_1_method_13_code (2 : Nat) (Option.some Jvm.ClassFile.FieldType.boolean)) ∈ lw_all := lw_g (lw_at lw_m5 62 rfl) rfl
theorem q1134 : (Jvm.Cond.methodLink "InchBorders" (127 : Nat) ({ cls := "InchBorders$Atlas", name := "isLand", desc := "(I)Z" } : Jvm.MethodName)) ∈ lw_all := lw_g (lw_at lw_m5 63 rfl) rfl
theorem q1139 : (Jvm.Cond.methodLink "InchBorders" (177 : Nat) ({ cls := "InchBorders$Times", name := "take", desc := "(I)I" } : Jvm.MethodName)) ∈ lw_all := lw_g (lw_at lw_m5 68 rfl) rfl
theorem q1143 : (Jvm.Cond.methodLink "InchBorders" (179 : Nat) ({ cls := "java/util/ArrayList", name := "get", desc := "(I)Ljava/lang/Object;" } : Jvm.MethodName)) ∈ lw_all := lw_g (lw_at lw_m5 72 rfl) rfl
theorem q1144 : (Jvm.Cond.classLink "InchBorders" (183 : Nat) "InchBorders$Land") ∈ lw_all := lw_g (lw_at lw_m5 73 rfl) rfl
theorem q1145 : (Jvm.Cond.methodLink "InchBorders" (194 : Nat) ({ cls := "InchBorders", name := "persons", desc := "()I" } : Jvm.MethodName)) ∈ lw_all := lw_g (lw_at lw_m5 74 rfl) rfl
theorem q1146 : (Jvm.Cond.privateMethod ({ cls := "InchBorders", name := "persons", desc := "()I" } : Jvm.MethodName)) ∈ lw_tbl := lw_at lw_m5 75 rfl
theorem q1147 : (Jvm.Cond.instanceMethod ({ cls := "InchBorders", name := "persons", desc := "()I" } : Jvm.MethodName)) ∈ lw_all := lw_g (lw_at lw_m5 76 rfl) rfl
theorem q1148 : (Jvm.Cond.code ({ cls := "InchBorders", name := "persons", desc := "()I" } : Jvm.MethodName) prog_1_method_16_code (1 : Nat) (Option.some Jvm.ClassFile.FieldType.int)) ∈ lw_all := lw_g (lw_at lw_m5 77 rfl) rfl
theorem q1149 : (Jvm.Cond.methodLink "InchBorders" (138 : Nat) ({ cls := "java/util/ArrayList", name := "size", desc := "()I" } : Jvm.MethodName)) ∈ lw_all := lw_g (lw_at lw_m5 78 rfl) rfl
theorem q1151 : (Jvm.Cond.instanceMethod ({ cls := "InchBorders", name := "road", desc := "(II)I" } : Jvm.MethodName)) ∈ lw_all := lw_g (lw_at lw_m5 80 rfl) rfl
theorem q1152 : (Jvm.Cond.selects "InchBorders" ({ cls := "InchBorders", name := "road", desc := "(II)I" } : Jvm.MethodName) ({ cls := "InchBorders", name := "road", desc := "(II)I" } : Jvm.MethodName)) ∈ lw_all := lw_g (lw_at lw_m5 81 rfl) rfl
theorem q1153 : (Jvm.Cond.code ({ cls := "InchBorders", name := "road", desc := "(II)I" } : Jvm.MethodName) prog_1_method_19_code (4 : Nat) (Option.some Jvm.ClassFile.FieldType.int)) ∈ lw_all := lw_g (lw_at lw_m5 82 rfl) rfl
theorem q1154 : (Jvm.Cond.methodLink "InchBorders" (196 : Nat) ({ cls := "InchBorders$Atlas", name := "isRoad", desc := "(I)Z" } : Jvm.MethodName)) ∈ lw_all := lw_g (lw_at lw_m5 83 rfl) rfl
theorem q1158 : (Jvm.Cond.classLink "InchBorders" (202 : Nat) "InchBorders$Road") ∈ lw_all := lw_g (lw_at lw_m5 87 rfl) rfl
theorem q1160 : (Jvm.Cond.instanceMethod ({ cls := "InchBorders", name := "now", desc := "(I)I" } : Jvm.MethodName)) ∈ lw_all := lw_g (lw_at lw_m5 89 rfl) rfl
theorem q1161 : (Jvm.Cond.selects "InchBorders" ({ cls := "InchBorders", name := "now", desc := "(I)I" } : Jvm.MethodName) ({ cls := "InchBorders", name := "now", desc := "(I)I" } : Jvm.MethodName)) ∈ lw_all := lw_g (lw_at lw_m5 90 rfl) rfl
theorem q1162 : (Jvm.Cond.code ({ cls := "InchBorders", name := "now", desc := "(I)I" } : Jvm.MethodName) prog_1_method_22_code (7 : Nat) (Option.some Jvm.ClassFile.FieldType.int)) ∈ lw_all := lw_g (lw_at lw_m5 91 rfl) rfl
theorem q1163 : (Jvm.Cond.methodLink "InchBorders" (222 : Nat) ({ cls := "InchBorders$Times", name := "lengths", desc := "()I" } : Jvm.MethodName)) ∈ lw_all := lw_g (lw_at lw_m5 92 rfl) rfl
theorem q1167 : (Jvm.Cond.methodLink "InchBorders" (225 : Nat) ({ cls := "InchBorders", name := "sum", desc := "([I)I" } : Jvm.MethodName)) ∈ lw_all := lw_g (lw_at lw_m5 96 rfl) rfl
theorem q1168 : (Jvm.Cond.static ({ cls := "InchBorders", name := "sum", desc := "([I)I" } : Jvm.MethodName)) ∈ lw_all := lw_g (lw_at lw_m5 97 rfl) rfl
theorem q1169 : (Jvm.Cond.code ({ cls := "InchBorders", name := "sum", desc := "([I)I" } : Jvm.MethodName) prog_1_method_20_code (6 : Nat) (Option.some Jvm.ClassFile.FieldType.int)) ∈ lw_all := lw_g (lw_at lw_m5 98 rfl) rfl
theorem q1170 : (Jvm.Cond.methodLink "InchBorders" (232 : Nat) ({ cls := "InchBorders", name := "who", desc := "(Z)I" } : Jvm.MethodName)) ∈ lw_all := lw_g (lw_at lw_m5 99 rfl) rfl
theorem q1171 : (Jvm.Cond.privateMethod ({ cls := "InchBorders", name := "who", desc := "(Z)I" } : Jvm.MethodName)) ∈ lw_tbl := lw_at lw_m5 100 rfl
theorem q1172 : (Jvm.Cond.instanceMethod ({ cls := "InchBorders", name := "who", desc := "(Z)I" } : Jvm.MethodName)) ∈ lw_all := lw_g (lw_at lw_m5 101 rfl) rfl
theorem q1173 : (Jvm.Cond.code ({ cls := "InchBorders", name := "who", desc := "(Z)I" } : Jvm.MethodName) prog_1_method_21_code (4 : Nat) (Option.some Jvm.ClassFile.FieldType.int)) ∈ lw_all := lw_g (lw_at lw_m5 102 rfl) rfl
theorem q1174 : (Jvm.Cond.methodLink "InchBorders" (155 : Nat) ({ cls := "InchBorders$Atlas", name := "home", desc := "(I)I" } : Jvm.MethodName)) ∈ lw_all := lw_g (lw_at lw_m5 103 rfl) rfl
theorem q1175 : (Jvm.Cond.methodLink "InchBorders" (173 : Nat) ({ cls := "InchBorders$Times", name := "canCross", desc := "(I)I" } : Jvm.MethodName)) ∈ lw_all := lw_g (lw_at lw_m5 104 rfl) rfl
theorem q1195 : (Jvm.Cond.methodLink "InchBorders" (236 : Nat) ({ cls := "InchBorders", name := "many", desc := "(I)I" } : Jvm.MethodName)) ∈ lw_all := lw_g (lw_at lw_m5 124 rfl) rfl
theorem q1196 : (Jvm.Cond.static ({ cls := "InchBorders", name := "many", desc := "(I)I" } : Jvm.MethodName)) ∈ lw_all := lw_g (lw_at lw_m5 125 rfl) rfl
theorem q1197 : (Jvm.Cond.code ({ cls := "InchBorders", name := "many", desc := "(I)I" } : Jvm.MethodName) prog_1_method_3_code (1 : Nat) (Option.some Jvm.ClassFile.FieldType.int)) ∈ lw_all := lw_g (lw_at lw_m5 126 rfl) rfl
theorem q1198 : (Jvm.Cond.methodLink "InchBorders" (1 : Nat) ({ cls := "java/lang/Integer", name := "bitCount", desc := "(I)I" } : Jvm.MethodName)) ∈ lw_all := lw_g (lw_at lw_m5 127 rfl) rfl
theorem q1205 : (Jvm.Cond.instanceMethod ({ cls := "InchBorders", name := "cross", desc := "(II)I" } : Jvm.MethodName)) ∈ lw_all := lw_g (lw_at lw_m5 134 rfl) rfl
theorem q1206 : (Jvm.Cond.selects "InchBorders" ({ cls := "InchBorders", name := "cross", desc := "(II)I" } : Jvm.MethodName) ({ cls := "InchBorders", name := "cross", desc := "(II)I" } : Jvm.MethodName)) ∈ lw_all := lw_g (lw_at lw_m5 135 rfl) rfl
theorem q1207 : (Jvm.Cond.code ({ cls := "InchBorders", name := "cross", desc := "(II)I" } : Jvm.MethodName) prog_1_method_25_code (3 : Nat) (Option.some Jvm.ClassFile.FieldType.int)) ∈ lw_all := lw_g (lw_at lw_m5 136 rfl) rfl
theorem q1208 : (Jvm.Cond.methodLink "InchBorders" (146 : Nat) ({ cls := "InchBorders", name := "isPerson", desc := "(I)Z" } : Jvm.MethodName)) ∈ lw_all := lw_g (lw_at lw_m5 137 rfl) rfl
theorem q1209 : (Jvm.Cond.privateMethod ({ cls := "InchBorders", name := "isPerson", desc := "(I)Z" } : Jvm.MethodName)) ∈ lw_tbl := lw_at lw_m5 138 rfl
theorem q1210 : (Jvm.Cond.instanceMethod ({ cls := "InchBorders", name := "isPerson", desc := "(I)Z" } : Jvm.MethodName)) ∈ lw_all := lw_g (lw_at lw_m5 139 rfl) rfl
theorem q1211 : (Jvm.Cond.code ({ cls := "InchBorders", name := "isPerson", desc := "(I)Z" } : Jvm.MethodName) prog_1_method_14_code (2 : Nat) (Option.some Jvm.ClassFile.FieldType.boolean)) ∈ lw_all := lw_g (lw_at lw_m5 140 rfl) rfl
theorem q1212 : (Jvm.Cond.methodLink "InchBorders" (131 : Nat) ({ cls := "InchBorders$Atlas", name := "isPerson", desc := "(I)Z" } : Jvm.MethodName)) ∈ lw_all := lw_g (lw_at lw_m5 141 rfl) rfl
theorem q1216 : (Jvm.Cond.classLink "InchBorders" (252 : Nat) "InchBorders$Crosses") ∈ lw_all := lw_g (lw_at lw_m5 145 rfl) rfl
theorem q1218 : (Jvm.Cond.methodLink "InchBorders" (254 : Nat) ({ cls := "InchBorders$Crosses", name := "<init>", desc := "(II)V" } : Jvm.MethodName)) ∈ lw_all := lw_g (lw_at lw_m5 147 rfl) rfl
theorem q1232 : (Jvm.Cond.methodLink "InchBorders" (257 : Nat) ({ cls := "InchBorders", name := "does", desc := "(LInchBorders$Act;)I" } : Jvm.MethodName)) ∈ lw_all := lw_g (lw_at lw_m5 161 rfl) rfl
theorem q1233 : (Jvm.Cond.privateMethod ({ cls := "InchBorders", name := "does", desc := "(LInchBorders$Act;)I" } : Jvm.MethodName)) ∈ lw_tbl := lw_at lw_m5 162 rfl
theorem q1234 : (Jvm.Cond.instanceMethod ({ cls := "InchBorders", name := "does", desc := "(LInchBorders$Act;)I" } : Jvm.MethodName)) ∈ lw_all := lw_g (lw_at lw_m5 163 rfl) rfl
theorem q1235 : (Jvm.Cond.code ({ cls := "InchBorders", name := "does", desc := "(LInchBorders$Act;)I" } : Jvm.MethodName) prog_1_method_24_code (3 : Nat) (Option.some Jvm.ClassFile.FieldType.int)) ∈ lw_all := lw_g (lw_at lw_m5 164 rfl) rfl
theorem q1236 : (Jvm.Cond.methodLink "InchBorders" (239 : Nat) ({ cls := "InchBorders$Times", name := "as", desc := "(LInchBorders$Times;)LInchBorders$Times;" } : Jvm.MethodName)) ∈ lw_all := lw_g (lw_at lw_m5 165 rfl) rfl
theorem q1244 : (Jvm.Cond.methodLink "InchBorders" (243 : Nat) ({ cls := "InchBorders$Act", name := "does", desc := "(LInchBorders$Times;)I" } : Jvm.MethodName)) ∈ lw_all := lw_g (lw_at lw_m5 173 rfl) rfl
theorem q1299 : (Jvm.Cond.methodLink "InchBorders" (249 : Nat) ({ cls := "InchBorders", name := "snap", desc := "()V" } : Jvm.MethodName)) ∈ lw_all := lw_g (lw_at lw_m5 228 rfl) rfl
theorem q1300 : (Jvm.Cond.privateMethod ({ cls := "InchBorders", name := "snap", desc := "()V" } : Jvm.MethodName)) ∈ lw_tbl := lw_at lw_m5 229 rfl
theorem q1301 : (Jvm.Cond.instanceMethod ({ cls := "InchBorders", name := "snap", desc := "()V" } : Jvm.MethodName)) ∈ lw_all := lw_g (lw_at lw_m5 230 rfl) rfl
theorem q1302 : (Jvm.Cond.code ({ cls := "InchBorders", name := "snap", desc := "()V" } : Jvm.MethodName) prog_1_method_23_code (3 : Nat) (Option.none : Option Jvm.ClassFile.FieldType)) ∈ lw_all := lw_g (lw_at lw_m5 231 rfl) rfl
theorem q1304 : (Jvm.Cond.instanceMethod ({ cls := "InchBorders", name := "pact", desc := "(II)I" } : Jvm.MethodName)) ∈ lw_all := lw_g (lw_at lw_m5 233 rfl) rfl
theorem q1305 : (Jvm.Cond.selects "InchBorders" ({ cls := "InchBorders", name := "pact", desc := "(II)I" } : Jvm.MethodName) ({ cls := "InchBorders", name := "pact", desc := "(II)I" } : Jvm.MethodName)) ∈ lw_all := lw_g (lw_at lw_m5 234 rfl) rfl
theorem q1306 : (Jvm.Cond.code ({ cls := "InchBorders", name := "pact", desc := "(II)I" } : Jvm.MethodName) prog_1_method_27_code (3 : Nat) (Option.some Jvm.ClassFile.FieldType.int)) ∈ lw_all := lw_g (lw_at lw_m5 235 rfl) rfl
theorem q1307 : (Jvm.Cond.methodLink "InchBorders" (265 : Nat) ({ cls := "InchBorders", name := "treats", desc := "(IIZ)I" } : Jvm.MethodName)) ∈ lw_all := lw_g (lw_at lw_m5 236 rfl) rfl
theorem q1308 : (Jvm.Cond.privateMethod ({ cls := "InchBorders", name := "treats", desc := "(IIZ)I" } : Jvm.MethodName)) ∈ lw_tbl := lw_at lw_m5 237 rfl
theorem q1309 : (Jvm.Cond.instanceMethod ({ cls := "InchBorders", name := "treats", desc := "(IIZ)I" } : Jvm.MethodName)) ∈ lw_all := lw_g (lw_at lw_m5 238 rfl) rfl
theorem q1310 : (Jvm.Cond.code ({ cls := "InchBorders", name := "treats", desc := "(IIZ)I" } : Jvm.MethodName) prog_1_method_26_code (4 : Nat) (Option.some Jvm.ClassFile.FieldType.int)) ∈ lw_all := lw_g (lw_at lw_m5 239 rfl) rfl
theorem q1311 : (Jvm.Cond.classLink "InchBorders" (260 : Nat) "InchBorders$Treats") ∈ lw_all := lw_g (lw_at lw_m6 0 rfl) rfl
theorem q1313 : (Jvm.Cond.methodLink "InchBorders" (262 : Nat) ({ cls := "InchBorders$Treats", name := "<init>", desc := "(IIZ)V" } : Jvm.MethodName)) ∈ lw_all := lw_g (lw_at lw_m6 2 rfl) rfl
theorem q1339 : (Jvm.Cond.instanceMethod ({ cls := "InchBorders", name := "breaks", desc := "(II)I" } : Jvm.MethodName)) ∈ lw_all := lw_g (lw_at lw_m6 28 rfl) rfl
theorem q1340 : (Jvm.Cond.selects "InchBorders" ({ cls := "InchBorders", name := "breaks", desc := "(II)I" } : Jvm.MethodName) ({ cls := "InchBorders", name := "breaks", desc := "(II)I" } : Jvm.MethodName)) ∈ lw_all := lw_g (lw_at lw_m6 29 rfl) rfl
theorem q1341 : (Jvm.Cond.code ({ cls := "InchBorders", name := "breaks", desc := "(II)I" } : Jvm.MethodName) prog_1_method_28_code (3 : Nat) (Option.some Jvm.ClassFile.FieldType.int)) ∈ lw_all := lw_g (lw_at lw_m6 30 rfl) rfl
theorem q1343 : (Jvm.Cond.instanceMethod ({ cls := "InchBorders", name := "close", desc := "(I)I" } : Jvm.MethodName)) ∈ lw_all := lw_g (lw_at lw_m6 32 rfl) rfl
theorem q1344 : (Jvm.Cond.selects "InchBorders" ({ cls := "InchBorders", name := "close", desc := "(I)I" } : Jvm.MethodName) ({ cls := "InchBorders", name := "close", desc := "(I)I" } : Jvm.MethodName)) ∈ lw_all := lw_g (lw_at lw_m6 33 rfl) rfl
theorem q1345 : (Jvm.Cond.code ({ cls := "InchBorders", name := "close", desc := "(I)I" } : Jvm.MethodName) prog_1_method_30_code (2 : Nat) (Option.some Jvm.ClassFile.FieldType.int)) ∈ lw_all := lw_g (lw_at lw_m6 34 rfl) rfl
theorem q1346 : (Jvm.Cond.methodLink "InchBorders" (274 : Nat) ({ cls := "InchBorders", name := "closes", desc := "(IZ)I" } : Jvm.MethodName)) ∈ lw_all := lw_g (lw_at lw_m6 35 rfl) rfl
theorem q1347 : (Jvm.Cond.privateMethod ({ cls := "InchBorders", name := "closes", desc := "(IZ)I" } : Jvm.MethodName)) ∈ lw_tbl := lw_at lw_m6 36 rfl
theorem q1348 : (Jvm.Cond.instanceMethod ({ cls := "InchBorders", name := "closes", desc := "(IZ)I" } : Jvm.MethodName)) ∈ lw_all := lw_g (lw_at lw_m6 37 rfl) rfl
theorem q1349 : (Jvm.Cond.code ({ cls := "InchBorders", name := "closes", desc := "(IZ)I" } : Jvm.MethodName) prog_1_method_29_code (3 : Nat) (Option.some Jvm.ClassFile.FieldType.int)) ∈ lw_all := lw_g (lw_at lw_m6 38 rfl) rfl
theorem q1350 : (Jvm.Cond.methodLink "InchBorders" (147 : Nat) ({ cls := "InchBorders", name := "isIn", desc := "(III)Z" } : Jvm.MethodName)) ∈ lw_all := lw_g (lw_at lw_m6 39 rfl) rfl
theorem q1351 : (Jvm.Cond.classLink "InchBorders" (269 : Nat) "InchBorders$Closes") ∈ lw_all := lw_g (lw_at lw_m6 40 rfl) rfl
theorem q1353 : (Jvm.Cond.methodLink "InchBorders" (271 : Nat) ({ cls := "InchBorders$Closes", name := "<init>", desc := "(IZ)V" } : Jvm.MethodName)) ∈ lw_all := lw_g (lw_at lw_m6 42 rfl) rfl
theorem q1365 : (Jvm.Cond.instanceMethod ({ cls := "InchBorders", name := "open", desc := "(I)I" } : Jvm.MethodName)) ∈ lw_all := lw_g (lw_at lw_m6 54 rfl) rfl
theorem q1366 : (Jvm.Cond.selects "InchBorders" ({ cls := "InchBorders", name := "open", desc := "(I)I" } : Jvm.MethodName) ({ cls := "InchBorders", name := "open", desc := "(I)I" } : Jvm.MethodName)) ∈ lw_all := lw_g (lw_at lw_m6 55 rfl) rfl
theorem q1367 : (Jvm.Cond.code ({ cls := "InchBorders", name := "open", desc := "(I)I" } : Jvm.MethodName) prog_1_method_31_code (2 : Nat) (Option.some Jvm.ClassFile.FieldType.int)) ∈ lw_all := lw_g (lw_at lw_m6 56 rfl) rfl
theorem q1369 : (Jvm.Cond.instanceMethod ({ cls := "InchBorders", name := "lend", desc := "(III)I" } : Jvm.MethodName)) ∈ lw_all := lw_g (lw_at lw_m6 58 rfl) rfl
theorem q1370 : (Jvm.Cond.selects "InchBorders" ({ cls := "InchBorders", name := "lend", desc := "(III)I" } : Jvm.MethodName) ({ cls := "InchBorders", name := "lend", desc := "(III)I" } : Jvm.MethodName)) ∈ lw_all := lw_g (lw_at lw_m6 59 rfl) rfl
theorem q1371 : (Jvm.Cond.code ({ cls := "InchBorders", name := "lend", desc := "(III)I" } : Jvm.MethodName) prog_1_method_32_code (4 : Nat) (Option.some Jvm.ClassFile.FieldType.int)) ∈ lw_all := lw_g (lw_at lw_m6 60 rfl) rfl
theorem q1372 : (Jvm.Cond.classLink "InchBorders" (278 : Nat) "InchBorders$Lends") ∈ lw_all := lw_g (lw_at lw_m6 61 rfl) rfl
theorem q1374 : (Jvm.Cond.methodLink "InchBorders" (280 : Nat) ({ cls := "InchBorders$Lends", name := "<init>", desc := "(III)V" } : Jvm.MethodName)) ∈ lw_all := lw_g (lw_at lw_m6 63 rfl) rfl
theorem q1385 : (Jvm.Cond.instanceMethod ({ cls := "InchBorders", name := "days", desc := "(I)I" } : Jvm.MethodName)) ∈ lw_all := lw_g (lw_at lw_m6 74 rfl) rfl
theorem q1386 : (Jvm.Cond.selects "InchBorders" ({ cls := "InchBorders", name := "days", desc := "(I)I" } : Jvm.MethodName) ({ cls := "InchBorders", name := "days", desc := "(I)I" } : Jvm.MethodName)) ∈ lw_all := lw_g (lw_at lw_m6 75 rfl) rfl
theorem q1387 : (Jvm.Cond.code ({ cls := "InchBorders", name := "days", desc := "(I)I" } : Jvm.MethodName) prog_1_method_33_code (2 : Nat) (Option.some Jvm.ClassFile.FieldType.int)) ∈ lw_all := lw_g (lw_at lw_m6 76 rfl) rfl
theorem q1388 : (Jvm.Cond.methodLink "InchBorders" (283 : Nat) ({ cls := "InchBorders$Times", name := "isOver", desc := "()Z" } : Jvm.MethodName)) ∈ lw_all := lw_g (lw_at lw_m6 77 rfl) rfl
theorem q1389 : (Jvm.Cond.methodLink "InchBorders" (287 : Nat) ({ cls := "InchBorders$Times", name := "passAll", desc := "(I)I" } : Jvm.MethodName)) ∈ lw_all := lw_g (lw_at lw_m6 78 rfl) rfl
theorem q1391 : (Jvm.Cond.instanceMethod ({ cls := "InchBorders", name := "undo", desc := "()I" } : Jvm.MethodName)) ∈ lw_all := lw_g (lw_at lw_m6 80 rfl) rfl
theorem q1392 : (Jvm.Cond.selects "InchBorders" ({ cls := "InchBorders", name := "undo", desc := "()I" } : Jvm.MethodName) ({ cls := "InchBorders", name := "undo", desc := "()I" } : Jvm.MethodName)) ∈ lw_all := lw_g (lw_at lw_m6 81 rfl) rfl
theorem q1393 : (Jvm.Cond.code ({ cls := "InchBorders", name := "undo", desc := "()I" } : Jvm.MethodName) prog_1_method_34_code (1 : Nat) (Option.some Jvm.ClassFile.FieldType.int)) ∈ lw_all := lw_g (lw_at lw_m6 82 rfl) rfl
theorem q1395 : (Jvm.Cond.instanceMethod ({ cls := "InchBorders", name := "way", desc := "(III)I" } : Jvm.MethodName)) ∈ lw_all := lw_g (lw_at lw_m6 84 rfl) rfl
theorem q1396 : (Jvm.Cond.selects "InchBorders" ({ cls := "InchBorders", name := "way", desc := "(III)I" } : Jvm.MethodName) ({ cls := "InchBorders", name := "way", desc := "(III)I" } : Jvm.MethodName)) ∈ lw_all := lw_g (lw_at lw_m6 85 rfl) rfl
theorem q1397 : (Jvm.Cond.code ({ cls := "InchBorders", name := "way", desc := "(III)I" } : Jvm.MethodName) prog_1_method_36_code (6 : Nat) (Option.some Jvm.ClassFile.FieldType.int)) ∈ lw_all := lw_g (lw_at lw_m6 86 rfl) rfl
theorem q1398 : (Jvm.Cond.methodLink "InchBorders" (290 : Nat) ({ cls := "InchBorders", name := "isAsked", desc := "(III)Z" } : Jvm.MethodName)) ∈ lw_all := lw_g (lw_at lw_m6 87 rfl) rfl
theorem q1399 : (Jvm.Cond.privateMethod ({ cls := "InchBorders", name := "isAsked", desc := "(III)Z" } : Jvm.MethodName)) ∈ lw_tbl := lw_at lw_m6 88 rfl
theorem q1400 : (Jvm.Cond.instanceMethod ({ cls := "InchBorders", name := "isAsked", desc := "(III)Z" } : Jvm.MethodName)) ∈ lw_all := lw_g (lw_at lw_m6 89 rfl) rfl
theorem q1401 : (Jvm.Cond.code ({ cls := "InchBorders", name := "isAsked", desc := "(III)Z" } : Jvm.MethodName) prog_1_method_35_code (4 : Nat) (Option.some Jvm.ClassFile.FieldType.boolean)) ∈ lw_all := lw_g (lw_at lw_m6 90 rfl) rfl
theorem q1402 : (Jvm.Cond.classLink "InchBorders" (293 : Nat) "InchBorders$Goal") ∈ lw_all := lw_g (lw_at lw_m6 91 rfl) rfl
theorem q1404 : (Jvm.Cond.methodLink "InchBorders" (295 : Nat) ({ cls := "InchBorders$Goal", name := "<init>", desc := "(LInchBorders$Times;IIII)V" } : Jvm.MethodName)) ∈ lw_all := lw_g (lw_at lw_m6 93 rfl) rfl
theorem q1420 : (Jvm.Cond.fieldLink "InchBorders" (301 : Nat) "InchBorders$Goal" "path" "[I") ∈ lw_all := lw_g (lw_at lw_m6 109 rfl) rfl
theorem q1435 : (Jvm.Cond.methodLink "InchBorders" (298 : Nat) ({ cls := "InchBorders$Goal", name := "fewest", desc := "(I)I" } : Jvm.MethodName)) ∈ lw_all := lw_g (lw_at lw_m6 124 rfl) rfl
theorem q1471 : (Jvm.Cond.methodLink "InchBorders" (304 : Nat) ({ cls := "java/lang/System", name := "arraycopy", desc := "(Ljava/lang/Object;ILjava/lang/Object;II)V" } : Jvm.MethodName)) ∈ lw_all := lw_g (lw_at lw_m6 160 rfl) rfl
theorem q1473 : (Jvm.Cond.instanceMethod ({ cls := "InchBorders", name := "wayAt", desc := "(I)I" } : Jvm.MethodName)) ∈ lw_all := lw_g (lw_at lw_m6 162 rfl) rfl
theorem q1474 : (Jvm.Cond.selects "InchBorders" ({ cls := "InchBorders", name := "wayAt", desc := "(I)I" } : Jvm.MethodName) ({ cls := "InchBorders", name := "wayAt", desc := "(I)I" } : Jvm.MethodName)) ∈ lw_all := lw_g (lw_at lw_m6 163 rfl) rfl
theorem q1475 : (Jvm.Cond.code ({ cls := "InchBorders", name := "wayAt", desc := "(I)I" } : Jvm.MethodName) prog_1_method_37_code (2 : Nat) (Option.some Jvm.ClassFile.FieldType.int)) ∈ lw_all := lw_g (lw_at lw_m6 164 rfl) rfl
theorem q1477 : (Jvm.Cond.instanceMethod ({ cls := "InchBorders", name := "round", desc := "(I)I" } : Jvm.MethodName)) ∈ lw_all := lw_g (lw_at lw_m6 166 rfl) rfl
theorem q1478 : (Jvm.Cond.selects "InchBorders" ({ cls := "InchBorders", name := "round", desc := "(I)I" } : Jvm.MethodName) ({ cls := "InchBorders", name := "round", desc := "(I)I" } : Jvm.MethodName)) ∈ lw_all := lw_g (lw_at lw_m6 167 rfl) rfl
theorem q1479 : (Jvm.Cond.code ({ cls := "InchBorders", name := "round", desc := "(I)I" } : Jvm.MethodName) prog_1_method_38_code (4 : Nat) (Option.some Jvm.ClassFile.FieldType.int)) ∈ lw_all := lw_g (lw_at lw_m6 168 rfl) rfl
theorem q1480 : (Jvm.Cond.classLink "InchBorders" (313 : Nat) "InchBorders$Back") ∈ lw_all := lw_g (lw_at lw_m6 169 rfl) rfl
theorem q1482 : (Jvm.Cond.methodLink "InchBorders" (315 : Nat) ({ cls := "InchBorders$Back", name := "<init>", desc := "(LInchBorders$Times;I)V" } : Jvm.MethodName)) ∈ lw_all := lw_g (lw_at lw_m6 171 rfl) rfl
theorem q1488 : (Jvm.Cond.fieldLinkNest "InchBorders" (322 : Nat) "InchBorders$Back" "most" "I" "InchBorders") ∈ lw_tbl := lw_at lw_m6 177 rfl
theorem q1498 : (Jvm.Cond.methodLink "InchBorders" (318 : Nat) ({ cls := "InchBorders$Back", name := "starts", desc := "(II)Z" } : Jvm.MethodName)) ∈ lw_all := lw_g (lw_at lw_m6 187 rfl) rfl
theorem q1502 : (Jvm.Cond.instanceMethod ({ cls := "InchBorders", name := "spare", desc := "(III)I" } : Jvm.MethodName)) ∈ lw_all := lw_g (lw_at lw_m6 191 rfl) rfl
theorem q1503 : (Jvm.Cond.selects "InchBorders" ({ cls := "InchBorders", name := "spare", desc := "(III)I" } : Jvm.MethodName) ({ cls := "InchBorders", name := "spare", desc := "(III)I" } : Jvm.MethodName)) ∈ lw_all := lw_g (lw_at lw_m6 192 rfl) rfl
theorem q1504 : (Jvm.Cond.code ({ cls := "InchBorders", name := "spare", desc := "(III)I" } : Jvm.MethodName) prog_1_method_40_code (7 : Nat) (Option.some Jvm.ClassFile.FieldType.int)) ∈ lw_all := lw_g (lw_at lw_m6 193 rfl) rfl
theorem q1505 : (Jvm.Cond.methodLink "InchBorders" (327 : Nat) ({ cls := "InchBorders", name := "canTreat", desc := "(I)I" } : Jvm.MethodName)) ∈ lw_all := lw_g (lw_at lw_m6 194 rfl) rfl
theorem q1506 : (Jvm.Cond.privateMethod ({ cls := "InchBorders", name := "canTreat", desc := "(I)I" } : Jvm.MethodName)) ∈ lw_tbl := lw_at lw_m6 195 rfl
theorem q1507 : (Jvm.Cond.instanceMethod ({ cls := "InchBorders", name := "canTreat", desc := "(I)I" } : Jvm.MethodName)) ∈ lw_all := lw_g (lw_at lw_m6 196 rfl) rfl
theorem q1508 : (Jvm.Cond.code ({ cls := "InchBorders", name := "canTreat", desc := "(I)I" } : Jvm.MethodName) prog_1_method_39_code (2 : Nat) (Option.some Jvm.ClassFile.FieldType.int)) ∈ lw_all := lw_g (lw_at lw_m6 197 rfl) rfl
theorem q1509 : (Jvm.Cond.methodLink "InchBorders" (325 : Nat) ({ cls := "InchBorders", name := "lands", desc := "()I" } : Jvm.MethodName)) ∈ lw_all := lw_g (lw_at lw_m6 198 rfl) rfl
theorem q1510 : (Jvm.Cond.privateMethod ({ cls := "InchBorders", name := "lands", desc := "()I" } : Jvm.MethodName)) ∈ lw_tbl := lw_at lw_m6 199 rfl
theorem q1511 : (Jvm.Cond.instanceMethod ({ cls := "InchBorders", name := "lands", desc := "()I" } : Jvm.MethodName)) ∈ lw_all := lw_g (lw_at lw_m6 200 rfl) rfl
theorem q1512 : (Jvm.Cond.code ({ cls := "InchBorders", name := "lands", desc := "()I" } : Jvm.MethodName) prog_1_method_15_code (1 : Nat) (Option.some Jvm.ClassFile.FieldType.int)) ∈ lw_all := lw_g (lw_at lw_m6 201 rfl) rfl
theorem q1514 : (Jvm.Cond.instanceMethod ({ cls := "InchBorders", name := "spared", desc := "()I" } : Jvm.MethodName)) ∈ lw_all := lw_g (lw_at lw_m6 203 rfl) rfl
theorem q1515 : (Jvm.Cond.selects "InchBorders" ({ cls := "InchBorders", name := "spared", desc := "()I" } : Jvm.MethodName) ({ cls := "InchBorders", name := "spared", desc := "()I" } : Jvm.MethodName)) ∈ lw_all := lw_g (lw_at lw_m6 204 rfl) rfl
theorem q1516 : (Jvm.Cond.code ({ cls := "InchBorders", name := "spared", desc := "()I" } : Jvm.MethodName) prog_1_method_41_code (1 : Nat) (Option.some Jvm.ClassFile.FieldType.int)) ∈ lw_all := lw_g (lw_at lw_m6 205 rfl) rfl
theorem q1518 : (Jvm.Cond.instanceMethod ({ cls := "InchBorders", name := "made", desc := "()I" } : Jvm.MethodName)) ∈ lw_all := lw_g (lw_at lw_m6 207 rfl) rfl
theorem q1519 : (Jvm.Cond.selects "InchBorders" ({ cls := "InchBorders", name := "made", desc := "()I" } : Jvm.MethodName) ({ cls := "InchBorders", name := "made", desc := "()I" } : Jvm.MethodName)) ∈ lw_all := lw_g (lw_at lw_m6 208 rfl) rfl
theorem q1520 : (Jvm.Cond.code ({ cls := "InchBorders", name := "made", desc := "()I" } : Jvm.MethodName) prog_1_method_42_code (3 : Nat) (Option.some Jvm.ClassFile.FieldType.int)) ∈ lw_all := lw_g (lw_at lw_m6 209 rfl) rfl
theorem q1521 : (Jvm.Cond.methodLink "InchBorders" (330 : Nat) ({ cls := "InchBorders", name := "onTape", desc := "(I)I" } : Jvm.MethodName)) ∈ lw_all := lw_g (lw_at lw_m6 210 rfl) rfl
theorem q1522 : (Jvm.Cond.privateMethod ({ cls := "InchBorders", name := "onTape", desc := "(I)I" } : Jvm.MethodName)) ∈ lw_tbl := lw_at lw_m6 211 rfl
theorem q1523 : (Jvm.Cond.instanceMethod ({ cls := "InchBorders", name := "onTape", desc := "(I)I" } : Jvm.MethodName)) ∈ lw_all := lw_g (lw_at lw_m6 212 rfl) rfl
theorem q1524 : (Jvm.Cond.code ({ cls := "InchBorders", name := "onTape", desc := "(I)I" } : Jvm.MethodName) prog_1_method_10_code (2 : Nat) (Option.some Jvm.ClassFile.FieldType.int)) ∈ lw_all := lw_g (lw_at lw_m6 213 rfl) rfl
theorem q1525 : (Jvm.Cond.classLink "InchBorders" (333 : Nat) "InchBorders$Made") ∈ lw_all := lw_g (lw_at lw_m6 214 rfl) rfl
theorem q1527 : (Jvm.Cond.methodLink "InchBorders" (335 : Nat) ({ cls := "InchBorders$Made", name := "<init>", desc := "(LInchBorders$Times;II)V" } : Jvm.MethodName)) ∈ lw_all := lw_g (lw_at lw_m6 216 rfl) rfl
theorem q1533 : (Jvm.Cond.fieldLinkNest "InchBorders" (342 : Nat) "InchBorders$Made" "first" "[I" "InchBorders") ∈ lw_tbl := lw_at lw_m6 222 rfl
theorem q1536 : (Jvm.Cond.fieldLinkNest "InchBorders" (339 : Nat) "InchBorders$Made" "rows" "I" "InchBorders") ∈ lw_tbl := lw_at lw_m6 225 rfl
theorem q1538 : (Jvm.Cond.fieldLinkNest "InchBorders" (345 : Nat) "InchBorders$Made" "firsts" "I" "InchBorders") ∈ lw_tbl := lw_at lw_m6 227 rfl
theorem q1554 : (Jvm.Cond.methodLink "InchBorders" (338 : Nat) ({ cls := "InchBorders$Made", name := "starts", desc := "(II)Z" } : Jvm.MethodName)) ∈ lw_all := lw_g (lw_at lw_m7 3 rfl) rfl
theorem q1557 : (Jvm.Cond.methodLink "InchBorders" (351 : Nat) ({ cls := "InchBorders$Made", name := "likely", desc := "()I" } : Jvm.MethodName)) ∈ lw_all := lw_g (lw_at lw_m7 6 rfl) rfl
theorem q1562 : (Jvm.Cond.instanceMethod ({ cls := "InchBorders", name := "madeAt", desc := "(I)I" } : Jvm.MethodName)) ∈ lw_all := lw_g (lw_at lw_m7 11 rfl) rfl
theorem q1563 : (Jvm.Cond.selects "InchBorders" ({ cls := "InchBorders", name := "madeAt", desc := "(I)I" } : Jvm.MethodName) ({ cls := "InchBorders", name := "madeAt", desc := "(I)I" } : Jvm.MethodName)) ∈ lw_all := lw_g (lw_at lw_m7 12 rfl) rfl
theorem q1564 : (Jvm.Cond.code ({ cls := "InchBorders", name := "madeAt", desc := "(I)I" } : Jvm.MethodName) prog_1_method_43_code (2 : Nat) (Option.some Jvm.ClassFile.FieldType.int)) ∈ lw_all := lw_g (lw_at lw_m7 13 rfl) rfl
theorem q1566 : (Jvm.Cond.instanceMethod ({ cls := "InchBorders", name := "likely", desc := "()I" } : Jvm.MethodName)) ∈ lw_all := lw_g (lw_at lw_m7 15 rfl) rfl
theorem q1567 : (Jvm.Cond.selects "InchBorders" ({ cls := "InchBorders", name := "likely", desc := "()I" } : Jvm.MethodName) ({ cls := "InchBorders", name := "likely", desc := "()I" } : Jvm.MethodName)) ∈ lw_all := lw_g (lw_at lw_m7 16 rfl) rfl
theorem q1568 : (Jvm.Cond.code ({ cls := "InchBorders", name := "likely", desc := "()I" } : Jvm.MethodName) prog_1_method_44_code (1 : Nat) (Option.some Jvm.ClassFile.FieldType.int)) ∈ lw_all := lw_g (lw_at lw_m7 17 rfl) rfl
theorem q1570 : (Jvm.Cond.instanceMethod ({ cls := "InchBorders", name := "caravan", desc := "(I)I" } : Jvm.MethodName)) ∈ lw_all := lw_g (lw_at lw_m7 19 rfl) rfl
theorem q1571 : (Jvm.Cond.selects "InchBorders" ({ cls := "InchBorders", name := "caravan", desc := "(I)I" } : Jvm.MethodName) ({ cls := "InchBorders", name := "caravan", desc := "(I)I" } : Jvm.MethodName)) ∈ lw_all := lw_g (lw_at lw_m7 20 rfl) rfl
theorem q1572 : (Jvm.Cond.code ({ cls := "InchBorders", name := "caravan", desc := "(I)I" } : Jvm.MethodName) prog_1_method_47_code (4 : Nat) (Option.some Jvm.ClassFile.FieldType.int)) ∈ lw_all := lw_g (lw_at lw_m7 21 rfl) rfl
theorem q1573 : (Jvm.Cond.methodLink "InchBorders" (365 : Nat) ({ cls := "InchBorders$Times", name := "whyCross", desc := "(II)I" } : Jvm.MethodName)) ∈ lw_all := lw_g (lw_at lw_m7 22 rfl) rfl
theorem q1574 : (Jvm.Cond.methodLink "InchBorders" (362 : Nat) ({ cls := "InchBorders", name := "rowsFrom", desc := "(III)V" } : Jvm.MethodName)) ∈ lw_all := lw_g (lw_at lw_m7 23 rfl) rfl
theorem q1575 : (Jvm.Cond.privateMethod ({ cls := "InchBorders", name := "rowsFrom", desc := "(III)V" } : Jvm.MethodName)) ∈ lw_tbl := lw_at lw_m7 24 rfl
theorem q1576 : (Jvm.Cond.instanceMethod ({ cls := "InchBorders", name := "rowsFrom", desc := "(III)V" } : Jvm.MethodName)) ∈ lw_all := lw_g (lw_at lw_m7 25 rfl) rfl
theorem q1577 : (Jvm.Cond.code ({ cls := "InchBorders", name := "rowsFrom", desc := "(III)V" } : Jvm.MethodName) prog_1_method_45_code (5 : Nat) (Option.none : Option Jvm.ClassFile.FieldType)) ∈ lw_all := lw_g (lw_at lw_m7 26 rfl) rfl
theorem q1578 : (Jvm.Cond.methodLink "InchBorders" (356 : Nat) ({ cls := "InchBorders", name := "keepLonger", desc := "(I)V" } : Jvm.MethodName)) ∈ lw_all := lw_g (lw_at lw_m7 27 rfl) rfl
theorem q1579 : (Jvm.Cond.privateMethod ({ cls := "InchBorders", name := "keepLonger", desc := "(I)V" } : Jvm.MethodName)) ∈ lw_tbl := lw_at lw_m7 28 rfl
theorem q1580 : (Jvm.Cond.instanceMethod ({ cls := "InchBorders", name := "keepLonger", desc := "(I)V" } : Jvm.MethodName)) ∈ lw_all := lw_g (lw_at lw_m7 29 rfl) rfl
theorem q1581 : (Jvm.Cond.code ({ cls := "InchBorders", name := "keepLonger", desc := "(I)V" } : Jvm.MethodName) prog_1_method_46_code (3 : Nat) (Option.none : Option Jvm.ClassFile.FieldType)) ∈ lw_all := lw_g (lw_at lw_m7 30 rfl) rfl
theorem q1582 : (Jvm.Cond.methodLink "InchBorders" (369 : Nat) ({ cls := "InchBorders$Times", name := "cross", desc := "(II)V" } : Jvm.MethodName)) ∈ lw_all := lw_g (lw_at lw_m7 31 rfl) rfl
theorem q1583 : (Jvm.Cond.methodLink "InchBorders" (359 : Nat) ({ cls := "InchBorders", name := "isOf", desc := "(II)Z" } : Jvm.MethodName)) ∈ lw_all := lw_g (lw_at lw_m7 32 rfl) rfl
theorem q1585 : (Jvm.Cond.instanceMethod ({ cls := "InchBorders", name := "caravanAt", desc := "(I)I" } : Jvm.MethodName)) ∈ lw_all := lw_g (lw_at lw_m7 34 rfl) rfl
theorem q1586 : (Jvm.Cond.selects "InchBorders" ({ cls := "InchBorders", name := "caravanAt", desc := "(I)I" } : Jvm.MethodName) ({ cls := "InchBorders", name := "caravanAt", desc := "(I)I" } : Jvm.MethodName)) ∈ lw_all := lw_g (lw_at lw_m7 35 rfl) rfl
theorem q1587 : (Jvm.Cond.code ({ cls := "InchBorders", name := "caravanAt", desc := "(I)I" } : Jvm.MethodName) prog_1_method_48_code (2 : Nat) (Option.some Jvm.ClassFile.FieldType.int)) ∈ lw_all := lw_g (lw_at lw_m7 36 rfl) rfl
theorem q1589 : (Jvm.Cond.instanceMethod ({ cls := "InchBorders", name := "part", desc := "(II)I" } : Jvm.MethodName)) ∈ lw_all := lw_g (lw_at lw_m7 38 rfl) rfl
theorem q1590 : (Jvm.Cond.selects "InchBorders" ({ cls := "InchBorders", name := "part", desc := "(II)I" } : Jvm.MethodName) ({ cls := "InchBorders", name := "part", desc := "(II)I" } : Jvm.MethodName)) ∈ lw_all := lw_g (lw_at lw_m7 39 rfl) rfl
theorem q1591 : (Jvm.Cond.code ({ cls := "InchBorders", name := "part", desc := "(II)I" } : Jvm.MethodName) prog_1_method_50_code (5 : Nat) (Option.some Jvm.ClassFile.FieldType.int)) ∈ lw_all := lw_g (lw_at lw_m7 40 rfl) rfl
theorem q1592 : (Jvm.Cond.methodLink "InchBorders" (378 : Nat) ({ cls := "InchBorders", name := "reach", desc := "(II)I" } : Jvm.MethodName)) ∈ lw_all := lw_g (lw_at lw_m7 41 rfl) rfl
theorem q1593 : (Jvm.Cond.privateMethod ({ cls := "InchBorders", name := "reach", desc := "(II)I" } : Jvm.MethodName)) ∈ lw_tbl := lw_at lw_m7 42 rfl
theorem q1594 : (Jvm.Cond.instanceMethod ({ cls := "InchBorders", name := "reach", desc := "(II)I" } : Jvm.MethodName)) ∈ lw_all := lw_g (lw_at lw_m7 43 rfl) rfl
theorem q1595 : (Jvm.Cond.code ({ cls := "InchBorders", name := "reach", desc := "(II)I" } : Jvm.MethodName) prog_1_method_49_code (7 : Nat) (Option.some Jvm.ClassFile.FieldType.int)) ∈ lw_all := lw_g (lw_at lw_m7 44 rfl) rfl
theorem q1597 : (Jvm.Cond.instanceMethod ({ cls := "InchBorders", name := "parting", desc := "()I" } : Jvm.MethodName)) ∈ lw_all := lw_g (lw_at lw_m7 46 rfl) rfl
theorem q1598 : (Jvm.Cond.selects "InchBorders" ({ cls := "InchBorders", name := "parting", desc := "()I" } : Jvm.MethodName) ({ cls := "InchBorders", name := "parting", desc := "()I" } : Jvm.MethodName)) ∈ lw_all := lw_g (lw_at lw_m7 47 rfl) rfl
theorem q1599 : (Jvm.Cond.code ({ cls := "InchBorders", name := "parting", desc := "()I" } : Jvm.MethodName) prog_1_method_51_code (1 : Nat) (Option.some Jvm.ClassFile.FieldType.int)) ∈ lw_all := lw_g (lw_at lw_m7 48 rfl) rfl
theorem q1601 : (Jvm.Cond.instanceMethod ({ cls := "InchBorders", name := "rests", desc := "()I" } : Jvm.MethodName)) ∈ lw_all := lw_g (lw_at lw_m7 50 rfl) rfl
theorem q1602 : (Jvm.Cond.selects "InchBorders" ({ cls := "InchBorders", name := "rests", desc := "()I" } : Jvm.MethodName) ({ cls := "InchBorders", name := "rests", desc := "()I" } : Jvm.MethodName)) ∈ lw_all := lw_g (lw_at lw_m7 51 rfl) rfl
theorem q1603 : (Jvm.Cond.code ({ cls := "InchBorders", name := "rests", desc := "()I" } : Jvm.MethodName) prog_1_method_52_code (2 : Nat) (Option.some Jvm.ClassFile.FieldType.int)) ∈ lw_all := lw_g (lw_at lw_m7 52 rfl) rfl
theorem q1604 : (Jvm.Cond.methodLink "InchBorders" (381 : Nat) ({ cls := "InchBorders$Times", name := "anyGrows", desc := "()Z" } : Jvm.MethodName)) ∈ lw_all := lw_g (lw_at lw_m7 53 rfl) rfl
theorem q1608 : (Jvm.Cond.methodLink "InchBorders" (384 : Nat) ({ cls := "InchBorders$Times", name := "pass", desc := "()V" } : Jvm.MethodName)) ∈ lw_all := lw_g (lw_at lw_m7 57 rfl) rfl
theorem q1610 : (Jvm.Cond.instanceMethod ({ cls := "InchBorders", name := "pass", desc := "(I)I" } : Jvm.MethodName)) ∈ lw_all := lw_g (lw_at lw_m7 59 rfl) rfl
theorem q1611 : (Jvm.Cond.selects "InchBorders" ({ cls := "InchBorders", name := "pass", desc := "(I)I" } : Jvm.MethodName) ({ cls := "InchBorders", name := "pass", desc := "(I)I" } : Jvm.MethodName)) ∈ lw_all := lw_g (lw_at lw_m7 60 rfl) rfl
theorem q1612 : (Jvm.Cond.code ({ cls := "InchBorders", name := "pass", desc := "(I)I" } : Jvm.MethodName) prog_1_method_53_code (2 : Nat) (Option.some Jvm.ClassFile.FieldType.int)) ∈ lw_all := lw_g (lw_at lw_m7 61 rfl) rfl
theorem q1613 : (Jvm.Cond.classLink "InchBorders" (386 : Nat) "java/lang/StringBuilder") ∈ lw_all := lw_g (lw_at lw_m7 62 rfl) rfl
theorem q1614 : (Jvm.Cond.methodLink "InchBorders" (388 : Nat) ({ cls := "java/lang/StringBuilder", name := "<init>", desc := "()V" } : Jvm.MethodName)) ∈ lw_all := lw_g (lw_at lw_m7 63 rfl) rfl
theorem q1615 : (Jvm.Cond.classLink "InchBorders" (389 : Nat) "InchBorders$Person") ∈ lw_all := lw_g (lw_at lw_m7 64 rfl) rfl
theorem q1616 : (Jvm.Cond.methodLink "InchBorders" (394 : Nat) ({ cls := "java/lang/StringBuilder", name := "append", desc := "(Ljava/lang/String;)Ljava/lang/StringBuilder;" } : Jvm.MethodName)) ∈ lw_all := lw_g (lw_at lw_m7 65 rfl) rfl
theorem q1617 : (Jvm.Cond.stringRef "InchBorders" (398 : Nat) " of ") ∈ lw_tbl := lw_at lw_m7 66 rfl
theorem q1618 : (Jvm.Cond.stringRef "InchBorders" (401 : Nat) " in ") ∈ lw_tbl := lw_at lw_m7 67 rfl
theorem q1619 : (Jvm.Cond.stringRef "InchBorders" (403 : Nat) " ") ∈ lw_tbl := lw_at lw_m7 68 rfl
theorem q1620 : (Jvm.Cond.methodLink "InchBorders" (405 : Nat) ({ cls := "java/lang/StringBuilder", name := "append", desc := "(I)Ljava/lang/StringBuilder;" } : Jvm.MethodName)) ∈ lw_all := lw_g (lw_at lw_m7 69 rfl) rfl
theorem q1645 : (Jvm.Cond.methodLink "InchBorders" (408 : Nat) ({ cls := "java/lang/StringBuilder", name := "toString", desc := "()Ljava/lang/String;" } : Jvm.MethodName)) ∈ lw_all := lw_g (lw_at lw_m7 94 rfl) rfl
theorem q1646 : (Jvm.Cond.methodLink "InchBorders" (412 : Nat) ({ cls := "java/lang/String", name := "length", desc := "()I" } : Jvm.MethodName)) ∈ lw_all := lw_g (lw_at lw_m7 95 rfl) rfl
theorem q1648 : (Jvm.Cond.instanceMethod ({ cls := "InchBorders", name := "byteAt", desc := "(I)I" } : Jvm.MethodName)) ∈ lw_all := lw_g (lw_at lw_m7 97 rfl) rfl
theorem q1649 : (Jvm.Cond.selects "InchBorders" ({ cls := "InchBorders", name := "byteAt", desc := "(I)I" } : Jvm.MethodName) ({ cls := "InchBorders", name := "byteAt", desc := "(I)I" } : Jvm.MethodName)) ∈ lw_all := lw_g (lw_at lw_m7 98 rfl) rfl
theorem q1650 : (Jvm.Cond.code ({ cls := "InchBorders", name := "byteAt", desc := "(I)I" } : Jvm.MethodName) prog_1_method_54_code (2 : Nat) (Option.some Jvm.ClassFile.FieldType.int)) ∈ lw_all := lw_g (lw_at lw_m7 99 rfl) rfl
theorem q1651 : (Jvm.Cond.methodLink "InchBorders" (417 : Nat) ({ cls := "java/lang/String", name := "charAt", desc := "(I)C" } : Jvm.MethodName)) ∈ lw_all := lw_g (lw_at lw_m7 100 rfl) rfl
theorem q1663 : (Jvm.Cond.instanceMethod ({ cls := "InchBorders", name := "drawn", desc := "(II)I" } : Jvm.MethodName)) ∈ lw_all := lw_g (lw_at lw_m7 112 rfl) rfl
theorem q1664 : (Jvm.Cond.selects "InchBorders" ({ cls := "InchBorders", name := "drawn", desc := "(II)I" } : Jvm.MethodName) ({ cls := "InchBorders", name := "drawn", desc := "(II)I" } : Jvm.MethodName)) ∈ lw_all := lw_g (lw_at lw_m7 113 rfl) rfl
theorem q1665 : (Jvm.Cond.code ({ cls := "InchBorders", name := "drawn", desc := "(II)I" } : Jvm.MethodName) prog_1_method_55_code (3 : Nat) (Option.some Jvm.ClassFile.FieldType.int)) ∈ lw_all := lw_g (lw_at lw_m7 114 rfl) rfl
theorem q1666 : (Jvm.Cond.methodLink "InchBorders" (421 : Nat) ({ cls := "InchBorders$Times", name := "drawn", desc := "(II)I" } : Jvm.MethodName)) ∈ lw_all := lw_g (lw_at lw_m7 115 rfl) rfl
theorem q1681 : (Jvm.Cond.instanceMethod ({ cls := "InchBorders", name := "odds", desc := "(III)I" } : Jvm.MethodName)) ∈ lw_all := lw_g (lw_at lw_m7 130 rfl) rfl
theorem q1682 : (Jvm.Cond.selects "InchBorders" ({ cls := "InchBorders", name := "odds", desc := "(III)I" } : Jvm.MethodName) ({ cls := "InchBorders", name := "odds", desc := "(III)I" } : Jvm.MethodName)) ∈ lw_all := lw_g (lw_at lw_m7 131 rfl) rfl
theorem q1683 : (Jvm.Cond.code ({ cls := "InchBorders", name := "odds", desc := "(III)I" } : Jvm.MethodName) prog_1_method_56_code (6 : Nat) (Option.some Jvm.ClassFile.FieldType.int)) ∈ lw_all := lw_g (lw_at lw_m7 132 rfl) rfl
theorem q1685 : (Jvm.Cond.instanceMethod ({ cls := "InchBorders", name := "book", desc := "(I)I" } : Jvm.MethodName)) ∈ lw_all := lw_g (lw_at lw_m7 134 rfl) rfl
theorem q1686 : (Jvm.Cond.selects "InchBorders" ({ cls := "InchBorders", name := "book", desc := "(I)I" } : Jvm.MethodName) ({ cls := "InchBorders", name := "book", desc := "(I)I" } : Jvm.MethodName)) ∈ lw_all := lw_g (lw_at lw_m7 135 rfl) rfl
theorem q1687 : (Jvm.Cond.codeWith ({ cls := "InchBorders", name := "book", desc := "(I)I" } : Jvm.MethodName) prog_1_method_57_code (4 : Nat) (Option.some Jvm.ClassFile.FieldType.int) [((23 : Nat), (56 : Nat), (57 : Nat), (119 : Nat))]) ∈ lw_all := lw_g (lw_at lw_m7 136 rfl) rfl
theorem q1688 : (Jvm.Cond.classLink "InchBorders" (424 : Nat) "InchBorders$BookReader") ∈ lw_all := lw_g (lw_at lw_m7 137 rfl) rfl
theorem q1690 : (Jvm.Cond.methodLink "InchBorders" (426 : Nat) ({ cls := "InchBorders$BookReader", name := "<init>", desc := "([BILInchBorders$Atlas;)V" } : Jvm.MethodName)) ∈ lw_all := lw_g (lw_at lw_m7 139 rfl) rfl
theorem q1712 : (Jvm.Cond.methodLink "InchBorders" (429 : Nat) ({ cls := "InchBorders$BookReader", name := "read", desc := "()Ljava/util/ArrayList;" } : Jvm.MethodName)) ∈ lw_all := lw_g (lw_at lw_m7 161 rfl) rfl
theorem q1780 : (Jvm.Cond.methodLink "InchBorders" (432 : Nat) ({ cls := "InchBorders", name := "lived", desc := "(Ljava/util/ArrayList;Z)I" } : Jvm.MethodName)) ∈ lw_all := lw_g (lw_at lw_m7 229 rfl) rfl
theorem q1781 : (Jvm.Cond.privateMethod ({ cls := "InchBorders", name := "lived", desc := "(Ljava/util/ArrayList;Z)I" } : Jvm.MethodName)) ∈ lw_tbl := lw_at lw_m7 230 rfl
theorem q1782 : (Jvm.Cond.instanceMethod ({ cls := "InchBorders", name := "lived", desc := "(Ljava/util/ArrayList;Z)I" } : Jvm.MethodName)) ∈ lw_all := lw_g (lw_at lw_m7 231 rfl) rfl
theorem q1783 : (Jvm.Cond.code ({ cls := "InchBorders", name := "lived", desc := "(Ljava/util/ArrayList;Z)I" } : Jvm.MethodName) prog_1_method_58_code (5 : Nat) (Option.some Jvm.ClassFile.FieldType.int)) ∈ lw_all := lw_g (lw_at lw_m7 232 rfl) rfl
theorem q1784 : (Jvm.Cond.classLink "InchBorders" (244 : Nat) "InchBorders$Act") ∈ lw_all := lw_g (lw_at lw_m7 233 rfl) rfl
theorem q1786 : (Jvm.Cond.instanceMethod ({ cls := "InchBorders", name := "told", desc := "(I)I" } : Jvm.MethodName)) ∈ lw_all := lw_g (lw_at lw_m7 235 rfl) rfl
theorem q1787 : (Jvm.Cond.selects "InchBorders" ({ cls := "InchBorders", name := "told", desc := "(I)I" } : Jvm.MethodName) ({ cls := "InchBorders", name := "told", desc := "(I)I" } : Jvm.MethodName)) ∈ lw_all := lw_g (lw_at lw_m7 236 rfl) rfl
theorem q1788 : (Jvm.Cond.code ({ cls := "InchBorders", name := "told", desc := "(I)I" } : Jvm.MethodName) prog_1_method_59_code (2 : Nat) (Option.some Jvm.ClassFile.FieldType.int)) ∈ lw_all := lw_g (lw_at lw_m7 237 rfl) rfl
theorem q1790 : (Jvm.Cond.instanceMethod ({ cls := "InchBorders", name := "sentence", desc := "()I" } : Jvm.MethodName)) ∈ lw_all := lw_g (lw_at lw_m7 239 rfl) rfl
theorem q1791 : (Jvm.Cond.selects "InchBorders" ({ cls := "InchBorders", name := "sentence", desc := "()I" } : Jvm.MethodName) ({ cls := "InchBorders", name := "sentence", desc := "()I" } : Jvm.MethodName)) ∈ lw_all := lw_g (lw_at lw_m8 0 rfl) rfl
theorem q1792 : (Jvm.Cond.codeWith ({ cls := "InchBorders", name := "sentence", desc := "()I" } : Jvm.MethodName) prog_1_method_60_code (3 : Nat) (Option.some Jvm.ClassFile.FieldType.int) [((10 : Nat), (39 : Nat), (40 : Nat), (119 : Nat))]) ∈ lw_all := lw_g (lw_at lw_m8 1 rfl) rfl
theorem q1793 : (Jvm.Cond.classLink "InchBorders" (436 : Nat) "InchBorders$SentenceReader") ∈ lw_all := lw_g (lw_at lw_m8 2 rfl) rfl
theorem q1795 : (Jvm.Cond.methodLink "InchBorders" (438 : Nat) ({ cls := "InchBorders$SentenceReader", name := "<init>", desc := "([BILInchBorders$Atlas;)V" } : Jvm.MethodName)) ∈ lw_all := lw_g (lw_at lw_m8 4 rfl) rfl
theorem q1801 : (Jvm.Cond.fieldLinkNest "InchBorders" (442 : Nat) "InchBorders$SentenceReader" "ones" "I" "InchBorders") ∈ lw_tbl := lw_at lw_m8 10 rfl
theorem q1819 : (Jvm.Cond.methodLink "InchBorders" (439 : Nat) ({ cls := "InchBorders$SentenceReader", name := "read", desc := "()LInchBorders$Cond;" } : Jvm.MethodName)) ∈ lw_all := lw_g (lw_at lw_m8 28 rfl) rfl
theorem q1947 : (Jvm.Cond.instanceMethod ({ cls := "InchBorders", name := "said", desc := "(I)I" } : Jvm.MethodName)) ∈ lw_all := lw_g (lw_at lw_m8 156 rfl) rfl
theorem q1948 : (Jvm.Cond.selects "InchBorders" ({ cls := "InchBorders", name := "said", desc := "(I)I" } : Jvm.MethodName) ({ cls := "InchBorders", name := "said", desc := "(I)I" } : Jvm.MethodName)) ∈ lw_all := lw_g (lw_at lw_m8 157 rfl) rfl
theorem q1949 : (Jvm.Cond.code ({ cls := "InchBorders", name := "said", desc := "(I)I" } : Jvm.MethodName) prog_1_method_61_code (4 : Nat) (Option.some Jvm.ClassFile.FieldType.int)) ∈ lw_all := lw_g (lw_at lw_m8 158 rfl) rfl
theorem q1950 : (Jvm.Cond.methodLink "InchBorders" (445 : Nat) ({ cls := "InchBorders$Cond", name := "holds", desc := "(LInchBorders$Times;I)Z" } : Jvm.MethodName)) ∈ lw_all := lw_g (lw_at lw_m8 159 rfl) rfl
theorem q1975 : (Jvm.Cond.instanceMethod ({ cls := "InchBorders", name := "image", desc := "(I)Z" } : Jvm.MethodName)) ∈ lw_all := lw_g (lw_at lw_m8 184 rfl) rfl
theorem q1976 : (Jvm.Cond.selects "InchBorders" ({ cls := "InchBorders", name := "image", desc := "(I)Z" } : Jvm.MethodName) ({ cls := "InchBorders", name := "image", desc := "(I)Z" } : Jvm.MethodName)) ∈ lw_all := lw_g (lw_at lw_m8 185 rfl) rfl
theorem q1977 : (Jvm.Cond.code ({ cls := "InchBorders", name := "image", desc := "(I)Z" } : Jvm.MethodName) prog_1_method_62_code (2 : Nat) (Option.some Jvm.ClassFile.FieldType.boolean)) ∈ lw_all := lw_g (lw_at lw_m8 186 rfl) rfl
theorem q1979 : (Jvm.Cond.instanceMethod ({ cls := "InchBorders", name := "restore", desc := "(I)Z" } : Jvm.MethodName)) ∈ lw_all := lw_g (lw_at lw_m8 188 rfl) rfl
theorem q1980 : (Jvm.Cond.selects "InchBorders" ({ cls := "InchBorders", name := "restore", desc := "(I)Z" } : Jvm.MethodName) ({ cls := "InchBorders", name := "restore", desc := "(I)Z" } : Jvm.MethodName)) ∈ lw_all := lw_g (lw_at lw_m8 189 rfl) rfl
theorem q1981 : (Jvm.Cond.code ({ cls := "InchBorders", name := "restore", desc := "(I)Z" } : Jvm.MethodName) prog_1_method_63_code (2 : Nat) (Option.some Jvm.ClassFile.FieldType.boolean)) ∈ lw_all := lw_g (lw_at lw_m8 190 rfl) rfl
theorem q1983 : (Jvm.Cond.instanceMethod ({ cls := "InchBorders", name := "count", desc := "(I)I" } : Jvm.MethodName)) ∈ lw_all := lw_g (lw_at lw_m8 192 rfl) rfl
theorem q1984 : (Jvm.Cond.selects "InchBorders" ({ cls := "InchBorders", name := "count", desc := "(I)I" } : Jvm.MethodName) ({ cls := "InchBorders", name := "count", desc := "(I)I" } : Jvm.MethodName)) ∈ lw_all := lw_g (lw_at lw_m8 193 rfl) rfl
theorem q1985 : (Jvm.Cond.code ({ cls := "InchBorders", name := "count", desc := "(I)I" } : Jvm.MethodName) prog_1_method_64_code (2 : Nat) (Option.some Jvm.ClassFile.FieldType.int)) ∈ lw_all := lw_g (lw_at lw_m8 194 rfl) rfl
theorem q1991 : (Jvm.Cond.instanceMethod ({ cls := "InchBorders", name := "person", desc := "(II)I" } : Jvm.MethodName)) ∈ lw_all := lw_g (lw_at lw_m8 200 rfl) rfl
theorem q1992 : (Jvm.Cond.selects "InchBorders" ({ cls := "InchBorders", name := "person", desc := "(II)I" } : Jvm.MethodName) ({ cls := "InchBorders", name := "person", desc := "(II)I" } : Jvm.MethodName)) ∈ lw_all := lw_g (lw_at lw_m8 201 rfl) rfl
theorem q1993 : (Jvm.Cond.code ({ cls := "InchBorders", name := "person", desc := "(II)I" } : Jvm.MethodName) prog_1_method_17_code (3 : Nat) (Option.some Jvm.ClassFile.FieldType.int)) ∈ lw_all := lw_g (lw_at lw_m8 202 rfl) rfl
theorem q1994 : (Jvm.Cond.methodLink "InchBorders" (151 : Nat) ({ cls := "InchBorders", name := "need", desc := "(Z)V" } : Jvm.MethodName)) ∈ lw_all := lw_g (lw_at lw_m8 203 rfl) rfl
theorem q1995 : (Jvm.Cond.static ({ cls := "InchBorders", name := "need", desc := "(Z)V" } : Jvm.MethodName)) ∈ lw_all := lw_g (lw_at lw_m8 204 rfl) rfl
theorem q1996 : (Jvm.Cond.code ({ cls := "InchBorders", name := "need", desc := "(Z)V" } : Jvm.MethodName) prog_1_method_4_code (1 : Nat) (Option.none : Option Jvm.ClassFile.FieldType)) ∈ lw_all := lw_g (lw_at lw_m8 205 rfl) rfl
theorem q1997 : (Jvm.Cond.classLink "InchBorders" (7 : Nat) "java/util/NoSuchElementException") ∈ lw_all := lw_g (lw_at lw_m8 206 rfl) rfl
theorem q2008 : (Jvm.Cond.methodLink "InchBorders" (9 : Nat) ({ cls := "java/util/NoSuchElementException", name := "<init>", desc := "()V" } : Jvm.MethodName)) ∈ lw_all := lw_g (lw_at lw_m8 217 rfl) rfl
theorem q2733 : (Jvm.Cond.castable "InchBorders" "java/lang/Object") ∈ lw_tbl := lw_at lw_m11 222 rfl
theorem in_X1 : ∀ w ∈ wsX10, w ∈ lw_all := lw_in wsX10 [393, 395, 397, 399, 401, 403, 405, 407, 409, 411, 413, 415, 417, 419, 421, 423, 425, 427, 429, 431, 433, 435, 437, 439] (by decide +kernel) (by decide +kernel)
