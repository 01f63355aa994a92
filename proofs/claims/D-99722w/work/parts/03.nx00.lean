/-! InchBordersLaw -/
set_option maxRecDepth 100000
def RX0 : String := "InchBordersLaw"
abbrev cX0_person : ByteArray := method_3_code
def yX0_person : MethodName := ⟨RX0, "person", "(LInchBorders;II[J)I"⟩
def dkwX0_person_0 : List UInt8 := [45, 3, 42, 27, 28, 182, 0, 7, 133, 80, 167, 0, 7, 58, 4, 4, 172, 3, 172]
abbrev dktX0_person_0 : List UInt8 := dkwX0_person_0 ++ []
theorem dksX0_person_0 : cX0_person.data.toList.drop 0 = dktX0_person_0 := by decide +kernel
theorem dX0_person_0 : decode cX0_person 0 = .ok (.aload_n 3, 1) := dk_45 (dk_at dksX0_person_0 0 rfl rfl)
theorem dX0_person_1 : decode cX0_person 1 = .ok (.iconst 0, 1) := dk_3 (dk_at dksX0_person_0 1 rfl rfl)
theorem dX0_person_2 : decode cX0_person 2 = .ok (.aload_n 0, 1) := dk_42 (dk_at dksX0_person_0 2 rfl rfl)
theorem dX0_person_3 : decode cX0_person 3 = .ok (.iload_n 1, 1) := dk_27 (dk_at dksX0_person_0 3 rfl rfl)
theorem dX0_person_4 : decode cX0_person 4 = .ok (.iload_n 2, 1) := dk_28 (dk_at dksX0_person_0 4 rfl rfl)
theorem dX0_person_5 : decode cX0_person 5 = .ok (.invokevirtual 7, 3) := dk_182 0 7 (dk_at dksX0_person_0 5 rfl rfl)
theorem dX0_person_8 : decode cX0_person 8 = .ok (.i2l, 1) := dk_133 (dk_at dksX0_person_0 8 rfl rfl)
theorem dX0_person_9 : decode cX0_person 9 = .ok (.lastore, 1) := dk_80 (dk_at dksX0_person_0 9 rfl rfl)
theorem dX0_person_10 : decode cX0_person 10 = .ok (.goto 7, 3) := dk_167 0 7 (dk_at dksX0_person_0 10 rfl rfl)
theorem dX0_person_13 : decode cX0_person 13 = .ok (.astore 4, 2) := dk_58 4 (dk_at dksX0_person_0 13 rfl rfl)
theorem dX0_person_15 : decode cX0_person 15 = .ok (.iconst 1, 1) := dk_4 (dk_at dksX0_person_0 15 rfl rfl)
theorem dX0_person_16 : decode cX0_person 16 = .ok (.ireturn, 1) := dk_172 (dk_at dksX0_person_0 16 rfl rfl)
theorem dX0_person_17 : decode cX0_person 17 = .ok (.iconst 0, 1) := dk_3 (dk_at dksX0_person_0 17 rfl rfl)
theorem dX0_person_18 : decode cX0_person 18 = .ok (.ireturn, 1) := dk_172 (dk_at dksX0_person_0 18 rfl rfl)
theorem q111 : (Jvm.Cond.initialized "InchBordersLaw") ∈ lw_all := lw_g (lw_at lw_m1 0 rfl) rfl
theorem q163 : (Jvm.Cond.classLink "InchBordersLaw" (8 : Nat) "InchBorders") ∈ lw_all := lw_g (lw_at lw_m1 52 rfl) rfl
theorem q165 : (Jvm.Cond.methodLink "InchBordersLaw" (15 : Nat) ({ cls := "InchBorders", name := "<init>", desc := "()V" } : Jvm.MethodName)) ∈ lw_all := lw_g (lw_at lw_m1 54 rfl) rfl
theorem q442 : (Jvm.Cond.methodLink "InchBordersLaw" (19 : Nat) ({ cls := "InchBorders", name := "feed", desc := "(IIIII)I" } : Jvm.MethodName)) ∈ lw_all := lw_g (lw_at lw_m2 91 rfl) rfl
theorem q450 : (Jvm.Cond.methodLink "InchBordersLaw" (24 : Nat) ({ cls := "InchBorders", name := "end", desc := "(I)Z" } : Jvm.MethodName)) ∈ lw_all := lw_g (lw_at lw_m2 99 rfl) rfl
theorem q454 : (Jvm.Cond.methodLink "InchBordersLaw" (29 : Nat) ({ cls := "InchBorders", name := "map", desc := "()I" } : Jvm.MethodName)) ∈ lw_all := lw_g (lw_at lw_m2 103 rfl) rfl
theorem q1122 : (Jvm.Cond.methodLink "InchBordersLaw" (34 : Nat) ({ cls := "InchBorders", name := "fault", desc := "()I" } : Jvm.MethodName)) ∈ lw_all := lw_g (lw_at lw_m5 51 rfl) rfl
theorem q1126 : (Jvm.Cond.methodLink "InchBordersLaw" (47 : Nat) ({ cls := "InchBorders", name := "land", desc := "(II)I" } : Jvm.MethodName)) ∈ lw_all := lw_g (lw_at lw_m5 55 rfl) rfl
theorem q1150 : (Jvm.Cond.methodLink "InchBordersLaw" (51 : Nat) ({ cls := "InchBorders", name := "road", desc := "(II)I" } : Jvm.MethodName)) ∈ lw_all := lw_g (lw_at lw_m5 79 rfl) rfl
theorem q1159 : (Jvm.Cond.methodLink "InchBordersLaw" (55 : Nat) ({ cls := "InchBorders", name := "now", desc := "(I)I" } : Jvm.MethodName)) ∈ lw_all := lw_g (lw_at lw_m5 88 rfl) rfl
theorem q1204 : (Jvm.Cond.methodLink "InchBordersLaw" (60 : Nat) ({ cls := "InchBorders", name := "cross", desc := "(II)I" } : Jvm.MethodName)) ∈ lw_all := lw_g (lw_at lw_m5 133 rfl) rfl
theorem q1303 : (Jvm.Cond.methodLink "InchBordersLaw" (64 : Nat) ({ cls := "InchBorders", name := "pact", desc := "(II)I" } : Jvm.MethodName)) ∈ lw_all := lw_g (lw_at lw_m5 232 rfl) rfl
theorem q1338 : (Jvm.Cond.methodLink "InchBordersLaw" (68 : Nat) ({ cls := "InchBorders", name := "breaks", desc := "(II)I" } : Jvm.MethodName)) ∈ lw_all := lw_g (lw_at lw_m6 27 rfl) rfl
theorem q1342 : (Jvm.Cond.methodLink "InchBordersLaw" (72 : Nat) ({ cls := "InchBorders", name := "close", desc := "(I)I" } : Jvm.MethodName)) ∈ lw_all := lw_g (lw_at lw_m6 31 rfl) rfl
theorem q1364 : (Jvm.Cond.methodLink "InchBordersLaw" (76 : Nat) ({ cls := "InchBorders", name := "open", desc := "(I)I" } : Jvm.MethodName)) ∈ lw_all := lw_g (lw_at lw_m6 53 rfl) rfl
theorem q1368 : (Jvm.Cond.methodLink "InchBordersLaw" (80 : Nat) ({ cls := "InchBorders", name := "lend", desc := "(III)I" } : Jvm.MethodName)) ∈ lw_all := lw_g (lw_at lw_m6 57 rfl) rfl
theorem q1384 : (Jvm.Cond.methodLink "InchBordersLaw" (85 : Nat) ({ cls := "InchBorders", name := "days", desc := "(I)I" } : Jvm.MethodName)) ∈ lw_all := lw_g (lw_at lw_m6 73 rfl) rfl
theorem q1390 : (Jvm.Cond.methodLink "InchBordersLaw" (89 : Nat) ({ cls := "InchBorders", name := "undo", desc := "()I" } : Jvm.MethodName)) ∈ lw_all := lw_g (lw_at lw_m6 79 rfl) rfl
theorem q1394 : (Jvm.Cond.methodLink "InchBordersLaw" (93 : Nat) ({ cls := "InchBorders", name := "way", desc := "(III)I" } : Jvm.MethodName)) ∈ lw_all := lw_g (lw_at lw_m6 83 rfl) rfl
theorem q1472 : (Jvm.Cond.methodLink "InchBordersLaw" (97 : Nat) ({ cls := "InchBorders", name := "wayAt", desc := "(I)I" } : Jvm.MethodName)) ∈ lw_all := lw_g (lw_at lw_m6 161 rfl) rfl
theorem q1476 : (Jvm.Cond.methodLink "InchBordersLaw" (101 : Nat) ({ cls := "InchBorders", name := "round", desc := "(I)I" } : Jvm.MethodName)) ∈ lw_all := lw_g (lw_at lw_m6 165 rfl) rfl
theorem q1501 : (Jvm.Cond.methodLink "InchBordersLaw" (105 : Nat) ({ cls := "InchBorders", name := "spare", desc := "(III)I" } : Jvm.MethodName)) ∈ lw_all := lw_g (lw_at lw_m6 190 rfl) rfl
theorem q1513 : (Jvm.Cond.methodLink "InchBordersLaw" (109 : Nat) ({ cls := "InchBorders", name := "spared", desc := "()I" } : Jvm.MethodName)) ∈ lw_all := lw_g (lw_at lw_m6 202 rfl) rfl
theorem q1517 : (Jvm.Cond.methodLink "InchBordersLaw" (113 : Nat) ({ cls := "InchBorders", name := "made", desc := "()I" } : Jvm.MethodName)) ∈ lw_all := lw_g (lw_at lw_m6 206 rfl) rfl
theorem q1561 : (Jvm.Cond.methodLink "InchBordersLaw" (117 : Nat) ({ cls := "InchBorders", name := "madeAt", desc := "(I)I" } : Jvm.MethodName)) ∈ lw_all := lw_g (lw_at lw_m7 10 rfl) rfl
theorem q1565 : (Jvm.Cond.methodLink "InchBordersLaw" (121 : Nat) ({ cls := "InchBorders", name := "likely", desc := "()I" } : Jvm.MethodName)) ∈ lw_all := lw_g (lw_at lw_m7 14 rfl) rfl
theorem q1569 : (Jvm.Cond.methodLink "InchBordersLaw" (125 : Nat) ({ cls := "InchBorders", name := "caravan", desc := "(I)I" } : Jvm.MethodName)) ∈ lw_all := lw_g (lw_at lw_m7 18 rfl) rfl
theorem q1584 : (Jvm.Cond.methodLink "InchBordersLaw" (129 : Nat) ({ cls := "InchBorders", name := "caravanAt", desc := "(I)I" } : Jvm.MethodName)) ∈ lw_all := lw_g (lw_at lw_m7 33 rfl) rfl
theorem q1588 : (Jvm.Cond.methodLink "InchBordersLaw" (133 : Nat) ({ cls := "InchBorders", name := "part", desc := "(II)I" } : Jvm.MethodName)) ∈ lw_all := lw_g (lw_at lw_m7 37 rfl) rfl
theorem q1596 : (Jvm.Cond.methodLink "InchBordersLaw" (137 : Nat) ({ cls := "InchBorders", name := "parting", desc := "()I" } : Jvm.MethodName)) ∈ lw_all := lw_g (lw_at lw_m7 45 rfl) rfl
theorem q1600 : (Jvm.Cond.methodLink "InchBordersLaw" (141 : Nat) ({ cls := "InchBorders", name := "rests", desc := "()I" } : Jvm.MethodName)) ∈ lw_all := lw_g (lw_at lw_m7 49 rfl) rfl
theorem q1609 : (Jvm.Cond.methodLink "InchBordersLaw" (145 : Nat) ({ cls := "InchBorders", name := "pass", desc := "(I)I" } : Jvm.MethodName)) ∈ lw_all := lw_g (lw_at lw_m7 58 rfl) rfl
theorem q1647 : (Jvm.Cond.methodLink "InchBordersLaw" (149 : Nat) ({ cls := "InchBorders", name := "byteAt", desc := "(I)I" } : Jvm.MethodName)) ∈ lw_all := lw_g (lw_at lw_m7 96 rfl) rfl
theorem q1662 : (Jvm.Cond.methodLink "InchBordersLaw" (153 : Nat) ({ cls := "InchBorders", name := "drawn", desc := "(II)I" } : Jvm.MethodName)) ∈ lw_all := lw_g (lw_at lw_m7 111 rfl) rfl
theorem q1680 : (Jvm.Cond.methodLink "InchBordersLaw" (157 : Nat) ({ cls := "InchBorders", name := "odds", desc := "(III)I" } : Jvm.MethodName)) ∈ lw_all := lw_g (lw_at lw_m7 129 rfl) rfl
theorem q1684 : (Jvm.Cond.methodLink "InchBordersLaw" (161 : Nat) ({ cls := "InchBorders", name := "book", desc := "(I)I" } : Jvm.MethodName)) ∈ lw_all := lw_g (lw_at lw_m7 133 rfl) rfl
theorem q1785 : (Jvm.Cond.methodLink "InchBordersLaw" (165 : Nat) ({ cls := "InchBorders", name := "told", desc := "(I)I" } : Jvm.MethodName)) ∈ lw_all := lw_g (lw_at lw_m7 234 rfl) rfl
theorem q1789 : (Jvm.Cond.methodLink "InchBordersLaw" (169 : Nat) ({ cls := "InchBorders", name := "sentence", desc := "()I" } : Jvm.MethodName)) ∈ lw_all := lw_g (lw_at lw_m7 238 rfl) rfl
theorem q1946 : (Jvm.Cond.methodLink "InchBordersLaw" (173 : Nat) ({ cls := "InchBorders", name := "said", desc := "(I)I" } : Jvm.MethodName)) ∈ lw_all := lw_g (lw_at lw_m8 155 rfl) rfl
theorem q1974 : (Jvm.Cond.methodLink "InchBordersLaw" (177 : Nat) ({ cls := "InchBorders", name := "image", desc := "(I)Z" } : Jvm.MethodName)) ∈ lw_all := lw_g (lw_at lw_m8 183 rfl) rfl
theorem q1978 : (Jvm.Cond.methodLink "InchBordersLaw" (181 : Nat) ({ cls := "InchBorders", name := "restore", desc := "(I)Z" } : Jvm.MethodName)) ∈ lw_all := lw_g (lw_at lw_m8 187 rfl) rfl
theorem q1982 : (Jvm.Cond.methodLink "InchBordersLaw" (185 : Nat) ({ cls := "InchBorders", name := "count", desc := "(I)I" } : Jvm.MethodName)) ∈ lw_all := lw_g (lw_at lw_m8 191 rfl) rfl
theorem q1986 : (Jvm.Cond.methodLink "InchBordersLaw" (38 : Nat) ({ cls := "InchBordersLaw", name := "person", desc := "(LInchBorders;II[J)I" } : Jvm.MethodName)) ∈ lw_all := lw_g (lw_at lw_m8 195 rfl) rfl
theorem q1987 : (Jvm.Cond.static ({ cls := "InchBordersLaw", name := "person", desc := "(LInchBorders;II[J)I" } : Jvm.MethodName)) ∈ lw_all := lw_g (lw_at lw_m8 196 rfl) rfl
theorem q1988 : (Jvm.Cond.codeWith ({ cls := "InchBordersLaw", name := "person", desc := "(LInchBorders;II[J)I" } : Jvm.MethodName) method_3_code (5 : Nat) (Option.some Jvm.ClassFile.FieldType.int) [((0 : Nat), (10 : Nat), (13 : Nat), (13 : Nat))]) ∈ lw_all := lw_g (lw_at lw_m8 197 rfl) rfl
theorem q1989 : (Jvm.Cond.classLink "InchBordersLaw" (13 : Nat) "java/util/NoSuchElementException") ∈ lw_all := lw_g (lw_at lw_m8 198 rfl) rfl
theorem q1990 : (Jvm.Cond.methodLink "InchBordersLaw" (7 : Nat) ({ cls := "InchBorders", name := "person", desc := "(II)I" } : Jvm.MethodName)) ∈ lw_all := lw_g (lw_at lw_m8 199 rfl) rfl
theorem q2020 : (Jvm.Cond.methodLink "InchBordersLaw" (44 : Nat) ({ cls := "InchBordersModel", name := "thrown", desc := "()I" } : Jvm.MethodName)) ∈ lw_all := lw_g (lw_at lw_m8 229 rfl) rfl
theorem q2024 : (Jvm.Cond.methodLink "InchBordersLaw" (23 : Nat) ({ cls := "InchBordersModel", name := "feed", desc := "(IIIII)I" } : Jvm.MethodName)) ∈ lw_all := lw_g (lw_at lw_m8 233 rfl) rfl
theorem q2033 : (Jvm.Cond.methodLink "InchBordersLaw" (28 : Nat) ({ cls := "InchBordersModel", name := "end", desc := "(I)Z" } : Jvm.MethodName)) ∈ lw_all := lw_g (lw_at lw_m9 2 rfl) rfl
theorem q2037 : (Jvm.Cond.classLink "InchBordersLaw" (16 : Nat) "InchBordersModel") ∈ lw_all := lw_g (lw_at lw_m9 6 rfl) rfl
theorem q2038 : (Jvm.Cond.methodLink "InchBordersLaw" (18 : Nat) ({ cls := "InchBordersModel", name := "<init>", desc := "()V" } : Jvm.MethodName)) ∈ lw_all := lw_g (lw_at lw_m9 7 rfl) rfl
theorem q2253 : (Jvm.Cond.methodLink "InchBordersLaw" (33 : Nat) ({ cls := "InchBordersModel", name := "map", desc := "()I" } : Jvm.MethodName)) ∈ lw_all := lw_g (lw_at lw_m9 222 rfl) rfl
theorem q2349 : (Jvm.Cond.methodLink "InchBordersLaw" (37 : Nat) ({ cls := "InchBordersModel", name := "fault", desc := "()I" } : Jvm.MethodName)) ∈ lw_all := lw_g (lw_at lw_m10 78 rfl) rfl
theorem q2353 : (Jvm.Cond.methodLink "InchBordersLaw" (43 : Nat) ({ cls := "InchBordersModel", name := "person", desc := "(II)I" } : Jvm.MethodName)) ∈ lw_all := lw_g (lw_at lw_m10 82 rfl) rfl
theorem q2389 : (Jvm.Cond.methodLink "InchBordersLaw" (50 : Nat) ({ cls := "InchBordersModel", name := "land", desc := "(II)I" } : Jvm.MethodName)) ∈ lw_all := lw_g (lw_at lw_m10 118 rfl) rfl
theorem q2397 : (Jvm.Cond.methodLink "InchBordersLaw" (54 : Nat) ({ cls := "InchBordersModel", name := "road", desc := "(II)I" } : Jvm.MethodName)) ∈ lw_all := lw_g (lw_at lw_m10 126 rfl) rfl
theorem q2401 : (Jvm.Cond.methodLink "InchBordersLaw" (59 : Nat) ({ cls := "InchBordersModel", name := "now", desc := "(I)I" } : Jvm.MethodName)) ∈ lw_all := lw_g (lw_at lw_m10 130 rfl) rfl
theorem q2412 : (Jvm.Cond.methodLink "InchBordersLaw" (63 : Nat) ({ cls := "InchBordersModel", name := "cross", desc := "(II)I" } : Jvm.MethodName)) ∈ lw_all := lw_g (lw_at lw_m10 141 rfl) rfl
theorem q2431 : (Jvm.Cond.methodLink "InchBordersLaw" (67 : Nat) ({ cls := "InchBordersModel", name := "pact", desc := "(II)I" } : Jvm.MethodName)) ∈ lw_all := lw_g (lw_at lw_m10 160 rfl) rfl
theorem q2439 : (Jvm.Cond.methodLink "InchBordersLaw" (71 : Nat) ({ cls := "InchBordersModel", name := "breaks", desc := "(II)I" } : Jvm.MethodName)) ∈ lw_all := lw_g (lw_at lw_m10 168 rfl) rfl
theorem q2443 : (Jvm.Cond.methodLink "InchBordersLaw" (75 : Nat) ({ cls := "InchBordersModel", name := "close", desc := "(I)I" } : Jvm.MethodName)) ∈ lw_all := lw_g (lw_at lw_m10 172 rfl) rfl
theorem q2455 : (Jvm.Cond.methodLink "InchBordersLaw" (79 : Nat) ({ cls := "InchBordersModel", name := "open", desc := "(I)I" } : Jvm.MethodName)) ∈ lw_all := lw_g (lw_at lw_m10 184 rfl) rfl
theorem q2459 : (Jvm.Cond.methodLink "InchBordersLaw" (84 : Nat) ({ cls := "InchBordersModel", name := "lend", desc := "(III)I" } : Jvm.MethodName)) ∈ lw_all := lw_g (lw_at lw_m10 188 rfl) rfl
theorem q2471 : (Jvm.Cond.methodLink "InchBordersLaw" (88 : Nat) ({ cls := "InchBordersModel", name := "days", desc := "(I)I" } : Jvm.MethodName)) ∈ lw_all := lw_g (lw_at lw_m10 200 rfl) rfl
theorem q2487 : (Jvm.Cond.methodLink "InchBordersLaw" (92 : Nat) ({ cls := "InchBordersModel", name := "undo", desc := "()I" } : Jvm.MethodName)) ∈ lw_all := lw_g (lw_at lw_m10 216 rfl) rfl
theorem q2491 : (Jvm.Cond.methodLink "InchBordersLaw" (96 : Nat) ({ cls := "InchBordersModel", name := "way", desc := "(III)I" } : Jvm.MethodName)) ∈ lw_all := lw_g (lw_at lw_m10 220 rfl) rfl
theorem q2512 : (Jvm.Cond.methodLink "InchBordersLaw" (100 : Nat) ({ cls := "InchBordersModel", name := "wayAt", desc := "(I)I" } : Jvm.MethodName)) ∈ lw_all := lw_g (lw_at lw_m11 1 rfl) rfl
theorem q2516 : (Jvm.Cond.methodLink "InchBordersLaw" (104 : Nat) ({ cls := "InchBordersModel", name := "round", desc := "(I)I" } : Jvm.MethodName)) ∈ lw_all := lw_g (lw_at lw_m11 5 rfl) rfl
theorem q2523 : (Jvm.Cond.methodLink "InchBordersLaw" (108 : Nat) ({ cls := "InchBordersModel", name := "spare", desc := "(III)I" } : Jvm.MethodName)) ∈ lw_all := lw_g (lw_at lw_m11 12 rfl) rfl
theorem q2527 : (Jvm.Cond.methodLink "InchBordersLaw" (112 : Nat) ({ cls := "InchBordersModel", name := "spared", desc := "()I" } : Jvm.MethodName)) ∈ lw_all := lw_g (lw_at lw_m11 16 rfl) rfl
theorem q2531 : (Jvm.Cond.methodLink "InchBordersLaw" (116 : Nat) ({ cls := "InchBordersModel", name := "made", desc := "()I" } : Jvm.MethodName)) ∈ lw_all := lw_g (lw_at lw_m11 20 rfl) rfl
theorem q2539 : (Jvm.Cond.methodLink "InchBordersLaw" (120 : Nat) ({ cls := "InchBordersModel", name := "madeAt", desc := "(I)I" } : Jvm.MethodName)) ∈ lw_all := lw_g (lw_at lw_m11 28 rfl) rfl
theorem q2543 : (Jvm.Cond.methodLink "InchBordersLaw" (124 : Nat) ({ cls := "InchBordersModel", name := "likely", desc := "()I" } : Jvm.MethodName)) ∈ lw_all := lw_g (lw_at lw_m11 32 rfl) rfl
theorem q2547 : (Jvm.Cond.methodLink "InchBordersLaw" (128 : Nat) ({ cls := "InchBordersModel", name := "caravan", desc := "(I)I" } : Jvm.MethodName)) ∈ lw_all := lw_g (lw_at lw_m11 36 rfl) rfl
theorem q2563 : (Jvm.Cond.methodLink "InchBordersLaw" (132 : Nat) ({ cls := "InchBordersModel", name := "caravanAt", desc := "(I)I" } : Jvm.MethodName)) ∈ lw_all := lw_g (lw_at lw_m11 52 rfl) rfl
theorem q2567 : (Jvm.Cond.methodLink "InchBordersLaw" (136 : Nat) ({ cls := "InchBordersModel", name := "part", desc := "(II)I" } : Jvm.MethodName)) ∈ lw_all := lw_g (lw_at lw_m11 56 rfl) rfl
theorem q2575 : (Jvm.Cond.methodLink "InchBordersLaw" (140 : Nat) ({ cls := "InchBordersModel", name := "parting", desc := "()I" } : Jvm.MethodName)) ∈ lw_all := lw_g (lw_at lw_m11 64 rfl) rfl
theorem q2579 : (Jvm.Cond.methodLink "InchBordersLaw" (144 : Nat) ({ cls := "InchBordersModel", name := "rests", desc := "()I" } : Jvm.MethodName)) ∈ lw_all := lw_g (lw_at lw_m11 68 rfl) rfl
theorem q2587 : (Jvm.Cond.methodLink "InchBordersLaw" (148 : Nat) ({ cls := "InchBordersModel", name := "pass", desc := "(I)I" } : Jvm.MethodName)) ∈ lw_all := lw_g (lw_at lw_m11 76 rfl) rfl
theorem q2604 : (Jvm.Cond.methodLink "InchBordersLaw" (152 : Nat) ({ cls := "InchBordersModel", name := "byteAt", desc := "(I)I" } : Jvm.MethodName)) ∈ lw_all := lw_g (lw_at lw_m11 93 rfl) rfl
theorem q2608 : (Jvm.Cond.methodLink "InchBordersLaw" (156 : Nat) ({ cls := "InchBordersModel", name := "drawn", desc := "(II)I" } : Jvm.MethodName)) ∈ lw_all := lw_g (lw_at lw_m11 97 rfl) rfl
theorem q2621 : (Jvm.Cond.methodLink "InchBordersLaw" (160 : Nat) ({ cls := "InchBordersModel", name := "odds", desc := "(III)I" } : Jvm.MethodName)) ∈ lw_all := lw_g (lw_at lw_m11 110 rfl) rfl
theorem q2625 : (Jvm.Cond.methodLink "InchBordersLaw" (164 : Nat) ({ cls := "InchBordersModel", name := "book", desc := "(I)I" } : Jvm.MethodName)) ∈ lw_all := lw_g (lw_at lw_m11 114 rfl) rfl
theorem q2637 : (Jvm.Cond.methodLink "InchBordersLaw" (168 : Nat) ({ cls := "InchBordersModel", name := "told", desc := "(I)I" } : Jvm.MethodName)) ∈ lw_all := lw_g (lw_at lw_m11 126 rfl) rfl
theorem q2641 : (Jvm.Cond.methodLink "InchBordersLaw" (172 : Nat) ({ cls := "InchBordersModel", name := "sentence", desc := "()I" } : Jvm.MethodName)) ∈ lw_all := lw_g (lw_at lw_m11 130 rfl) rfl
theorem q2669 : (Jvm.Cond.methodLink "InchBordersLaw" (176 : Nat) ({ cls := "InchBordersModel", name := "said", desc := "(I)I" } : Jvm.MethodName)) ∈ lw_all := lw_g (lw_at lw_m11 158 rfl) rfl
theorem q2681 : (Jvm.Cond.methodLink "InchBordersLaw" (180 : Nat) ({ cls := "InchBordersModel", name := "image", desc := "(I)Z" } : Jvm.MethodName)) ∈ lw_all := lw_g (lw_at lw_m11 170 rfl) rfl
theorem q2685 : (Jvm.Cond.methodLink "InchBordersLaw" (184 : Nat) ({ cls := "InchBordersModel", name := "restore", desc := "(I)Z" } : Jvm.MethodName)) ∈ lw_all := lw_g (lw_at lw_m11 174 rfl) rfl
theorem q2689 : (Jvm.Cond.methodLink "InchBordersLaw" (188 : Nat) ({ cls := "InchBordersModel", name := "count", desc := "(I)I" } : Jvm.MethodName)) ∈ lw_all := lw_g (lw_at lw_m11 178 rfl) rfl
