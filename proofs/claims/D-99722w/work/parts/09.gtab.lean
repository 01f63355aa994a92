/-! printed by gen/ctab.py: the component's classes by number, their fields by key -/
set_option maxRecDepth 100000
def gcl : List vw_C := [(RX1, TX1, 24), (RX2, TX2, 4), (RX3, TX3, 12), (RX4, TX4, 3), (RX7, TX7, 10), (RX8, TX8, 8), (RX10, TX10, 6), (RX11, TX11, 4), (RX12, TX12, 3), (RX14, TX14, 2), (RX15, TX15, 2), (RX17, TX17, 3), (RX18, TX18, 3), (RX20, TX20, 6), (RX21, TX21, 6), (RX22, TX22, 9), (RX23, TX23, 11), (RX24, TX24, 1), (RX25, TX25, 12), (RX27, TX27, 1), (RX28, TX28, 1), (RX29, TX29, 2), (RX30, TX30, 3), (RX31, TX31, 3), (RJ2, TJ2, 3), (RJ7, TJ7, 4), (RJ8, TJ8, 4), (RJ8, TJ8, 2)]
def gcf : Nat → List Nat := fun ci => match ci with
  | 0 => [0, 1, 2, 3, 4, 5, 6, 7, 8, 9, 10, 11, 12, 13, 14, 15, 16, 17, 18, 19, 20, 21, 22, 23]
  | 1 => [24, 25, 26, 27]
  | 2 => [28, 29, 30, 31, 32, 33, 34, 35, 36, 37, 38, 39]
  | 3 => [40, 41, 42]
  | 4 => [43, 44, 45, 46, 47, 48, 49, 50, 51, 52]
  | 5 => [53, 54, 55, 56, 57, 58, 59, 60]
  | 6 => [61, 62, 63, 64, 65, 66]
  | 7 => [67, 68, 69, 70]
  | 8 => [61, 71, 72]
  | 9 => [73, 74]
  | 10 => [75, 76]
  | 11 => [77, 78, 79]
  | 12 => [77, 78, 80]
  | 13 => [81, 82, 83, 84, 85, 86]
  | 14 => [81, 82, 83, 84, 87, 88]
  | 15 => [81, 82, 83, 84, 89, 90, 91, 92, 93]
  | 16 => [43, 44, 45, 46, 47, 48, 49, 50, 51, 94, 95]
  | 17 => [96]
  | 18 => [43, 44, 45, 46, 47, 48, 49, 50, 51, 97, 98, 99]
  | 19 => [100]
  | 20 => [101]
  | 21 => [102, 103]
  | 22 => [104, 105, 106]
  | 23 => [107, 108, 109]
  | 24 => [110, 111, 112]
  | 25 => [113, 114, 115, 116]
  | 26 => [117, 118, 119, 120]
  | 27 => [117, 118]
  | _ => []
def gfo : Nat → String × String × String × Bool := fun k => match k with
  | 0 => ("InchBorders", "tape", "[B", true)
  | 1 => ("InchBorders", "taped", "I", false)
  | 2 => ("InchBorders", "fault", "I", false)
  | 3 => ("InchBorders", "atlas", "LInchBorders$Atlas;", false)
  | 4 => ("InchBorders", "now", "LInchBorders$Times;", true)
  | 5 => ("InchBorders", "trial", "LInchBorders$Times;", true)
  | 6 => ("InchBorders", "sentence", "LInchBorders$Cond;", false)
  | 7 => ("InchBorders", "before", "[LInchBorders$Times;", true)
  | 8 => ("InchBorders", "befores", "I", false)
  | 9 => ("InchBorders", "way", "[I", true)
  | 10 => ("InchBorders", "made", "[I", true)
  | 11 => ("InchBorders", "ways", "I", false)
  | 12 => ("InchBorders", "mades", "I", false)
  | 13 => ("InchBorders", "spared", "I", false)
  | 14 => ("InchBorders", "likely", "I", false)
  | 15 => ("InchBorders", "going", "[I", true)
  | 16 => ("InchBorders", "caravan", "[I", true)
  | 17 => ("InchBorders", "goers", "I", false)
  | 18 => ("InchBorders", "caravans", "I", false)
  | 19 => ("InchBorders", "longest", "I", false)
  | 20 => ("InchBorders", "parting", "I", false)
  | 21 => ("InchBorders", "pass", "Ljava/lang/String;", false)
  | 22 => ("InchBorders", "told", "[I", true)
  | 23 => ("InchBorders", "kept", "[LInchBorders$Kept;", true)
  | 24 => ("InchBorders$Atlas", "lines", "I", false)
  | 25 => ("InchBorders$Atlas", "lands", "Ljava/util/ArrayList;", true)
  | 26 => ("InchBorders$Atlas", "roads", "Ljava/util/ArrayList;", true)
  | 27 => ("InchBorders$Atlas", "persons", "Ljava/util/ArrayList;", true)
  | 28 => ("InchBorders$Times", "a", "LInchBorders$Atlas;", false)
  | 29 => ("InchBorders$Times", "day", "I", false)
  | 30 => ("InchBorders$Times", "crossings", "I", false)
  | 31 => ("InchBorders$Times", "closed", "I", false)
  | 32 => ("InchBorders$Times", "store", "[I", true)
  | 33 => ("InchBorders$Times", "spares", "[I", true)
  | 34 => ("InchBorders$Times", "at", "[I", true)
  | 35 => ("InchBorders$Times", "tall", "[I", true)
  | 36 => ("InchBorders$Times", "taken", "[I", true)
  | 37 => ("InchBorders$Times", "given", "[I", true)
  | 38 => ("InchBorders$Times", "crossed", "[I", true)
  | 39 => ("InchBorders$Times", "seed", "I", false)
  | 40 => ("InchBorders$Kept", "atlas", "LInchBorders$Atlas;", false)
  | 41 => ("InchBorders$Kept", "sentence", "LInchBorders$Cond;", false)
  | 42 => ("InchBorders$Kept", "times", "LInchBorders$Times;", true)
  | 43 => ("InchBorders$Reader", "tape", "[B", true)
  | 44 => ("InchBorders$Reader", "size", "I", true)
  | 45 => ("InchBorders$Reader", "limit", "I", true)
  | 46 => ("InchBorders$Reader", "to", "I", false)
  | 47 => ("InchBorders$Reader", "kind", "I", false)
  | 48 => ("InchBorders$Reader", "from", "I", false)
  | 49 => ("InchBorders$Reader", "number", "I", false)
  | 50 => ("InchBorders$Reader", "sign", "I", false)
  | 51 => ("InchBorders$Reader", "word", "Ljava/lang/String;", false)
  | 52 => ("InchBorders$MapReader", "a", "LInchBorders$Atlas;", true)
  | 53 => ("java/lang/Throwable", "cause", "Ljava/lang/Throwable;", false)
  | 54 => ("java/lang/Throwable", "stackTrace", "[Ljava/lang/StackTraceElement;", false)
  | 55 => ("java/lang/Throwable", "suppressedExceptions", "Ljava/util/List;", false)
  | 56 => ("java/lang/Throwable", "detailMessage", "Ljava/lang/String;", false)
  | 57 => ("java/lang/Throwable", "backtrace", "Ljava/lang/Object;", false)
  | 58 => ("java/lang/Throwable", "depth", "I", false)
  | 59 => ("InchBorders$Fault", "kind", "I", true)
  | 60 => ("InchBorders$Fault", "place", "I", true)
  | 61 => ("InchBorders$Named", "name", "Ljava/lang/String;", true)
  | 62 => ("InchBorders$Land", "take", "I", true)
  | 63 => ("InchBorders$Land", "give", "I", true)
  | 64 => ("InchBorders$Land", "store", "I", false)
  | 65 => ("InchBorders$Land", "spares", "I", false)
  | 66 => ("InchBorders$Land", "told", "Z", false)
  | 67 => ("InchBorders$Road", "a", "I", true)
  | 68 => ("InchBorders$Road", "b", "I", true)
  | 69 => ("InchBorders$Road", "low", "I", true)
  | 70 => ("InchBorders$Road", "high", "I", true)
  | 71 => ("InchBorders$Person", "home", "I", true)
  | 72 => ("InchBorders$Person", "tall", "I", true)
  | 73 => ("InchBorders$Crosses", "person", "I", true)
  | 74 => ("InchBorders$Crosses", "land", "I", true)
  | 75 => ("InchBorders$Closes", "road", "I", true)
  | 76 => ("InchBorders$Closes", "close", "Z", true)
  | 77 => ("InchBorders$OfTwo", "one", "I", true)
  | 78 => ("InchBorders$OfTwo", "other", "I", true)
  | 79 => ("InchBorders$Lends", "many", "I", true)
  | 80 => ("InchBorders$Treats", "pact", "Z", true)
  | 81 => ("InchBorders$Walk", "t", "LInchBorders$Times;", true)
  | 82 => ("InchBorders$Walk", "home", "I", true)
  | 83 => ("InchBorders$Walk", "spared", "I", true)
  | 84 => ("InchBorders$Walk", "path", "[I", true)
  | 85 => ("InchBorders$Goal", "land", "I", true)
  | 86 => ("InchBorders$Goal", "least", "I", true)
  | 87 => ("InchBorders$Back", "from", "I", true)
  | 88 => ("InchBorders$Back", "most", "I", false)
  | 89 => ("InchBorders$Made", "tall", "I", true)
  | 90 => ("InchBorders$Made", "first", "[I", true)
  | 91 => ("InchBorders$Made", "ends", "[I", true)
  | 92 => ("InchBorders$Made", "rows", "I", false)
  | 93 => ("InchBorders$Made", "firsts", "I", false)
  | 94 => ("InchBorders$BookReader", "a", "LInchBorders$Atlas;", true)
  | 95 => ("InchBorders$BookReader", "acts", "Ljava/util/ArrayList;", true)
  | 96 => ("InchBorders$Passes", "many", "I", true)
  | 97 => ("InchBorders$SentenceReader", "a", "LInchBorders$Atlas;", true)
  | 98 => ("InchBorders$SentenceReader", "ones", "I", false)
  | 99 => ("InchBorders$SentenceReader", "within", "I", false)
  | 100 => ("InchBorders$Not", "c", "LInchBorders$Cond;", true)
  | 101 => ("InchBorders$IsSo", "home", "Z", true)
  | 102 => ("InchBorders$Of", "what", "I", true)
  | 103 => ("InchBorders$Of", "land", "I", true)
  | 104 => ("InchBorders$Than", "what", "I", true)
  | 105 => ("InchBorders$Than", "sign", "I", true)
  | 106 => ("InchBorders$Than", "number", "I", true)
  | 107 => ("InchBorders$Two", "one", "LInchBorders$Cond;", true)
  | 108 => ("InchBorders$Two", "other", "LInchBorders$Cond;", true)
  | 109 => ("InchBorders$Two", "both", "Z", true)
  | 110 => ("java/util/AbstractList", "modCount", "I", false)
  | 111 => ("java/util/ArrayList", "elementData", "[Ljava/lang/Object;", false)
  | 112 => ("java/util/ArrayList", "size", "I", false)
  | 113 => ("java/lang/AbstractStringBuilder", "value", "[B", false)
  | 114 => ("java/lang/AbstractStringBuilder", "coder", "B", false)
  | 115 => ("java/lang/AbstractStringBuilder", "maybeLatin1", "Z", false)
  | 116 => ("java/lang/AbstractStringBuilder", "count", "I", false)
  | 117 => ("java/lang/String", "value", "[B", true)
  | 118 => ("java/lang/String", "coder", "B", true)
  | 119 => ("java/lang/String", "hash", "I", false)
  | 120 => ("java/lang/String", "hashIsZero", "Z", false)
  | _ => ("", "", "", false)
def gdf : Nat → List Value := fun ci => match ci with
  | 0 => [.null, .int 0, .int 0, .null, .null, .null, .null, .null, .int 0, .null, .null, .int 0, .int 0, .int 0, .int 0, .null, .null, .int 0, .int 0, .int 0, .int 0, .null, .null, .null]
  | 1 => [.int 0, .null, .null, .null]
  | 2 => [.null, .int 0, .int 0, .int 0, .null, .null, .null, .null, .null, .null, .null, .int 0]
  | 3 => [.null, .null, .null]
  | 4 => [.null, .int 0, .int 0, .int 0, .int 0, .int 0, .int 0, .int 0, .null, .null]
  | 5 => [.null, .null, .null, .null, .null, .int 0, .int 0, .int 0]
  | 6 => [.null, .int 0, .int 0, .int 0, .int 0, .int 0]
  | 7 => [.int 0, .int 0, .int 0, .int 0]
  | 8 => [.null, .int 0, .int 0]
  | 9 => [.int 0, .int 0]
  | 10 => [.int 0, .int 0]
  | 11 => [.int 0, .int 0, .int 0]
  | 12 => [.int 0, .int 0, .int 0]
  | 13 => [.null, .int 0, .int 0, .null, .int 0, .int 0]
  | 14 => [.null, .int 0, .int 0, .null, .int 0, .int 0]
  | 15 => [.null, .int 0, .int 0, .null, .int 0, .null, .null, .int 0, .int 0]
  | 16 => [.null, .int 0, .int 0, .int 0, .int 0, .int 0, .int 0, .int 0, .null, .null, .null]
  | 17 => [.int 0]
  | 18 => [.null, .int 0, .int 0, .int 0, .int 0, .int 0, .int 0, .int 0, .null, .null, .int 0, .int 0]
  | 19 => [.null]
  | 20 => [.int 0]
  | 21 => [.int 0, .int 0]
  | 22 => [.int 0, .int 0, .int 0]
  | 23 => [.null, .null, .int 0]
  | 24 => [.int 0, .null, .int 0]
  | 25 => [.null, .int 0, .int 0, .int 0]
  | 26 => [.null, .int 0, .int 0, .int 0]
  | 27 => [.null, .int 0]
  | _ => []
theorem gt_0 : ∀ k, k < 24 → TX1 k = gfo ((gcf 0).getD k 0) := by decide +kernel
theorem gd_0 : ∀ j, j < 24 → defaultValue (tyX1 j) = vp_V (gdf 0) j := by
  intro j hj
  match j, hj with
  | 0, _ => rfl
  | 1, _ => rfl
  | 2, _ => rfl
  | 3, _ => rfl
  | 4, _ => rfl
  | 5, _ => rfl
  | 6, _ => rfl
  | 7, _ => rfl
  | 8, _ => rfl
  | 9, _ => rfl
  | 10, _ => rfl
  | 11, _ => rfl
  | 12, _ => rfl
  | 13, _ => rfl
  | 14, _ => rfl
  | 15, _ => rfl
  | 16, _ => rfl
  | 17, _ => rfl
  | 18, _ => rfl
  | 19, _ => rfl
  | 20, _ => rfl
  | 21, _ => rfl
  | 22, _ => rfl
  | 23, _ => rfl
  | k + 24, h => exact absurd h (by omega)
theorem gt_1 : ∀ k, k < 4 → TX2 k = gfo ((gcf 1).getD k 0) := by decide +kernel
theorem gd_1 : ∀ j, j < 4 → defaultValue (tyX2 j) = vp_V (gdf 1) j := by
  intro j hj
  match j, hj with
  | 0, _ => rfl
  | 1, _ => rfl
  | 2, _ => rfl
  | 3, _ => rfl
  | k + 4, h => exact absurd h (by omega)
theorem gt_2 : ∀ k, k < 12 → TX3 k = gfo ((gcf 2).getD k 0) := by decide +kernel
theorem gd_2 : ∀ j, j < 12 → defaultValue (tyX3 j) = vp_V (gdf 2) j := by
  intro j hj
  match j, hj with
  | 0, _ => rfl
  | 1, _ => rfl
  | 2, _ => rfl
  | 3, _ => rfl
  | 4, _ => rfl
  | 5, _ => rfl
  | 6, _ => rfl
  | 7, _ => rfl
  | 8, _ => rfl
  | 9, _ => rfl
  | 10, _ => rfl
  | 11, _ => rfl
  | k + 12, h => exact absurd h (by omega)
theorem gt_3 : ∀ k, k < 3 → TX4 k = gfo ((gcf 3).getD k 0) := by decide +kernel
theorem gd_3 : ∀ j, j < 3 → defaultValue (tyX4 j) = vp_V (gdf 3) j := by
  intro j hj
  match j, hj with
  | 0, _ => rfl
  | 1, _ => rfl
  | 2, _ => rfl
  | k + 3, h => exact absurd h (by omega)
theorem gt_4 : ∀ k, k < 10 → TX7 k = gfo ((gcf 4).getD k 0) := by decide +kernel
theorem gd_4 : ∀ j, j < 10 → defaultValue (tyX7 j) = vp_V (gdf 4) j := by
  intro j hj
  match j, hj with
  | 0, _ => rfl
  | 1, _ => rfl
  | 2, _ => rfl
  | 3, _ => rfl
  | 4, _ => rfl
  | 5, _ => rfl
  | 6, _ => rfl
  | 7, _ => rfl
  | 8, _ => rfl
  | 9, _ => rfl
  | k + 10, h => exact absurd h (by omega)
theorem gt_5 : ∀ k, k < 8 → TX8 k = gfo ((gcf 5).getD k 0) := by decide +kernel
theorem gd_5 : ∀ j, j < 8 → defaultValue (tyX8 j) = vp_V (gdf 5) j := by
  intro j hj
  match j, hj with
  | 0, _ => rfl
  | 1, _ => rfl
  | 2, _ => rfl
  | 3, _ => rfl
  | 4, _ => rfl
  | 5, _ => rfl
  | 6, _ => rfl
  | 7, _ => rfl
  | k + 8, h => exact absurd h (by omega)
theorem gt_6 : ∀ k, k < 6 → TX10 k = gfo ((gcf 6).getD k 0) := by decide +kernel
theorem gd_6 : ∀ j, j < 6 → defaultValue (tyX10 j) = vp_V (gdf 6) j := by
  intro j hj
  match j, hj with
  | 0, _ => rfl
  | 1, _ => rfl
  | 2, _ => rfl
  | 3, _ => rfl
  | 4, _ => rfl
  | 5, _ => rfl
  | k + 6, h => exact absurd h (by omega)
theorem gt_7 : ∀ k, k < 4 → TX11 k = gfo ((gcf 7).getD k 0) := by decide +kernel
theorem gd_7 : ∀ j, j < 4 → defaultValue (tyX11 j) = vp_V (gdf 7) j := by
  intro j hj
  match j, hj with
  | 0, _ => rfl
  | 1, _ => rfl
  | 2, _ => rfl
  | 3, _ => rfl
  | k + 4, h => exact absurd h (by omega)
theorem gt_8 : ∀ k, k < 3 → TX12 k = gfo ((gcf 8).getD k 0) := by decide +kernel
theorem gd_8 : ∀ j, j < 3 → defaultValue (tyX12 j) = vp_V (gdf 8) j := by
  intro j hj
  match j, hj with
  | 0, _ => rfl
  | 1, _ => rfl
  | 2, _ => rfl
  | k + 3, h => exact absurd h (by omega)
theorem gt_9 : ∀ k, k < 2 → TX14 k = gfo ((gcf 9).getD k 0) := by decide +kernel
theorem gd_9 : ∀ j, j < 2 → defaultValue (tyX14 j) = vp_V (gdf 9) j := by
  intro j hj
  match j, hj with
  | 0, _ => rfl
  | 1, _ => rfl
  | k + 2, h => exact absurd h (by omega)
theorem gt_10 : ∀ k, k < 2 → TX15 k = gfo ((gcf 10).getD k 0) := by decide +kernel
theorem gd_10 : ∀ j, j < 2 → defaultValue (tyX15 j) = vp_V (gdf 10) j := by
  intro j hj
  match j, hj with
  | 0, _ => rfl
  | 1, _ => rfl
  | k + 2, h => exact absurd h (by omega)
theorem gt_11 : ∀ k, k < 3 → TX17 k = gfo ((gcf 11).getD k 0) := by decide +kernel
theorem gd_11 : ∀ j, j < 3 → defaultValue (tyX17 j) = vp_V (gdf 11) j := by
  intro j hj
  match j, hj with
  | 0, _ => rfl
  | 1, _ => rfl
  | 2, _ => rfl
  | k + 3, h => exact absurd h (by omega)
theorem gt_12 : ∀ k, k < 3 → TX18 k = gfo ((gcf 12).getD k 0) := by decide +kernel
theorem gd_12 : ∀ j, j < 3 → defaultValue (tyX18 j) = vp_V (gdf 12) j := by
  intro j hj
  match j, hj with
  | 0, _ => rfl
  | 1, _ => rfl
  | 2, _ => rfl
  | k + 3, h => exact absurd h (by omega)
theorem gt_13 : ∀ k, k < 6 → TX20 k = gfo ((gcf 13).getD k 0) := by decide +kernel
theorem gd_13 : ∀ j, j < 6 → defaultValue (tyX20 j) = vp_V (gdf 13) j := by
  intro j hj
  match j, hj with
  | 0, _ => rfl
  | 1, _ => rfl
  | 2, _ => rfl
  | 3, _ => rfl
  | 4, _ => rfl
  | 5, _ => rfl
  | k + 6, h => exact absurd h (by omega)
theorem gt_14 : ∀ k, k < 6 → TX21 k = gfo ((gcf 14).getD k 0) := by decide +kernel
theorem gd_14 : ∀ j, j < 6 → defaultValue (tyX21 j) = vp_V (gdf 14) j := by
  intro j hj
  match j, hj with
  | 0, _ => rfl
  | 1, _ => rfl
  | 2, _ => rfl
  | 3, _ => rfl
  | 4, _ => rfl
  | 5, _ => rfl
  | k + 6, h => exact absurd h (by omega)
theorem gt_15 : ∀ k, k < 9 → TX22 k = gfo ((gcf 15).getD k 0) := by decide +kernel
theorem gd_15 : ∀ j, j < 9 → defaultValue (tyX22 j) = vp_V (gdf 15) j := by
  intro j hj
  match j, hj with
  | 0, _ => rfl
  | 1, _ => rfl
  | 2, _ => rfl
  | 3, _ => rfl
  | 4, _ => rfl
  | 5, _ => rfl
  | 6, _ => rfl
  | 7, _ => rfl
  | 8, _ => rfl
  | k + 9, h => exact absurd h (by omega)
theorem gt_16 : ∀ k, k < 11 → TX23 k = gfo ((gcf 16).getD k 0) := by decide +kernel
theorem gd_16 : ∀ j, j < 11 → defaultValue (tyX23 j) = vp_V (gdf 16) j := by
  intro j hj
  match j, hj with
  | 0, _ => rfl
  | 1, _ => rfl
  | 2, _ => rfl
  | 3, _ => rfl
  | 4, _ => rfl
  | 5, _ => rfl
  | 6, _ => rfl
  | 7, _ => rfl
  | 8, _ => rfl
  | 9, _ => rfl
  | 10, _ => rfl
  | k + 11, h => exact absurd h (by omega)
theorem gt_17 : ∀ k, k < 1 → TX24 k = gfo ((gcf 17).getD k 0) := by decide +kernel
theorem gd_17 : ∀ j, j < 1 → defaultValue (tyX24 j) = vp_V (gdf 17) j := by
  intro j hj
  match j, hj with
  | 0, _ => rfl
  | k + 1, h => exact absurd h (by omega)
theorem gt_18 : ∀ k, k < 12 → TX25 k = gfo ((gcf 18).getD k 0) := by decide +kernel
theorem gd_18 : ∀ j, j < 12 → defaultValue (tyX25 j) = vp_V (gdf 18) j := by
  intro j hj
  match j, hj with
  | 0, _ => rfl
  | 1, _ => rfl
  | 2, _ => rfl
  | 3, _ => rfl
  | 4, _ => rfl
  | 5, _ => rfl
  | 6, _ => rfl
  | 7, _ => rfl
  | 8, _ => rfl
  | 9, _ => rfl
  | 10, _ => rfl
  | 11, _ => rfl
  | k + 12, h => exact absurd h (by omega)
theorem gt_19 : ∀ k, k < 1 → TX27 k = gfo ((gcf 19).getD k 0) := by decide +kernel
theorem gd_19 : ∀ j, j < 1 → defaultValue (tyX27 j) = vp_V (gdf 19) j := by
  intro j hj
  match j, hj with
  | 0, _ => rfl
  | k + 1, h => exact absurd h (by omega)
theorem gt_20 : ∀ k, k < 1 → TX28 k = gfo ((gcf 20).getD k 0) := by decide +kernel
theorem gd_20 : ∀ j, j < 1 → defaultValue (tyX28 j) = vp_V (gdf 20) j := by
  intro j hj
  match j, hj with
  | 0, _ => rfl
  | k + 1, h => exact absurd h (by omega)
theorem gt_21 : ∀ k, k < 2 → TX29 k = gfo ((gcf 21).getD k 0) := by decide +kernel
theorem gd_21 : ∀ j, j < 2 → defaultValue (tyX29 j) = vp_V (gdf 21) j := by
  intro j hj
  match j, hj with
  | 0, _ => rfl
  | 1, _ => rfl
  | k + 2, h => exact absurd h (by omega)
theorem gt_22 : ∀ k, k < 3 → TX30 k = gfo ((gcf 22).getD k 0) := by decide +kernel
theorem gd_22 : ∀ j, j < 3 → defaultValue (tyX30 j) = vp_V (gdf 22) j := by
  intro j hj
  match j, hj with
  | 0, _ => rfl
  | 1, _ => rfl
  | 2, _ => rfl
  | k + 3, h => exact absurd h (by omega)
theorem gt_23 : ∀ k, k < 3 → TX31 k = gfo ((gcf 23).getD k 0) := by decide +kernel
theorem gd_23 : ∀ j, j < 3 → defaultValue (tyX31 j) = vp_V (gdf 23) j := by
  intro j hj
  match j, hj with
  | 0, _ => rfl
  | 1, _ => rfl
  | 2, _ => rfl
  | k + 3, h => exact absurd h (by omega)
theorem gt_24 : ∀ k, k < 3 → TJ2 k = gfo ((gcf 24).getD k 0) := by decide +kernel
theorem gd_24 : ∀ j, j < 3 → defaultValue (tyJ2 j) = vp_V (gdf 24) j := by
  intro j hj
  match j, hj with
  | 0, _ => rfl
  | 1, _ => rfl
  | 2, _ => rfl
  | k + 3, h => exact absurd h (by omega)
theorem gt_25 : ∀ k, k < 4 → TJ7 k = gfo ((gcf 25).getD k 0) := by decide +kernel
theorem gd_25 : ∀ j, j < 4 → defaultValue (tyJ7 j) = vp_V (gdf 25) j := by
  intro j hj
  match j, hj with
  | 0, _ => rfl
  | 1, _ => rfl
  | 2, _ => rfl
  | 3, _ => rfl
  | k + 4, h => exact absurd h (by omega)
theorem gt_26 : ∀ k, k < 4 → TJ8 k = gfo ((gcf 26).getD k 0) := by decide +kernel
theorem gd_26 : ∀ j, j < 4 → defaultValue (tyJ8 j) = vp_V (gdf 26) j := by
  intro j hj
  match j, hj with
  | 0, _ => rfl
  | 1, _ => rfl
  | 2, _ => rfl
  | 3, _ => rfl
  | k + 4, h => exact absurd h (by omega)
theorem gt_27 : ∀ k, k < 2 → TJ8 k = gfo ((gcf 27).getD k 0) := by decide +kernel
theorem gd_27 : ∀ j, j < 2 → defaultValue (tyJ8 j) = vp_V (gdf 27) j := by
  intro j hj
  match j, hj with
  | 0, _ => rfl
  | 1, _ => rfl
  | k + 2, h => exact absurd h (by omega)
theorem in_J8c : ∀ w ∈ u_ws RJ8 TJ8 2, w ∈ lw_all := by
  intro w hw
  obtain ⟨k, hk, rfl⟩ := List.mem_map.mp hw
  have hk : k < 2 := List.mem_range.mp hk
  exact in_J8 _ (u_in_lay (by omega))
theorem gcl_ok {ci : Nat} {r : vw_C} (h : gcl[ci]? = some r) : (∀ w ∈ u_ws r.1 r.2.1 r.2.2, w ∈ lw_all) ∧ (∃ ty : Nat → FieldType, (∀ k, k < r.2.2 → parseFieldDescriptor (r.2.1 k).2.2.1 = some (ty k)) ∧ ∀ j, j < r.2.2 → defaultValue (ty j) = vp_V (gdf ci) j) ∧ (∀ a, a < r.2.2 → ∀ b, b < r.2.2 → a ≠ b → (r.2.1 a).2.1 ≠ (r.2.1 b).2.1) ∧ (gcf ci).length = r.2.2 ∧ (gdf ci).length = r.2.2 ∧ ∀ k, k < r.2.2 → r.2.1 k = gfo ((gcf ci).getD k 0) := by
  match ci, h with
  | 0, h => cases h; exact ⟨in_X1, ⟨tyX1, tyX1_ok, gd_0⟩, nmX1, rfl, rfl, gt_0⟩
  | 1, h => cases h; exact ⟨in_X2, ⟨tyX2, tyX2_ok, gd_1⟩, nmX2, rfl, rfl, gt_1⟩
  | 2, h => cases h; exact ⟨in_X3, ⟨tyX3, tyX3_ok, gd_2⟩, nmX3, rfl, rfl, gt_2⟩
  | 3, h => cases h; exact ⟨in_X4, ⟨tyX4, tyX4_ok, gd_3⟩, nmX4, rfl, rfl, gt_3⟩
  | 4, h => cases h; exact ⟨in_X7, ⟨tyX7, tyX7_ok, gd_4⟩, nmX7, rfl, rfl, gt_4⟩
  | 5, h => cases h; exact ⟨in_X8, ⟨tyX8, tyX8_ok, gd_5⟩, nmX8, rfl, rfl, gt_5⟩
  | 6, h => cases h; exact ⟨in_X10, ⟨tyX10, tyX10_ok, gd_6⟩, nmX10, rfl, rfl, gt_6⟩
  | 7, h => cases h; exact ⟨in_X11, ⟨tyX11, tyX11_ok, gd_7⟩, nmX11, rfl, rfl, gt_7⟩
  | 8, h => cases h; exact ⟨in_X12, ⟨tyX12, tyX12_ok, gd_8⟩, nmX12, rfl, rfl, gt_8⟩
  | 9, h => cases h; exact ⟨in_X14, ⟨tyX14, tyX14_ok, gd_9⟩, nmX14, rfl, rfl, gt_9⟩
  | 10, h => cases h; exact ⟨in_X15, ⟨tyX15, tyX15_ok, gd_10⟩, nmX15, rfl, rfl, gt_10⟩
  | 11, h => cases h; exact ⟨in_X17, ⟨tyX17, tyX17_ok, gd_11⟩, nmX17, rfl, rfl, gt_11⟩
  | 12, h => cases h; exact ⟨in_X18, ⟨tyX18, tyX18_ok, gd_12⟩, nmX18, rfl, rfl, gt_12⟩
  | 13, h => cases h; exact ⟨in_X20, ⟨tyX20, tyX20_ok, gd_13⟩, nmX20, rfl, rfl, gt_13⟩
  | 14, h => cases h; exact ⟨in_X21, ⟨tyX21, tyX21_ok, gd_14⟩, nmX21, rfl, rfl, gt_14⟩
  | 15, h => cases h; exact ⟨in_X22, ⟨tyX22, tyX22_ok, gd_15⟩, nmX22, rfl, rfl, gt_15⟩
  | 16, h => cases h; exact ⟨in_X23, ⟨tyX23, tyX23_ok, gd_16⟩, nmX23, rfl, rfl, gt_16⟩
  | 17, h => cases h; exact ⟨in_X24, ⟨tyX24, tyX24_ok, gd_17⟩, nmX24, rfl, rfl, gt_17⟩
  | 18, h => cases h; exact ⟨in_X25, ⟨tyX25, tyX25_ok, gd_18⟩, nmX25, rfl, rfl, gt_18⟩
  | 19, h => cases h; exact ⟨in_X27, ⟨tyX27, tyX27_ok, gd_19⟩, nmX27, rfl, rfl, gt_19⟩
  | 20, h => cases h; exact ⟨in_X28, ⟨tyX28, tyX28_ok, gd_20⟩, nmX28, rfl, rfl, gt_20⟩
  | 21, h => cases h; exact ⟨in_X29, ⟨tyX29, tyX29_ok, gd_21⟩, nmX29, rfl, rfl, gt_21⟩
  | 22, h => cases h; exact ⟨in_X30, ⟨tyX30, tyX30_ok, gd_22⟩, nmX30, rfl, rfl, gt_22⟩
  | 23, h => cases h; exact ⟨in_X31, ⟨tyX31, tyX31_ok, gd_23⟩, nmX31, rfl, rfl, gt_23⟩
  | 24, h => cases h; exact ⟨in_J2, ⟨tyJ2, tyJ2_ok, gd_24⟩, nmJ2, rfl, rfl, gt_24⟩
  | 25, h => cases h; exact ⟨in_J7, ⟨tyJ7, tyJ7_ok, gd_25⟩, nmJ7, rfl, rfl, gt_25⟩
  | 26, h => cases h; exact ⟨in_J8, ⟨tyJ8, tyJ8_ok, gd_26⟩, nmJ8, rfl, rfl, gt_26⟩
  | 27, h => cases h; exact ⟨in_J8c, ⟨tyJ8, fun k hk => tyJ8_ok k (Nat.lt_of_lt_of_le hk (by decide)), gd_27⟩, fun a ha b hb => nmJ8 a (Nat.lt_of_lt_of_le ha (by decide)) b (Nat.lt_of_lt_of_le hb (by decide)), rfl, rfl, gt_27⟩
  | k + 28, h => exact absurd h (by simp [gcl])
theorem gcastO {ci : Nat} {r : vw_C} (h : gcl[ci]? = some r) : Cond.castable r.1 "java/lang/Object" ∈ lw_tbl := by
  match ci, h with
  | 0, h => cases h; exact q2733
  | 1, h => cases h; exact q2734
  | 2, h => cases h; exact q2731
  | 3, h => cases h; exact q2732
  | 4, h => cases h; exact q2737
  | 5, h => cases h; exact q2740
  | 6, h => cases h; exact q2741
  | 7, h => cases h; exact q2742
  | 8, h => cases h; exact q2743
  | 9, h => cases h; exact q2745
  | 10, h => cases h; exact q2747
  | 11, h => cases h; exact q2748
  | 12, h => cases h; exact q2746
  | 13, h => cases h; exact q2749
  | 14, h => cases h; exact q2750
  | 15, h => cases h; exact q2751
  | 16, h => cases h; exact q2752
  | 17, h => cases h; exact q2753
  | 18, h => cases h; exact q2754
  | 19, h => cases h; exact q2755
  | 20, h => cases h; exact q2756
  | 21, h => cases h; exact q2757
  | 22, h => cases h; exact q2758
  | 23, h => cases h; exact q2759
  | 24, h => cases h; exact q2735
  | 25, h => cases h; exact q2738
  | 26, h => cases h; exact q2739
  | 27, h => cases h; exact q2739
  | k + 28, h => exact absurd h (by simp [gcl])
