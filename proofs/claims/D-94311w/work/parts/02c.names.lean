/-! StoneYearModel -/
set_option maxRecDepth 100000
def RX8 : String := "StoneYearModel"
def TX8 : u_T := fun k => match k with
  | 0 => ("StoneYearModel", "thrown", "I", false)
  | 1 => ("StoneYearModel", "all", "[I", true)
  | 2 => ("StoneYearModel", "hasImage", "[Z", true)
  | 3 => ("StoneYearModel", "tape", "[I", true)
  | 4 => ("StoneYearModel", "fresh", "[I", true)
  | 5 => ("StoneYearModel", "taped", "I", false)
  | 6 => ("StoneYearModel", "at", "I", false)
  | 7 => ("StoneYearModel", "behind", "I", false)
  | 8 => ("StoneYearModel", "size", "I", false)
  | 9 => ("StoneYearModel", "kind", "I", false)
  | 10 => ("StoneYearModel", "number", "I", false)
  | 11 => ("StoneYearModel", "wrong", "I", false)
  | 12 => ("StoneYearModel", "wrongAt", "I", false)
  | 13 => ("StoneYearModel", "depth", "I", false)
  | 14 => ("StoneYearModel", "steps", "I", false)
  | 15 => ("StoneYearModel", "faultKind", "I", false)
  | 16 => ("StoneYearModel", "faultPlace", "I", false)
  | 17 => ("StoneYearModel", "on", "[I", true)
  | 18 => ("StoneYearModel", "many", "[I", true)
  | 19 => ("StoneYearModel", "moved", "I", false)
  | 20 => ("StoneYearModel", "pile", "[Z", true)
  | 21 => ("StoneYearModel", "aside", "I", false)
  | 22 => ("StoneYearModel", "judged", "I", false)
  | 23 => ("StoneYearModel", "judgedBy", "I", false)
  | 24 => ("StoneYearModel", "judgedYear", "I", false)
  | 25 => ("StoneYearModel", "leastCost", "[I", true)
  | 26 => ("StoneYearModel", "matched", "[I", true)
  | 27 => ("StoneYearModel", "order", "[I", true)
  | 28 => ("StoneYearModel", "lies", "[J", true)
  | 29 => ("StoneYearModel", "movedThen", "[I", true)
  | 30 => ("StoneYearModel", "yearTable", "[I", true)
  | 31 => ("StoneYearModel", "yearMark", "[I", true)
  | 32 => ("StoneYearModel", "beginTable", "[I", true)
  | 33 => ("StoneYearModel", "beginMark", "[I", true)
  | 34 => ("StoneYearModel", "statesTold", "I", false)
  | 35 => ("StoneYearModel", "found", "I", false)
  | 36 => ("StoneYearModel", "yearFrom", "I", false)
  | 37 => ("StoneYearModel", "mark", "I", false)
  | 38 => ("StoneYearModel", "beginsMark", "I", false)
  | 39 => ("StoneYearModel", "begins", "I", false)
  | 40 => ("StoneYearModel", "began", "[J", true)
  | 41 => ("StoneYearModel", "isSpent", "Z", false)
  | 42 => ("StoneYearModel", "wants", "[I", true)
  | 43 => ("StoneYearModel", "rowSort", "[I", true)
  | 44 => ("StoneYearModel", "rowMany", "[I", true)
  | _ => ("StoneYearModel", "numbers", "[J", true)
def tyX8 : Nat → FieldType := fun k => match k with
  | 0 => .int
  | 1 => .array .int
  | 2 => .array .boolean
  | 3 => .array .int
  | 4 => .array .int
  | 5 => .int
  | 6 => .int
  | 7 => .int
  | 8 => .int
  | 9 => .int
  | 10 => .int
  | 11 => .int
  | 12 => .int
  | 13 => .int
  | 14 => .int
  | 15 => .int
  | 16 => .int
  | 17 => .array .int
  | 18 => .array .int
  | 19 => .int
  | 20 => .array .boolean
  | 21 => .int
  | 22 => .int
  | 23 => .int
  | 24 => .int
  | 25 => .array .int
  | 26 => .array .int
  | 27 => .array .int
  | 28 => .array .long
  | 29 => .array .int
  | 30 => .array .int
  | 31 => .array .int
  | 32 => .array .int
  | 33 => .array .int
  | 34 => .int
  | 35 => .int
  | 36 => .int
  | 37 => .int
  | 38 => .int
  | 39 => .int
  | 40 => .array .long
  | 41 => .boolean
  | 42 => .array .int
  | 43 => .array .int
  | 44 => .array .int
  | _ => .array .long
abbrev wsX80 : List Cond := u_ws RX8 TX8 46
set_option maxRecDepth 100000 in
theorem nmX8 : ∀ a, a < 46 → ∀ b, b < 46 → a ≠ b → (TX8 a).2.1 ≠ (TX8 b).2.1 := by decide +kernel
set_option maxRecDepth 100000 in
theorem tyX8_ok : ∀ k, k < 46 → parseFieldDescriptor (TX8 k).2.2.1 = some (tyX8 k) := by decide +kernel
abbrev cX8_init : ByteArray := prog_20_method_3_code
def yX8_init : MethodName := ⟨RX8, "<init>", "()V"⟩
def dkwX8_init_9 : List UInt8 := [184, 0, 86, 177]
abbrev dktX8_init_9 : List UInt8 := dkwX8_init_9 ++ []
def dkwX8_init_8 : List UInt8 := [181, 0, 77, 42, 7, 188, 10, 181, 0, 80, 42, 17, 0, 160, 188, 11, 181, 0, 83, 42, 180, 0, 13]
abbrev dktX8_init_8 : List UInt8 := dkwX8_init_8 ++ dktX8_init_9
def dkwX8_init_7 : List UInt8 := [181, 0, 74, 42, 7, 188, 10, 89, 3, 2, 79, 89, 4, 2, 79, 89, 5, 2, 79, 89, 6, 2, 79]
abbrev dktX8_init_7 : List UInt8 := dkwX8_init_7 ++ dktX8_init_8
def dkwX8_init_6 : List UInt8 := [17, 64, 0, 188, 10, 181, 0, 68, 42, 17, 23, 114, 188, 11, 181, 0, 71, 42, 16, 40, 188, 10]
abbrev dktX8_init_6 : List UInt8 := dkwX8_init_6 ++ dktX8_init_7
def dkwX8_init_5 : List UInt8 := [181, 0, 59, 42, 17, 64, 0, 188, 10, 181, 0, 62, 42, 17, 64, 0, 188, 10, 181, 0, 65, 42]
abbrev dktX8_init_5 : List UInt8 := dkwX8_init_5 ++ dktX8_init_6
def dkwX8_init_4 : List UInt8 := [42, 17, 23, 113, 188, 11, 181, 0, 52, 42, 17, 23, 113, 188, 10, 181, 0, 56, 42, 17, 64, 0, 188, 10]
abbrev dktX8_init_4 : List UInt8 := dkwX8_init_4 ++ dktX8_init_5
def dkwX8_init_3 : List UInt8 := [42, 18, 42, 188, 10, 181, 0, 43, 42, 16, 8, 188, 10, 181, 0, 46, 42, 16, 8, 188, 10, 181, 0, 49]
abbrev dktX8_init_3 : List UInt8 := dkwX8_init_3 ++ dktX8_init_4
def dkwX8_init_2 : List UInt8 := [181, 0, 30, 42, 8, 188, 10, 181, 0, 33, 42, 17, 0, 220, 188, 4, 181, 0, 36, 42, 2, 181, 0, 39]
abbrev dktX8_init_2 : List UInt8 := dkwX8_init_2 ++ dktX8_init_3
def dkwX8_init_1 : List UInt8 := [188, 10, 181, 0, 21, 42, 17, 2, 19, 188, 10, 181, 0, 24, 42, 2, 181, 0, 27, 42, 16, 15, 188, 10]
abbrev dktX8_init_1 : List UInt8 := dkwX8_init_1 ++ dktX8_init_2
def dkwX8_init_0 : List UInt8 := [42, 183, 0, 7, 42, 17, 6, 57, 188, 10, 181, 0, 13, 42, 5, 188, 4, 181, 0, 17, 42, 17, 1, 144]
abbrev dktX8_init_0 : List UInt8 := dkwX8_init_0 ++ dktX8_init_1
theorem dksX8_init_0 : cX8_init.data.toList.drop 0 = dktX8_init_0 := by decide +kernel
theorem dksX8_init_1 : cX8_init.data.toList.drop 24 = dktX8_init_1 := dk_seg dksX8_init_0 24 rfl rfl
theorem dksX8_init_2 : cX8_init.data.toList.drop 48 = dktX8_init_2 := dk_seg dksX8_init_1 24 rfl rfl
theorem dksX8_init_3 : cX8_init.data.toList.drop 72 = dktX8_init_3 := dk_seg dksX8_init_2 24 rfl rfl
theorem dksX8_init_4 : cX8_init.data.toList.drop 96 = dktX8_init_4 := dk_seg dksX8_init_3 24 rfl rfl
theorem dksX8_init_5 : cX8_init.data.toList.drop 120 = dktX8_init_5 := dk_seg dksX8_init_4 24 rfl rfl
theorem dksX8_init_6 : cX8_init.data.toList.drop 142 = dktX8_init_6 := dk_seg dksX8_init_5 22 rfl rfl
theorem dksX8_init_7 : cX8_init.data.toList.drop 164 = dktX8_init_7 := dk_seg dksX8_init_6 22 rfl rfl
theorem dksX8_init_8 : cX8_init.data.toList.drop 187 = dktX8_init_8 := dk_seg dksX8_init_7 23 rfl rfl
theorem dksX8_init_9 : cX8_init.data.toList.drop 210 = dktX8_init_9 := dk_seg dksX8_init_8 23 rfl rfl
theorem dX8_init_0 : decode cX8_init 0 = .ok (.aload_n 0, 1) := dk_42 (dk_at dksX8_init_0 0 rfl rfl)
theorem dX8_init_1 : decode cX8_init 1 = .ok (.invokespecial 7, 3) := dk_183 0 7 (dk_at dksX8_init_0 1 rfl rfl)
theorem dX8_init_4 : decode cX8_init 4 = .ok (.aload_n 0, 1) := dk_42 (dk_at dksX8_init_0 4 rfl rfl)
theorem dX8_init_5 : decode cX8_init 5 = .ok (.sipush 1593, 3) := dk_17 6 57 (dk_at dksX8_init_0 5 rfl rfl)
theorem dX8_init_8 : decode cX8_init 8 = .ok (.newarray .int, 2) := dk_188_10 (dk_at dksX8_init_0 8 rfl rfl)
theorem dX8_init_10 : decode cX8_init 10 = .ok (.putfield 13, 3) := dk_181 0 13 (dk_at dksX8_init_0 10 rfl rfl)
theorem dX8_init_13 : decode cX8_init 13 = .ok (.aload_n 0, 1) := dk_42 (dk_at dksX8_init_0 13 rfl rfl)
theorem dX8_init_14 : decode cX8_init 14 = .ok (.iconst 2, 1) := dk_5 (dk_at dksX8_init_0 14 rfl rfl)
theorem dX8_init_15 : decode cX8_init 15 = .ok (.newarray .boolean, 2) := dk_188_4 (dk_at dksX8_init_0 15 rfl rfl)
theorem dX8_init_17 : decode cX8_init 17 = .ok (.putfield 17, 3) := dk_181 0 17 (dk_at dksX8_init_0 17 rfl rfl)
theorem dX8_init_20 : decode cX8_init 20 = .ok (.aload_n 0, 1) := dk_42 (dk_at dksX8_init_0 20 rfl rfl)
theorem dX8_init_21 : decode cX8_init 21 = .ok (.sipush 400, 3) := dk_17 1 144 (dk_at dksX8_init_0 21 rfl rfl)
theorem dX8_init_24 : decode cX8_init 24 = .ok (.newarray .int, 2) := dk_188_10 (dk_at dksX8_init_1 0 rfl rfl)
theorem dX8_init_26 : decode cX8_init 26 = .ok (.putfield 21, 3) := dk_181 0 21 (dk_at dksX8_init_1 2 rfl rfl)
theorem dX8_init_29 : decode cX8_init 29 = .ok (.aload_n 0, 1) := dk_42 (dk_at dksX8_init_1 5 rfl rfl)
theorem dX8_init_30 : decode cX8_init 30 = .ok (.sipush 531, 3) := dk_17 2 19 (dk_at dksX8_init_1 6 rfl rfl)
theorem dX8_init_33 : decode cX8_init 33 = .ok (.newarray .int, 2) := dk_188_10 (dk_at dksX8_init_1 9 rfl rfl)
theorem dX8_init_35 : decode cX8_init 35 = .ok (.putfield 24, 3) := dk_181 0 24 (dk_at dksX8_init_1 11 rfl rfl)
theorem dX8_init_38 : decode cX8_init 38 = .ok (.aload_n 0, 1) := dk_42 (dk_at dksX8_init_1 14 rfl rfl)
theorem dX8_init_39 : decode cX8_init 39 = .ok (.iconst (-1), 1) := dk_2 (dk_at dksX8_init_1 15 rfl rfl)
theorem dX8_init_40 : decode cX8_init 40 = .ok (.putfield 27, 3) := dk_181 0 27 (dk_at dksX8_init_1 16 rfl rfl)
theorem dX8_init_43 : decode cX8_init 43 = .ok (.aload_n 0, 1) := dk_42 (dk_at dksX8_init_1 19 rfl rfl)
theorem dX8_init_44 : decode cX8_init 44 = .ok (.bipush 15, 2) := dk_16 15 (dk_at dksX8_init_1 20 rfl rfl)
theorem dX8_init_46 : decode cX8_init 46 = .ok (.newarray .int, 2) := dk_188_10 (dk_at dksX8_init_1 22 rfl rfl)
theorem dX8_init_48 : decode cX8_init 48 = .ok (.putfield 30, 3) := dk_181 0 30 (dk_at dksX8_init_2 0 rfl rfl)
theorem dX8_init_51 : decode cX8_init 51 = .ok (.aload_n 0, 1) := dk_42 (dk_at dksX8_init_2 3 rfl rfl)
theorem dX8_init_52 : decode cX8_init 52 = .ok (.iconst 5, 1) := dk_8 (dk_at dksX8_init_2 4 rfl rfl)
theorem dX8_init_53 : decode cX8_init 53 = .ok (.newarray .int, 2) := dk_188_10 (dk_at dksX8_init_2 5 rfl rfl)
theorem dX8_init_55 : decode cX8_init 55 = .ok (.putfield 33, 3) := dk_181 0 33 (dk_at dksX8_init_2 7 rfl rfl)
theorem dX8_init_58 : decode cX8_init 58 = .ok (.aload_n 0, 1) := dk_42 (dk_at dksX8_init_2 10 rfl rfl)
theorem dX8_init_59 : decode cX8_init 59 = .ok (.sipush 220, 3) := dk_17 0 220 (dk_at dksX8_init_2 11 rfl rfl)
theorem dX8_init_62 : decode cX8_init 62 = .ok (.newarray .boolean, 2) := dk_188_4 (dk_at dksX8_init_2 14 rfl rfl)
theorem dX8_init_64 : decode cX8_init 64 = .ok (.putfield 36, 3) := dk_181 0 36 (dk_at dksX8_init_2 16 rfl rfl)
theorem dX8_init_67 : decode cX8_init 67 = .ok (.aload_n 0, 1) := dk_42 (dk_at dksX8_init_2 19 rfl rfl)
theorem dX8_init_68 : decode cX8_init 68 = .ok (.iconst (-1), 1) := dk_2 (dk_at dksX8_init_2 20 rfl rfl)
theorem dX8_init_69 : decode cX8_init 69 = .ok (.putfield 39, 3) := dk_181 0 39 (dk_at dksX8_init_2 21 rfl rfl)
theorem dX8_init_72 : decode cX8_init 72 = .ok (.aload_n 0, 1) := dk_42 (dk_at dksX8_init_3 0 rfl rfl)
theorem dX8_init_73 : decode cX8_init 73 = .ok (.ldc 42, 2) := dk_18 42 (dk_at dksX8_init_3 1 rfl rfl)
theorem dX8_init_75 : decode cX8_init 75 = .ok (.newarray .int, 2) := dk_188_10 (dk_at dksX8_init_3 3 rfl rfl)
theorem dX8_init_77 : decode cX8_init 77 = .ok (.putfield 43, 3) := dk_181 0 43 (dk_at dksX8_init_3 5 rfl rfl)
theorem dX8_init_80 : decode cX8_init 80 = .ok (.aload_n 0, 1) := dk_42 (dk_at dksX8_init_3 8 rfl rfl)
theorem dX8_init_81 : decode cX8_init 81 = .ok (.bipush 8, 2) := dk_16 8 (dk_at dksX8_init_3 9 rfl rfl)
theorem dX8_init_83 : decode cX8_init 83 = .ok (.newarray .int, 2) := dk_188_10 (dk_at dksX8_init_3 11 rfl rfl)
theorem dX8_init_85 : decode cX8_init 85 = .ok (.putfield 46, 3) := dk_181 0 46 (dk_at dksX8_init_3 13 rfl rfl)
theorem dX8_init_88 : decode cX8_init 88 = .ok (.aload_n 0, 1) := dk_42 (dk_at dksX8_init_3 16 rfl rfl)
theorem dX8_init_89 : decode cX8_init 89 = .ok (.bipush 8, 2) := dk_16 8 (dk_at dksX8_init_3 17 rfl rfl)
theorem dX8_init_91 : decode cX8_init 91 = .ok (.newarray .int, 2) := dk_188_10 (dk_at dksX8_init_3 19 rfl rfl)
theorem dX8_init_93 : decode cX8_init 93 = .ok (.putfield 49, 3) := dk_181 0 49 (dk_at dksX8_init_3 21 rfl rfl)
theorem dX8_init_96 : decode cX8_init 96 = .ok (.aload_n 0, 1) := dk_42 (dk_at dksX8_init_4 0 rfl rfl)
theorem dX8_init_97 : decode cX8_init 97 = .ok (.sipush 6001, 3) := dk_17 23 113 (dk_at dksX8_init_4 1 rfl rfl)
theorem dX8_init_100 : decode cX8_init 100 = .ok (.newarray .long, 2) := dk_188_11 (dk_at dksX8_init_4 4 rfl rfl)
theorem dX8_init_102 : decode cX8_init 102 = .ok (.putfield 52, 3) := dk_181 0 52 (dk_at dksX8_init_4 6 rfl rfl)
theorem dX8_init_105 : decode cX8_init 105 = .ok (.aload_n 0, 1) := dk_42 (dk_at dksX8_init_4 9 rfl rfl)
theorem dX8_init_106 : decode cX8_init 106 = .ok (.sipush 6001, 3) := dk_17 23 113 (dk_at dksX8_init_4 10 rfl rfl)
theorem dX8_init_109 : decode cX8_init 109 = .ok (.newarray .int, 2) := dk_188_10 (dk_at dksX8_init_4 13 rfl rfl)
theorem dX8_init_111 : decode cX8_init 111 = .ok (.putfield 56, 3) := dk_181 0 56 (dk_at dksX8_init_4 15 rfl rfl)
theorem dX8_init_114 : decode cX8_init 114 = .ok (.aload_n 0, 1) := dk_42 (dk_at dksX8_init_4 18 rfl rfl)
theorem dX8_init_115 : decode cX8_init 115 = .ok (.sipush 16384, 3) := dk_17 64 0 (dk_at dksX8_init_4 19 rfl rfl)
theorem dX8_init_118 : decode cX8_init 118 = .ok (.newarray .int, 2) := dk_188_10 (dk_at dksX8_init_4 22 rfl rfl)
theorem dX8_init_120 : decode cX8_init 120 = .ok (.putfield 59, 3) := dk_181 0 59 (dk_at dksX8_init_5 0 rfl rfl)
theorem dX8_init_123 : decode cX8_init 123 = .ok (.aload_n 0, 1) := dk_42 (dk_at dksX8_init_5 3 rfl rfl)
theorem dX8_init_124 : decode cX8_init 124 = .ok (.sipush 16384, 3) := dk_17 64 0 (dk_at dksX8_init_5 4 rfl rfl)
theorem dX8_init_127 : decode cX8_init 127 = .ok (.newarray .int, 2) := dk_188_10 (dk_at dksX8_init_5 7 rfl rfl)
theorem dX8_init_129 : decode cX8_init 129 = .ok (.putfield 62, 3) := dk_181 0 62 (dk_at dksX8_init_5 9 rfl rfl)
theorem dX8_init_132 : decode cX8_init 132 = .ok (.aload_n 0, 1) := dk_42 (dk_at dksX8_init_5 12 rfl rfl)
theorem dX8_init_133 : decode cX8_init 133 = .ok (.sipush 16384, 3) := dk_17 64 0 (dk_at dksX8_init_5 13 rfl rfl)
theorem dX8_init_136 : decode cX8_init 136 = .ok (.newarray .int, 2) := dk_188_10 (dk_at dksX8_init_5 16 rfl rfl)
theorem dX8_init_138 : decode cX8_init 138 = .ok (.putfield 65, 3) := dk_181 0 65 (dk_at dksX8_init_5 18 rfl rfl)
theorem dX8_init_141 : decode cX8_init 141 = .ok (.aload_n 0, 1) := dk_42 (dk_at dksX8_init_5 21 rfl rfl)
theorem dX8_init_142 : decode cX8_init 142 = .ok (.sipush 16384, 3) := dk_17 64 0 (dk_at dksX8_init_6 0 rfl rfl)
theorem dX8_init_145 : decode cX8_init 145 = .ok (.newarray .int, 2) := dk_188_10 (dk_at dksX8_init_6 3 rfl rfl)
theorem dX8_init_147 : decode cX8_init 147 = .ok (.putfield 68, 3) := dk_181 0 68 (dk_at dksX8_init_6 5 rfl rfl)
theorem dX8_init_150 : decode cX8_init 150 = .ok (.aload_n 0, 1) := dk_42 (dk_at dksX8_init_6 8 rfl rfl)
theorem dX8_init_151 : decode cX8_init 151 = .ok (.sipush 6002, 3) := dk_17 23 114 (dk_at dksX8_init_6 9 rfl rfl)
theorem dX8_init_154 : decode cX8_init 154 = .ok (.newarray .long, 2) := dk_188_11 (dk_at dksX8_init_6 12 rfl rfl)
theorem dX8_init_156 : decode cX8_init 156 = .ok (.putfield 71, 3) := dk_181 0 71 (dk_at dksX8_init_6 14 rfl rfl)
theorem dX8_init_159 : decode cX8_init 159 = .ok (.aload_n 0, 1) := dk_42 (dk_at dksX8_init_6 17 rfl rfl)
theorem dX8_init_160 : decode cX8_init 160 = .ok (.bipush 40, 2) := dk_16 40 (dk_at dksX8_init_6 18 rfl rfl)
theorem dX8_init_162 : decode cX8_init 162 = .ok (.newarray .int, 2) := dk_188_10 (dk_at dksX8_init_6 20 rfl rfl)
theorem dX8_init_164 : decode cX8_init 164 = .ok (.putfield 74, 3) := dk_181 0 74 (dk_at dksX8_init_7 0 rfl rfl)
theorem dX8_init_167 : decode cX8_init 167 = .ok (.aload_n 0, 1) := dk_42 (dk_at dksX8_init_7 3 rfl rfl)
theorem dX8_init_168 : decode cX8_init 168 = .ok (.iconst 4, 1) := dk_7 (dk_at dksX8_init_7 4 rfl rfl)
theorem dX8_init_169 : decode cX8_init 169 = .ok (.newarray .int, 2) := dk_188_10 (dk_at dksX8_init_7 5 rfl rfl)
theorem dX8_init_171 : decode cX8_init 171 = .ok (.dup, 1) := dk_89 (dk_at dksX8_init_7 7 rfl rfl)
theorem dX8_init_172 : decode cX8_init 172 = .ok (.iconst 0, 1) := dk_3 (dk_at dksX8_init_7 8 rfl rfl)
theorem dX8_init_173 : decode cX8_init 173 = .ok (.iconst (-1), 1) := dk_2 (dk_at dksX8_init_7 9 rfl rfl)
theorem dX8_init_174 : decode cX8_init 174 = .ok (.iastore, 1) := dk_79 (dk_at dksX8_init_7 10 rfl rfl)
theorem dX8_init_175 : decode cX8_init 175 = .ok (.dup, 1) := dk_89 (dk_at dksX8_init_7 11 rfl rfl)
theorem dX8_init_176 : decode cX8_init 176 = .ok (.iconst 1, 1) := dk_4 (dk_at dksX8_init_7 12 rfl rfl)
theorem dX8_init_177 : decode cX8_init 177 = .ok (.iconst (-1), 1) := dk_2 (dk_at dksX8_init_7 13 rfl rfl)
theorem dX8_init_178 : decode cX8_init 178 = .ok (.iastore, 1) := dk_79 (dk_at dksX8_init_7 14 rfl rfl)
theorem dX8_init_179 : decode cX8_init 179 = .ok (.dup, 1) := dk_89 (dk_at dksX8_init_7 15 rfl rfl)
theorem dX8_init_180 : decode cX8_init 180 = .ok (.iconst 2, 1) := dk_5 (dk_at dksX8_init_7 16 rfl rfl)
theorem dX8_init_181 : decode cX8_init 181 = .ok (.iconst (-1), 1) := dk_2 (dk_at dksX8_init_7 17 rfl rfl)
theorem dX8_init_182 : decode cX8_init 182 = .ok (.iastore, 1) := dk_79 (dk_at dksX8_init_7 18 rfl rfl)
theorem dX8_init_183 : decode cX8_init 183 = .ok (.dup, 1) := dk_89 (dk_at dksX8_init_7 19 rfl rfl)
theorem dX8_init_184 : decode cX8_init 184 = .ok (.iconst 3, 1) := dk_6 (dk_at dksX8_init_7 20 rfl rfl)
theorem dX8_init_185 : decode cX8_init 185 = .ok (.iconst (-1), 1) := dk_2 (dk_at dksX8_init_7 21 rfl rfl)
theorem dX8_init_186 : decode cX8_init 186 = .ok (.iastore, 1) := dk_79 (dk_at dksX8_init_7 22 rfl rfl)
theorem dX8_init_187 : decode cX8_init 187 = .ok (.putfield 77, 3) := dk_181 0 77 (dk_at dksX8_init_8 0 rfl rfl)
theorem dX8_init_190 : decode cX8_init 190 = .ok (.aload_n 0, 1) := dk_42 (dk_at dksX8_init_8 3 rfl rfl)
theorem dX8_init_191 : decode cX8_init 191 = .ok (.iconst 4, 1) := dk_7 (dk_at dksX8_init_8 4 rfl rfl)
theorem dX8_init_192 : decode cX8_init 192 = .ok (.newarray .int, 2) := dk_188_10 (dk_at dksX8_init_8 5 rfl rfl)
theorem dX8_init_194 : decode cX8_init 194 = .ok (.putfield 80, 3) := dk_181 0 80 (dk_at dksX8_init_8 7 rfl rfl)
theorem dX8_init_197 : decode cX8_init 197 = .ok (.aload_n 0, 1) := dk_42 (dk_at dksX8_init_8 10 rfl rfl)
theorem dX8_init_198 : decode cX8_init 198 = .ok (.sipush 160, 3) := dk_17 0 160 (dk_at dksX8_init_8 11 rfl rfl)
theorem dX8_init_201 : decode cX8_init 201 = .ok (.newarray .long, 2) := dk_188_11 (dk_at dksX8_init_8 14 rfl rfl)
theorem dX8_init_203 : decode cX8_init 203 = .ok (.putfield 83, 3) := dk_181 0 83 (dk_at dksX8_init_8 16 rfl rfl)
theorem dX8_init_206 : decode cX8_init 206 = .ok (.aload_n 0, 1) := dk_42 (dk_at dksX8_init_8 19 rfl rfl)
theorem dX8_init_207 : decode cX8_init 207 = .ok (.getfield 13, 3) := dk_180 0 13 (dk_at dksX8_init_8 20 rfl rfl)
theorem dX8_init_210 : decode cX8_init 210 = .ok (.invokestatic 86, 3) := dk_184 0 86 (dk_at dksX8_init_9 0 rfl rfl)
theorem dX8_init_213 : decode cX8_init 213 = .ok (.return_, 1) := dk_177 (dk_at dksX8_init_9 3 rfl rfl)
abbrev cX8_plain : ByteArray := prog_20_method_4_code
def yX8_plain : MethodName := ⟨RX8, "plain", "([I)V"⟩
def dkwX8_plain_4 : List UInt8 := [167, 255, 240, 177]
abbrev dktX8_plain_4 : List UInt8 := dkwX8_plain_4 ++ []
def dkwX8_plain_3 : List UInt8 := [132, 1, 1, 167, 255, 240, 3, 60, 27, 16, 8, 162, 0, 16, 42, 16, 104, 27, 96, 2, 79, 132, 1, 1]
abbrev dktX8_plain_3 : List UInt8 := dkwX8_plain_3 ++ dktX8_plain_4
def dkwX8_plain_2 : List UInt8 := [2, 79, 132, 1, 1, 167, 255, 234, 3, 60, 27, 16, 15, 162, 0, 16, 42, 16, 41, 27, 96, 2, 79]
abbrev dktX8_plain_2 : List UInt8 := dkwX8_plain_2 ++ dktX8_plain_3
def dkwX8_plain_1 : List UInt8 := [16, 76, 16, 8, 79, 3, 60, 27, 8, 162, 0, 23, 42, 16, 31, 27, 96, 2, 79, 42, 16, 36, 27, 96]
abbrev dktX8_plain_1 : List UInt8 := dkwX8_plain_1 ++ dktX8_plain_2
def dkwX8_plain_0 : List UInt8 := [3, 60, 27, 16, 113, 162, 0, 13, 42, 27, 3, 79, 132, 1, 1, 167, 255, 243, 42, 16, 75, 7, 79, 42]
abbrev dktX8_plain_0 : List UInt8 := dkwX8_plain_0 ++ dktX8_plain_1
theorem dksX8_plain_0 : cX8_plain.data.toList.drop 0 = dktX8_plain_0 := by decide +kernel
theorem dksX8_plain_1 : cX8_plain.data.toList.drop 24 = dktX8_plain_1 := dk_seg dksX8_plain_0 24 rfl rfl
theorem dksX8_plain_2 : cX8_plain.data.toList.drop 48 = dktX8_plain_2 := dk_seg dksX8_plain_1 24 rfl rfl
theorem dksX8_plain_3 : cX8_plain.data.toList.drop 71 = dktX8_plain_3 := dk_seg dksX8_plain_2 23 rfl rfl
theorem dksX8_plain_4 : cX8_plain.data.toList.drop 95 = dktX8_plain_4 := dk_seg dksX8_plain_3 24 rfl rfl
theorem dX8_plain_0 : decode cX8_plain 0 = .ok (.iconst 0, 1) := dk_3 (dk_at dksX8_plain_0 0 rfl rfl)
theorem dX8_plain_1 : decode cX8_plain 1 = .ok (.istore_n 1, 1) := dk_60 (dk_at dksX8_plain_0 1 rfl rfl)
theorem dX8_plain_2 : decode cX8_plain 2 = .ok (.iload_n 1, 1) := dk_27 (dk_at dksX8_plain_0 2 rfl rfl)
theorem dX8_plain_3 : decode cX8_plain 3 = .ok (.bipush 113, 2) := dk_16 113 (dk_at dksX8_plain_0 3 rfl rfl)
theorem dX8_plain_5 : decode cX8_plain 5 = .ok (.if_icmp .ge 13, 3) := dk_162 0 13 (dk_at dksX8_plain_0 5 rfl rfl)
theorem dX8_plain_8 : decode cX8_plain 8 = .ok (.aload_n 0, 1) := dk_42 (dk_at dksX8_plain_0 8 rfl rfl)
theorem dX8_plain_9 : decode cX8_plain 9 = .ok (.iload_n 1, 1) := dk_27 (dk_at dksX8_plain_0 9 rfl rfl)
theorem dX8_plain_10 : decode cX8_plain 10 = .ok (.iconst 0, 1) := dk_3 (dk_at dksX8_plain_0 10 rfl rfl)
theorem dX8_plain_11 : decode cX8_plain 11 = .ok (.iastore, 1) := dk_79 (dk_at dksX8_plain_0 11 rfl rfl)
theorem dX8_plain_12 : decode cX8_plain 12 = .ok (.iinc 1 1, 3) := dk_132 1 1 (dk_at dksX8_plain_0 12 rfl rfl)
theorem dX8_plain_15 : decode cX8_plain 15 = .ok (.goto (-13), 3) := dk_167 255 243 (dk_at dksX8_plain_0 15 rfl rfl)
theorem dX8_plain_18 : decode cX8_plain 18 = .ok (.aload_n 0, 1) := dk_42 (dk_at dksX8_plain_0 18 rfl rfl)
theorem dX8_plain_19 : decode cX8_plain 19 = .ok (.bipush 75, 2) := dk_16 75 (dk_at dksX8_plain_0 19 rfl rfl)
theorem dX8_plain_21 : decode cX8_plain 21 = .ok (.iconst 4, 1) := dk_7 (dk_at dksX8_plain_0 21 rfl rfl)
theorem dX8_plain_22 : decode cX8_plain 22 = .ok (.iastore, 1) := dk_79 (dk_at dksX8_plain_0 22 rfl rfl)
theorem dX8_plain_23 : decode cX8_plain 23 = .ok (.aload_n 0, 1) := dk_42 (dk_at dksX8_plain_0 23 rfl rfl)
theorem dX8_plain_24 : decode cX8_plain 24 = .ok (.bipush 76, 2) := dk_16 76 (dk_at dksX8_plain_1 0 rfl rfl)
theorem dX8_plain_26 : decode cX8_plain 26 = .ok (.bipush 8, 2) := dk_16 8 (dk_at dksX8_plain_1 2 rfl rfl)
theorem dX8_plain_28 : decode cX8_plain 28 = .ok (.iastore, 1) := dk_79 (dk_at dksX8_plain_1 4 rfl rfl)
theorem dX8_plain_29 : decode cX8_plain 29 = .ok (.iconst 0, 1) := dk_3 (dk_at dksX8_plain_1 5 rfl rfl)
theorem dX8_plain_30 : decode cX8_plain 30 = .ok (.istore_n 1, 1) := dk_60 (dk_at dksX8_plain_1 6 rfl rfl)
theorem dX8_plain_31 : decode cX8_plain 31 = .ok (.iload_n 1, 1) := dk_27 (dk_at dksX8_plain_1 7 rfl rfl)
theorem dX8_plain_32 : decode cX8_plain 32 = .ok (.iconst 5, 1) := dk_8 (dk_at dksX8_plain_1 8 rfl rfl)
theorem dX8_plain_33 : decode cX8_plain 33 = .ok (.if_icmp .ge 23, 3) := dk_162 0 23 (dk_at dksX8_plain_1 9 rfl rfl)
theorem dX8_plain_36 : decode cX8_plain 36 = .ok (.aload_n 0, 1) := dk_42 (dk_at dksX8_plain_1 12 rfl rfl)
theorem dX8_plain_37 : decode cX8_plain 37 = .ok (.bipush 31, 2) := dk_16 31 (dk_at dksX8_plain_1 13 rfl rfl)
theorem dX8_plain_39 : decode cX8_plain 39 = .ok (.iload_n 1, 1) := dk_27 (dk_at dksX8_plain_1 15 rfl rfl)
theorem dX8_plain_40 : decode cX8_plain 40 = .ok (.iadd, 1) := dk_96 (dk_at dksX8_plain_1 16 rfl rfl)
theorem dX8_plain_41 : decode cX8_plain 41 = .ok (.iconst (-1), 1) := dk_2 (dk_at dksX8_plain_1 17 rfl rfl)
theorem dX8_plain_42 : decode cX8_plain 42 = .ok (.iastore, 1) := dk_79 (dk_at dksX8_plain_1 18 rfl rfl)
theorem dX8_plain_43 : decode cX8_plain 43 = .ok (.aload_n 0, 1) := dk_42 (dk_at dksX8_plain_1 19 rfl rfl)
theorem dX8_plain_44 : decode cX8_plain 44 = .ok (.bipush 36, 2) := dk_16 36 (dk_at dksX8_plain_1 20 rfl rfl)
theorem dX8_plain_46 : decode cX8_plain 46 = .ok (.iload_n 1, 1) := dk_27 (dk_at dksX8_plain_1 22 rfl rfl)
theorem dX8_plain_47 : decode cX8_plain 47 = .ok (.iadd, 1) := dk_96 (dk_at dksX8_plain_1 23 rfl rfl)
theorem dX8_plain_48 : decode cX8_plain 48 = .ok (.iconst (-1), 1) := dk_2 (dk_at dksX8_plain_2 0 rfl rfl)
theorem dX8_plain_49 : decode cX8_plain 49 = .ok (.iastore, 1) := dk_79 (dk_at dksX8_plain_2 1 rfl rfl)
theorem dX8_plain_50 : decode cX8_plain 50 = .ok (.iinc 1 1, 3) := dk_132 1 1 (dk_at dksX8_plain_2 2 rfl rfl)
theorem dX8_plain_53 : decode cX8_plain 53 = .ok (.goto (-22), 3) := dk_167 255 234 (dk_at dksX8_plain_2 5 rfl rfl)
theorem dX8_plain_56 : decode cX8_plain 56 = .ok (.iconst 0, 1) := dk_3 (dk_at dksX8_plain_2 8 rfl rfl)
theorem dX8_plain_57 : decode cX8_plain 57 = .ok (.istore_n 1, 1) := dk_60 (dk_at dksX8_plain_2 9 rfl rfl)
theorem dX8_plain_58 : decode cX8_plain 58 = .ok (.iload_n 1, 1) := dk_27 (dk_at dksX8_plain_2 10 rfl rfl)
theorem dX8_plain_59 : decode cX8_plain 59 = .ok (.bipush 15, 2) := dk_16 15 (dk_at dksX8_plain_2 11 rfl rfl)
theorem dX8_plain_61 : decode cX8_plain 61 = .ok (.if_icmp .ge 16, 3) := dk_162 0 16 (dk_at dksX8_plain_2 13 rfl rfl)
theorem dX8_plain_64 : decode cX8_plain 64 = .ok (.aload_n 0, 1) := dk_42 (dk_at dksX8_plain_2 16 rfl rfl)
theorem dX8_plain_65 : decode cX8_plain 65 = .ok (.bipush 41, 2) := dk_16 41 (dk_at dksX8_plain_2 17 rfl rfl)
theorem dX8_plain_67 : decode cX8_plain 67 = .ok (.iload_n 1, 1) := dk_27 (dk_at dksX8_plain_2 19 rfl rfl)
theorem dX8_plain_68 : decode cX8_plain 68 = .ok (.iadd, 1) := dk_96 (dk_at dksX8_plain_2 20 rfl rfl)
theorem dX8_plain_69 : decode cX8_plain 69 = .ok (.iconst (-1), 1) := dk_2 (dk_at dksX8_plain_2 21 rfl rfl)
theorem dX8_plain_70 : decode cX8_plain 70 = .ok (.iastore, 1) := dk_79 (dk_at dksX8_plain_2 22 rfl rfl)
theorem dX8_plain_71 : decode cX8_plain 71 = .ok (.iinc 1 1, 3) := dk_132 1 1 (dk_at dksX8_plain_3 0 rfl rfl)
theorem dX8_plain_74 : decode cX8_plain 74 = .ok (.goto (-16), 3) := dk_167 255 240 (dk_at dksX8_plain_3 3 rfl rfl)
theorem dX8_plain_77 : decode cX8_plain 77 = .ok (.iconst 0, 1) := dk_3 (dk_at dksX8_plain_3 6 rfl rfl)
theorem dX8_plain_78 : decode cX8_plain 78 = .ok (.istore_n 1, 1) := dk_60 (dk_at dksX8_plain_3 7 rfl rfl)
theorem dX8_plain_79 : decode cX8_plain 79 = .ok (.iload_n 1, 1) := dk_27 (dk_at dksX8_plain_3 8 rfl rfl)
theorem dX8_plain_80 : decode cX8_plain 80 = .ok (.bipush 8, 2) := dk_16 8 (dk_at dksX8_plain_3 9 rfl rfl)
theorem dX8_plain_82 : decode cX8_plain 82 = .ok (.if_icmp .ge 16, 3) := dk_162 0 16 (dk_at dksX8_plain_3 11 rfl rfl)
theorem dX8_plain_85 : decode cX8_plain 85 = .ok (.aload_n 0, 1) := dk_42 (dk_at dksX8_plain_3 14 rfl rfl)
theorem dX8_plain_86 : decode cX8_plain 86 = .ok (.bipush 104, 2) := dk_16 104 (dk_at dksX8_plain_3 15 rfl rfl)
theorem dX8_plain_88 : decode cX8_plain 88 = .ok (.iload_n 1, 1) := dk_27 (dk_at dksX8_plain_3 17 rfl rfl)
theorem dX8_plain_89 : decode cX8_plain 89 = .ok (.iadd, 1) := dk_96 (dk_at dksX8_plain_3 18 rfl rfl)
theorem dX8_plain_90 : decode cX8_plain 90 = .ok (.iconst (-1), 1) := dk_2 (dk_at dksX8_plain_3 19 rfl rfl)
theorem dX8_plain_91 : decode cX8_plain 91 = .ok (.iastore, 1) := dk_79 (dk_at dksX8_plain_3 20 rfl rfl)
theorem dX8_plain_92 : decode cX8_plain 92 = .ok (.iinc 1 1, 3) := dk_132 1 1 (dk_at dksX8_plain_3 21 rfl rfl)
theorem dX8_plain_95 : decode cX8_plain 95 = .ok (.goto (-16), 3) := dk_167 255 240 (dk_at dksX8_plain_4 0 rfl rfl)
theorem dX8_plain_98 : decode cX8_plain 98 = .ok (.return_, 1) := dk_177 (dk_at dksX8_plain_4 3 rfl rfl)
abbrev cX8_feed : ByteArray := prog_20_method_5_code
def yX8_feed : MethodName := ⟨RX8, "feed", "(IIIII)I"⟩
def dkwX8_feed_5 : List UInt8 := [167, 255, 162, 42, 180, 0, 90, 172]
abbrev dktX8_feed_5 : List UInt8 := dkwX8_feed_5 ++ []
def dkwX8_feed_4 : List UInt8 := [112, 104, 100, 122, 17, 0, 255, 126, 79, 42, 89, 180, 0, 90, 4, 96, 181, 0, 90, 132, 6, 1]
abbrev dktX8_feed_4 : List UInt8 := dkwX8_feed_4 ++ dktX8_feed_5
def dkwX8_feed_3 : List UInt8 := [167, 0, 5, 21, 5, 54, 7, 42, 180, 0, 21, 42, 180, 0, 90, 21, 7, 16, 24, 16, 8, 21, 6, 7]
abbrev dktX8_feed_3 : List UInt8 := dkwX8_feed_3 ++ dktX8_feed_4
def dkwX8_feed_2 : List UInt8 := [28, 167, 0, 28, 21, 6, 16, 12, 162, 0, 7, 29, 167, 0, 17, 21, 6, 16, 16, 162, 0, 8, 21, 4]
abbrev dktX8_feed_2 : List UInt8 := dkwX8_feed_2 ++ dktX8_feed_3
def dkwX8_feed_1 : List UInt8 := [21, 6, 16, 20, 162, 0, 93, 21, 6, 7, 162, 0, 7, 27, 167, 0, 39, 21, 6, 16, 8, 162, 0, 7]
abbrev dktX8_feed_1 : List UInt8 := dkwX8_feed_1 ++ dktX8_feed_2
def dkwX8_feed_0 : List UInt8 := [42, 3, 181, 0, 1, 42, 180, 0, 90, 16, 20, 96, 17, 1, 144, 164, 0, 6, 16, 251, 172, 3, 54, 6]
abbrev dktX8_feed_0 : List UInt8 := dkwX8_feed_0 ++ dktX8_feed_1
theorem dksX8_feed_0 : cX8_feed.data.toList.drop 0 = dktX8_feed_0 := by decide +kernel
theorem dksX8_feed_1 : cX8_feed.data.toList.drop 24 = dktX8_feed_1 := dk_seg dksX8_feed_0 24 rfl rfl
theorem dksX8_feed_2 : cX8_feed.data.toList.drop 48 = dktX8_feed_2 := dk_seg dksX8_feed_1 24 rfl rfl
theorem dksX8_feed_3 : cX8_feed.data.toList.drop 72 = dktX8_feed_3 := dk_seg dksX8_feed_2 24 rfl rfl
theorem dksX8_feed_4 : cX8_feed.data.toList.drop 96 = dktX8_feed_4 := dk_seg dksX8_feed_3 24 rfl rfl
theorem dksX8_feed_5 : cX8_feed.data.toList.drop 118 = dktX8_feed_5 := dk_seg dksX8_feed_4 22 rfl rfl
theorem dX8_feed_0 : decode cX8_feed 0 = .ok (.aload_n 0, 1) := dk_42 (dk_at dksX8_feed_0 0 rfl rfl)
theorem dX8_feed_1 : decode cX8_feed 1 = .ok (.iconst 0, 1) := dk_3 (dk_at dksX8_feed_0 1 rfl rfl)
theorem dX8_feed_2 : decode cX8_feed 2 = .ok (.putfield 1, 3) := dk_181 0 1 (dk_at dksX8_feed_0 2 rfl rfl)
theorem dX8_feed_5 : decode cX8_feed 5 = .ok (.aload_n 0, 1) := dk_42 (dk_at dksX8_feed_0 5 rfl rfl)
theorem dX8_feed_6 : decode cX8_feed 6 = .ok (.getfield 90, 3) := dk_180 0 90 (dk_at dksX8_feed_0 6 rfl rfl)
theorem dX8_feed_9 : decode cX8_feed 9 = .ok (.bipush 20, 2) := dk_16 20 (dk_at dksX8_feed_0 9 rfl rfl)
theorem dX8_feed_11 : decode cX8_feed 11 = .ok (.iadd, 1) := dk_96 (dk_at dksX8_feed_0 11 rfl rfl)
theorem dX8_feed_12 : decode cX8_feed 12 = .ok (.sipush 400, 3) := dk_17 1 144 (dk_at dksX8_feed_0 12 rfl rfl)
theorem dX8_feed_15 : decode cX8_feed 15 = .ok (.if_icmp .le 6, 3) := dk_164 0 6 (dk_at dksX8_feed_0 15 rfl rfl)
theorem dX8_feed_18 : decode cX8_feed 18 = .ok (.bipush (-5), 2) := dk_16 251 (dk_at dksX8_feed_0 18 rfl rfl)
theorem dX8_feed_20 : decode cX8_feed 20 = .ok (.ireturn, 1) := dk_172 (dk_at dksX8_feed_0 20 rfl rfl)
theorem dX8_feed_21 : decode cX8_feed 21 = .ok (.iconst 0, 1) := dk_3 (dk_at dksX8_feed_0 21 rfl rfl)
theorem dX8_feed_22 : decode cX8_feed 22 = .ok (.istore 6, 2) := dk_54 6 (dk_at dksX8_feed_0 22 rfl rfl)
theorem dX8_feed_24 : decode cX8_feed 24 = .ok (.iload 6, 2) := dk_21 6 (dk_at dksX8_feed_1 0 rfl rfl)
theorem dX8_feed_26 : decode cX8_feed 26 = .ok (.bipush 20, 2) := dk_16 20 (dk_at dksX8_feed_1 2 rfl rfl)
theorem dX8_feed_28 : decode cX8_feed 28 = .ok (.if_icmp .ge 93, 3) := dk_162 0 93 (dk_at dksX8_feed_1 4 rfl rfl)
theorem dX8_feed_31 : decode cX8_feed 31 = .ok (.iload 6, 2) := dk_21 6 (dk_at dksX8_feed_1 7 rfl rfl)
theorem dX8_feed_33 : decode cX8_feed 33 = .ok (.iconst 4, 1) := dk_7 (dk_at dksX8_feed_1 9 rfl rfl)
theorem dX8_feed_34 : decode cX8_feed 34 = .ok (.if_icmp .ge 7, 3) := dk_162 0 7 (dk_at dksX8_feed_1 10 rfl rfl)
theorem dX8_feed_37 : decode cX8_feed 37 = .ok (.iload_n 1, 1) := dk_27 (dk_at dksX8_feed_1 13 rfl rfl)
theorem dX8_feed_38 : decode cX8_feed 38 = .ok (.goto 39, 3) := dk_167 0 39 (dk_at dksX8_feed_1 14 rfl rfl)
theorem dX8_feed_41 : decode cX8_feed 41 = .ok (.iload 6, 2) := dk_21 6 (dk_at dksX8_feed_1 17 rfl rfl)
theorem dX8_feed_43 : decode cX8_feed 43 = .ok (.bipush 8, 2) := dk_16 8 (dk_at dksX8_feed_1 19 rfl rfl)
theorem dX8_feed_45 : decode cX8_feed 45 = .ok (.if_icmp .ge 7, 3) := dk_162 0 7 (dk_at dksX8_feed_1 21 rfl rfl)
theorem dX8_feed_48 : decode cX8_feed 48 = .ok (.iload_n 2, 1) := dk_28 (dk_at dksX8_feed_2 0 rfl rfl)
theorem dX8_feed_49 : decode cX8_feed 49 = .ok (.goto 28, 3) := dk_167 0 28 (dk_at dksX8_feed_2 1 rfl rfl)
theorem dX8_feed_52 : decode cX8_feed 52 = .ok (.iload 6, 2) := dk_21 6 (dk_at dksX8_feed_2 4 rfl rfl)
theorem dX8_feed_54 : decode cX8_feed 54 = .ok (.bipush 12, 2) := dk_16 12 (dk_at dksX8_feed_2 6 rfl rfl)
theorem dX8_feed_56 : decode cX8_feed 56 = .ok (.if_icmp .ge 7, 3) := dk_162 0 7 (dk_at dksX8_feed_2 8 rfl rfl)
theorem dX8_feed_59 : decode cX8_feed 59 = .ok (.iload_n 3, 1) := dk_29 (dk_at dksX8_feed_2 11 rfl rfl)
theorem dX8_feed_60 : decode cX8_feed 60 = .ok (.goto 17, 3) := dk_167 0 17 (dk_at dksX8_feed_2 12 rfl rfl)
theorem dX8_feed_63 : decode cX8_feed 63 = .ok (.iload 6, 2) := dk_21 6 (dk_at dksX8_feed_2 15 rfl rfl)
theorem dX8_feed_65 : decode cX8_feed 65 = .ok (.bipush 16, 2) := dk_16 16 (dk_at dksX8_feed_2 17 rfl rfl)
theorem dX8_feed_67 : decode cX8_feed 67 = .ok (.if_icmp .ge 8, 3) := dk_162 0 8 (dk_at dksX8_feed_2 19 rfl rfl)
theorem dX8_feed_70 : decode cX8_feed 70 = .ok (.iload 4, 2) := dk_21 4 (dk_at dksX8_feed_2 22 rfl rfl)
theorem dX8_feed_72 : decode cX8_feed 72 = .ok (.goto 5, 3) := dk_167 0 5 (dk_at dksX8_feed_3 0 rfl rfl)
theorem dX8_feed_75 : decode cX8_feed 75 = .ok (.iload 5, 2) := dk_21 5 (dk_at dksX8_feed_3 3 rfl rfl)
theorem dX8_feed_77 : decode cX8_feed 77 = .ok (.istore 7, 2) := dk_54 7 (dk_at dksX8_feed_3 5 rfl rfl)
theorem dX8_feed_79 : decode cX8_feed 79 = .ok (.aload_n 0, 1) := dk_42 (dk_at dksX8_feed_3 7 rfl rfl)
theorem dX8_feed_80 : decode cX8_feed 80 = .ok (.getfield 21, 3) := dk_180 0 21 (dk_at dksX8_feed_3 8 rfl rfl)
theorem dX8_feed_83 : decode cX8_feed 83 = .ok (.aload_n 0, 1) := dk_42 (dk_at dksX8_feed_3 11 rfl rfl)
theorem dX8_feed_84 : decode cX8_feed 84 = .ok (.getfield 90, 3) := dk_180 0 90 (dk_at dksX8_feed_3 12 rfl rfl)
theorem dX8_feed_87 : decode cX8_feed 87 = .ok (.iload 7, 2) := dk_21 7 (dk_at dksX8_feed_3 15 rfl rfl)
theorem dX8_feed_89 : decode cX8_feed 89 = .ok (.bipush 24, 2) := dk_16 24 (dk_at dksX8_feed_3 17 rfl rfl)
theorem dX8_feed_91 : decode cX8_feed 91 = .ok (.bipush 8, 2) := dk_16 8 (dk_at dksX8_feed_3 19 rfl rfl)
theorem dX8_feed_93 : decode cX8_feed 93 = .ok (.iload 6, 2) := dk_21 6 (dk_at dksX8_feed_3 21 rfl rfl)
theorem dX8_feed_95 : decode cX8_feed 95 = .ok (.iconst 4, 1) := dk_7 (dk_at dksX8_feed_3 23 rfl rfl)
theorem dX8_feed_96 : decode cX8_feed 96 = .ok (.irem, 1) := dk_112 (dk_at dksX8_feed_4 0 rfl rfl)
theorem dX8_feed_97 : decode cX8_feed 97 = .ok (.imul, 1) := dk_104 (dk_at dksX8_feed_4 1 rfl rfl)
theorem dX8_feed_98 : decode cX8_feed 98 = .ok (.isub, 1) := dk_100 (dk_at dksX8_feed_4 2 rfl rfl)
theorem dX8_feed_99 : decode cX8_feed 99 = .ok (.ishr, 1) := dk_122 (dk_at dksX8_feed_4 3 rfl rfl)
theorem dX8_feed_100 : decode cX8_feed 100 = .ok (.sipush 255, 3) := dk_17 0 255 (dk_at dksX8_feed_4 4 rfl rfl)
theorem dX8_feed_103 : decode cX8_feed 103 = .ok (.iand, 1) := dk_126 (dk_at dksX8_feed_4 7 rfl rfl)
theorem dX8_feed_104 : decode cX8_feed 104 = .ok (.iastore, 1) := dk_79 (dk_at dksX8_feed_4 8 rfl rfl)
theorem dX8_feed_105 : decode cX8_feed 105 = .ok (.aload_n 0, 1) := dk_42 (dk_at dksX8_feed_4 9 rfl rfl)
theorem dX8_feed_106 : decode cX8_feed 106 = .ok (.dup, 1) := dk_89 (dk_at dksX8_feed_4 10 rfl rfl)
theorem dX8_feed_107 : decode cX8_feed 107 = .ok (.getfield 90, 3) := dk_180 0 90 (dk_at dksX8_feed_4 11 rfl rfl)
theorem dX8_feed_110 : decode cX8_feed 110 = .ok (.iconst 1, 1) := dk_4 (dk_at dksX8_feed_4 14 rfl rfl)
theorem dX8_feed_111 : decode cX8_feed 111 = .ok (.iadd, 1) := dk_96 (dk_at dksX8_feed_4 15 rfl rfl)
theorem dX8_feed_112 : decode cX8_feed 112 = .ok (.putfield 90, 3) := dk_181 0 90 (dk_at dksX8_feed_4 16 rfl rfl)
theorem dX8_feed_115 : decode cX8_feed 115 = .ok (.iinc 6 1, 3) := dk_132 6 1 (dk_at dksX8_feed_4 19 rfl rfl)
theorem dX8_feed_118 : decode cX8_feed 118 = .ok (.goto (-94), 3) := dk_167 255 162 (dk_at dksX8_feed_5 0 rfl rfl)
theorem dX8_feed_121 : decode cX8_feed 121 = .ok (.aload_n 0, 1) := dk_42 (dk_at dksX8_feed_5 3 rfl rfl)
theorem dX8_feed_122 : decode cX8_feed 122 = .ok (.getfield 90, 3) := dk_180 0 90 (dk_at dksX8_feed_5 4 rfl rfl)
theorem dX8_feed_125 : decode cX8_feed 125 = .ok (.ireturn, 1) := dk_172 (dk_at dksX8_feed_5 7 rfl rfl)
abbrev cX8_text : ByteArray := prog_20_method_27_code
def yX8_text : MethodName := ⟨RX8, "text", "(II)I"⟩
def dkwX8_text_10 : List UInt8 := [16, 114, 46, 172]
abbrev dktX8_text_10 : List UInt8 := dkwX8_text_10 ++ []
def dkwX8_text_9 : List UInt8 := [132, 5, 1, 167, 255, 232, 27, 154, 0, 13, 42, 180, 0, 13, 16, 79, 46, 167, 0, 10, 42, 180, 0, 13]
abbrev dktX8_text_9 : List UInt8 := dkwX8_text_9 ++ dktX8_text_10
def dkwX8_text_8 : List UInt8 := [29, 54, 5, 21, 5, 21, 4, 162, 0, 23, 42, 180, 0, 13, 21, 5, 42, 180, 0, 24, 21, 5, 46, 79]
abbrev dktX8_text_8 : List UInt8 := dkwX8_text_8 ++ dktX8_text_9
def dkwX8_text_7 : List UInt8 := [154, 0, 7, 3, 167, 0, 5, 16, 114, 62, 27, 154, 0, 8, 16, 113, 167, 0, 6, 17, 2, 19, 54, 4]
abbrev dktX8_text_7 : List UInt8 := dkwX8_text_7 ++ dktX8_text_8
def dkwX8_text_6 : List UInt8 := [180, 0, 137, 181, 0, 27, 42, 180, 0, 134, 153, 0, 11, 16, 246, 42, 180, 0, 134, 100, 172, 27]
abbrev dktX8_text_6 : List UInt8 := dkwX8_text_6 ++ dktX8_text_7
def dkwX8_text_5 : List UInt8 := [167, 255, 225, 42, 42, 180, 0, 134, 181, 0, 208, 42, 42, 180, 0, 134, 154, 0, 7, 2, 167, 0, 7, 42]
abbrev dktX8_text_5 : List UInt8 := dkwX8_text_5 ++ dktX8_text_6
def dkwX8_text_4 : List UInt8 := [180, 0, 118, 16, 29, 159, 0, 21, 27, 154, 0, 10, 42, 182, 0, 202, 167, 255, 232, 42, 182, 0, 205]
abbrev dktX8_text_4 : List UInt8 := dkwX8_text_4 ++ dktX8_text_5
def dkwX8_text_3 : List UInt8 := [184, 0, 86, 42, 180, 0, 24, 16, 114, 3, 79, 42, 182, 0, 143, 42, 180, 0, 134, 154, 0, 30, 42]
abbrev dktX8_text_3 : List UInt8 := dkwX8_text_3 ++ dktX8_text_4
def dkwX8_text_2 : List UInt8 := [3, 181, 0, 111, 42, 3, 181, 0, 134, 42, 3, 181, 0, 192, 42, 3, 181, 0, 179, 42, 180, 0, 24]
abbrev dktX8_text_2 : List UInt8 := dkwX8_text_2 ++ dktX8_text_3
def dkwX8_text_1 : List UInt8 := [180, 0, 90, 133, 184, 0, 153, 154, 0, 6, 16, 253, 172, 42, 28, 181, 0, 93, 42, 3, 181, 0, 90, 42]
abbrev dktX8_text_1 : List UInt8 := dkwX8_text_1 ++ dktX8_text_2
def dkwX8_text_0 : List UInt8 := [42, 3, 181, 0, 1, 27, 133, 9, 10, 184, 0, 153, 154, 0, 6, 16, 254, 172, 28, 133, 9, 42]
abbrev dktX8_text_0 : List UInt8 := dkwX8_text_0 ++ dktX8_text_1
theorem dksX8_text_0 : cX8_text.data.toList.drop 0 = dktX8_text_0 := by decide +kernel
theorem dksX8_text_1 : cX8_text.data.toList.drop 22 = dktX8_text_1 := dk_seg dksX8_text_0 22 rfl rfl
theorem dksX8_text_2 : cX8_text.data.toList.drop 46 = dktX8_text_2 := dk_seg dksX8_text_1 24 rfl rfl
theorem dksX8_text_3 : cX8_text.data.toList.drop 69 = dktX8_text_3 := dk_seg dksX8_text_2 23 rfl rfl
theorem dksX8_text_4 : cX8_text.data.toList.drop 92 = dktX8_text_4 := dk_seg dksX8_text_3 23 rfl rfl
theorem dksX8_text_5 : cX8_text.data.toList.drop 115 = dktX8_text_5 := dk_seg dksX8_text_4 23 rfl rfl
theorem dksX8_text_6 : cX8_text.data.toList.drop 139 = dktX8_text_6 := dk_seg dksX8_text_5 24 rfl rfl
theorem dksX8_text_7 : cX8_text.data.toList.drop 161 = dktX8_text_7 := dk_seg dksX8_text_6 22 rfl rfl
theorem dksX8_text_8 : cX8_text.data.toList.drop 185 = dktX8_text_8 := dk_seg dksX8_text_7 24 rfl rfl
theorem dksX8_text_9 : cX8_text.data.toList.drop 209 = dktX8_text_9 := dk_seg dksX8_text_8 24 rfl rfl
theorem dksX8_text_10 : cX8_text.data.toList.drop 233 = dktX8_text_10 := dk_seg dksX8_text_9 24 rfl rfl
theorem dX8_text_0 : decode cX8_text 0 = .ok (.aload_n 0, 1) := dk_42 (dk_at dksX8_text_0 0 rfl rfl)
theorem dX8_text_1 : decode cX8_text 1 = .ok (.iconst 0, 1) := dk_3 (dk_at dksX8_text_0 1 rfl rfl)
theorem dX8_text_2 : decode cX8_text 2 = .ok (.putfield 1, 3) := dk_181 0 1 (dk_at dksX8_text_0 2 rfl rfl)
theorem dX8_text_5 : decode cX8_text 5 = .ok (.iload_n 1, 1) := dk_27 (dk_at dksX8_text_0 5 rfl rfl)
theorem dX8_text_6 : decode cX8_text 6 = .ok (.i2l, 1) := dk_133 (dk_at dksX8_text_0 6 rfl rfl)
theorem dX8_text_7 : decode cX8_text 7 = .ok (.lconst 0, 1) := dk_9 (dk_at dksX8_text_0 7 rfl rfl)
theorem dX8_text_8 : decode cX8_text 8 = .ok (.lconst 1, 1) := dk_10 (dk_at dksX8_text_0 8 rfl rfl)
theorem dX8_text_9 : decode cX8_text 9 = .ok (.invokestatic 153, 3) := dk_184 0 153 (dk_at dksX8_text_0 9 rfl rfl)
theorem dX8_text_12 : decode cX8_text 12 = .ok (.ifCond .ne 6, 3) := dk_154 0 6 (dk_at dksX8_text_0 12 rfl rfl)
theorem dX8_text_15 : decode cX8_text 15 = .ok (.bipush (-2), 2) := dk_16 254 (dk_at dksX8_text_0 15 rfl rfl)
theorem dX8_text_17 : decode cX8_text 17 = .ok (.ireturn, 1) := dk_172 (dk_at dksX8_text_0 17 rfl rfl)
theorem dX8_text_18 : decode cX8_text 18 = .ok (.iload_n 2, 1) := dk_28 (dk_at dksX8_text_0 18 rfl rfl)
theorem dX8_text_19 : decode cX8_text 19 = .ok (.i2l, 1) := dk_133 (dk_at dksX8_text_0 19 rfl rfl)
theorem dX8_text_20 : decode cX8_text 20 = .ok (.lconst 0, 1) := dk_9 (dk_at dksX8_text_0 20 rfl rfl)
theorem dX8_text_21 : decode cX8_text 21 = .ok (.aload_n 0, 1) := dk_42 (dk_at dksX8_text_0 21 rfl rfl)
theorem dX8_text_22 : decode cX8_text 22 = .ok (.getfield 90, 3) := dk_180 0 90 (dk_at dksX8_text_1 0 rfl rfl)
theorem dX8_text_25 : decode cX8_text 25 = .ok (.i2l, 1) := dk_133 (dk_at dksX8_text_1 3 rfl rfl)
theorem dX8_text_26 : decode cX8_text 26 = .ok (.invokestatic 153, 3) := dk_184 0 153 (dk_at dksX8_text_1 4 rfl rfl)
theorem dX8_text_29 : decode cX8_text 29 = .ok (.ifCond .ne 6, 3) := dk_154 0 6 (dk_at dksX8_text_1 7 rfl rfl)
theorem dX8_text_32 : decode cX8_text 32 = .ok (.bipush (-3), 2) := dk_16 253 (dk_at dksX8_text_1 10 rfl rfl)
theorem dX8_text_34 : decode cX8_text 34 = .ok (.ireturn, 1) := dk_172 (dk_at dksX8_text_1 12 rfl rfl)
theorem dX8_text_35 : decode cX8_text 35 = .ok (.aload_n 0, 1) := dk_42 (dk_at dksX8_text_1 13 rfl rfl)
theorem dX8_text_36 : decode cX8_text 36 = .ok (.iload_n 2, 1) := dk_28 (dk_at dksX8_text_1 14 rfl rfl)
theorem dX8_text_37 : decode cX8_text 37 = .ok (.putfield 93, 3) := dk_181 0 93 (dk_at dksX8_text_1 15 rfl rfl)
theorem dX8_text_40 : decode cX8_text 40 = .ok (.aload_n 0, 1) := dk_42 (dk_at dksX8_text_1 18 rfl rfl)
theorem dX8_text_41 : decode cX8_text 41 = .ok (.iconst 0, 1) := dk_3 (dk_at dksX8_text_1 19 rfl rfl)
theorem dX8_text_42 : decode cX8_text 42 = .ok (.putfield 90, 3) := dk_181 0 90 (dk_at dksX8_text_1 20 rfl rfl)
theorem dX8_text_45 : decode cX8_text 45 = .ok (.aload_n 0, 1) := dk_42 (dk_at dksX8_text_1 23 rfl rfl)
theorem dX8_text_46 : decode cX8_text 46 = .ok (.iconst 0, 1) := dk_3 (dk_at dksX8_text_2 0 rfl rfl)
theorem dX8_text_47 : decode cX8_text 47 = .ok (.putfield 111, 3) := dk_181 0 111 (dk_at dksX8_text_2 1 rfl rfl)
theorem dX8_text_50 : decode cX8_text 50 = .ok (.aload_n 0, 1) := dk_42 (dk_at dksX8_text_2 4 rfl rfl)
theorem dX8_text_51 : decode cX8_text 51 = .ok (.iconst 0, 1) := dk_3 (dk_at dksX8_text_2 5 rfl rfl)
theorem dX8_text_52 : decode cX8_text 52 = .ok (.putfield 134, 3) := dk_181 0 134 (dk_at dksX8_text_2 6 rfl rfl)
theorem dX8_text_55 : decode cX8_text 55 = .ok (.aload_n 0, 1) := dk_42 (dk_at dksX8_text_2 9 rfl rfl)
theorem dX8_text_56 : decode cX8_text 56 = .ok (.iconst 0, 1) := dk_3 (dk_at dksX8_text_2 10 rfl rfl)
theorem dX8_text_57 : decode cX8_text 57 = .ok (.putfield 192, 3) := dk_181 0 192 (dk_at dksX8_text_2 11 rfl rfl)
theorem dX8_text_60 : decode cX8_text 60 = .ok (.aload_n 0, 1) := dk_42 (dk_at dksX8_text_2 14 rfl rfl)
theorem dX8_text_61 : decode cX8_text 61 = .ok (.iconst 0, 1) := dk_3 (dk_at dksX8_text_2 15 rfl rfl)
theorem dX8_text_62 : decode cX8_text 62 = .ok (.putfield 179, 3) := dk_181 0 179 (dk_at dksX8_text_2 16 rfl rfl)
theorem dX8_text_65 : decode cX8_text 65 = .ok (.aload_n 0, 1) := dk_42 (dk_at dksX8_text_2 19 rfl rfl)
theorem dX8_text_66 : decode cX8_text 66 = .ok (.getfield 24, 3) := dk_180 0 24 (dk_at dksX8_text_2 20 rfl rfl)
theorem dX8_text_69 : decode cX8_text 69 = .ok (.invokestatic 86, 3) := dk_184 0 86 (dk_at dksX8_text_3 0 rfl rfl)
theorem dX8_text_72 : decode cX8_text 72 = .ok (.aload_n 0, 1) := dk_42 (dk_at dksX8_text_3 3 rfl rfl)
theorem dX8_text_73 : decode cX8_text 73 = .ok (.getfield 24, 3) := dk_180 0 24 (dk_at dksX8_text_3 4 rfl rfl)
theorem dX8_text_76 : decode cX8_text 76 = .ok (.bipush 114, 2) := dk_16 114 (dk_at dksX8_text_3 7 rfl rfl)
theorem dX8_text_78 : decode cX8_text 78 = .ok (.iconst 0, 1) := dk_3 (dk_at dksX8_text_3 9 rfl rfl)
theorem dX8_text_79 : decode cX8_text 79 = .ok (.iastore, 1) := dk_79 (dk_at dksX8_text_3 10 rfl rfl)
theorem dX8_text_80 : decode cX8_text 80 = .ok (.aload_n 0, 1) := dk_42 (dk_at dksX8_text_3 11 rfl rfl)
theorem dX8_text_81 : decode cX8_text 81 = .ok (.invokevirtual 143, 3) := dk_182 0 143 (dk_at dksX8_text_3 12 rfl rfl)
theorem dX8_text_84 : decode cX8_text 84 = .ok (.aload_n 0, 1) := dk_42 (dk_at dksX8_text_3 15 rfl rfl)
theorem dX8_text_85 : decode cX8_text 85 = .ok (.getfield 134, 3) := dk_180 0 134 (dk_at dksX8_text_3 16 rfl rfl)
theorem dX8_text_88 : decode cX8_text 88 = .ok (.ifCond .ne 30, 3) := dk_154 0 30 (dk_at dksX8_text_3 19 rfl rfl)
theorem dX8_text_91 : decode cX8_text 91 = .ok (.aload_n 0, 1) := dk_42 (dk_at dksX8_text_3 22 rfl rfl)
theorem dX8_text_92 : decode cX8_text 92 = .ok (.getfield 118, 3) := dk_180 0 118 (dk_at dksX8_text_4 0 rfl rfl)
theorem dX8_text_95 : decode cX8_text 95 = .ok (.bipush 29, 2) := dk_16 29 (dk_at dksX8_text_4 3 rfl rfl)
theorem dX8_text_97 : decode cX8_text 97 = .ok (.if_icmp .eq 21, 3) := dk_159 0 21 (dk_at dksX8_text_4 5 rfl rfl)
theorem dX8_text_100 : decode cX8_text 100 = .ok (.iload_n 1, 1) := dk_27 (dk_at dksX8_text_4 8 rfl rfl)
theorem dX8_text_101 : decode cX8_text 101 = .ok (.ifCond .ne 10, 3) := dk_154 0 10 (dk_at dksX8_text_4 9 rfl rfl)
theorem dX8_text_104 : decode cX8_text 104 = .ok (.aload_n 0, 1) := dk_42 (dk_at dksX8_text_4 12 rfl rfl)
theorem dX8_text_105 : decode cX8_text 105 = .ok (.invokevirtual 202, 3) := dk_182 0 202 (dk_at dksX8_text_4 13 rfl rfl)
theorem dX8_text_108 : decode cX8_text 108 = .ok (.goto (-24), 3) := dk_167 255 232 (dk_at dksX8_text_4 16 rfl rfl)
theorem dX8_text_111 : decode cX8_text 111 = .ok (.aload_n 0, 1) := dk_42 (dk_at dksX8_text_4 19 rfl rfl)
theorem dX8_text_112 : decode cX8_text 112 = .ok (.invokevirtual 205, 3) := dk_182 0 205 (dk_at dksX8_text_4 20 rfl rfl)
theorem dX8_text_115 : decode cX8_text 115 = .ok (.goto (-31), 3) := dk_167 255 225 (dk_at dksX8_text_5 0 rfl rfl)
theorem dX8_text_118 : decode cX8_text 118 = .ok (.aload_n 0, 1) := dk_42 (dk_at dksX8_text_5 3 rfl rfl)
theorem dX8_text_119 : decode cX8_text 119 = .ok (.aload_n 0, 1) := dk_42 (dk_at dksX8_text_5 4 rfl rfl)
theorem dX8_text_120 : decode cX8_text 120 = .ok (.getfield 134, 3) := dk_180 0 134 (dk_at dksX8_text_5 5 rfl rfl)
theorem dX8_text_123 : decode cX8_text 123 = .ok (.putfield 208, 3) := dk_181 0 208 (dk_at dksX8_text_5 8 rfl rfl)
theorem dX8_text_126 : decode cX8_text 126 = .ok (.aload_n 0, 1) := dk_42 (dk_at dksX8_text_5 11 rfl rfl)
theorem dX8_text_127 : decode cX8_text 127 = .ok (.aload_n 0, 1) := dk_42 (dk_at dksX8_text_5 12 rfl rfl)
theorem dX8_text_128 : decode cX8_text 128 = .ok (.getfield 134, 3) := dk_180 0 134 (dk_at dksX8_text_5 13 rfl rfl)
theorem dX8_text_131 : decode cX8_text 131 = .ok (.ifCond .ne 7, 3) := dk_154 0 7 (dk_at dksX8_text_5 16 rfl rfl)
theorem dX8_text_134 : decode cX8_text 134 = .ok (.iconst (-1), 1) := dk_2 (dk_at dksX8_text_5 19 rfl rfl)
theorem dX8_text_135 : decode cX8_text 135 = .ok (.goto 7, 3) := dk_167 0 7 (dk_at dksX8_text_5 20 rfl rfl)
theorem dX8_text_138 : decode cX8_text 138 = .ok (.aload_n 0, 1) := dk_42 (dk_at dksX8_text_5 23 rfl rfl)
theorem dX8_text_139 : decode cX8_text 139 = .ok (.getfield 137, 3) := dk_180 0 137 (dk_at dksX8_text_6 0 rfl rfl)
theorem dX8_text_142 : decode cX8_text 142 = .ok (.putfield 27, 3) := dk_181 0 27 (dk_at dksX8_text_6 3 rfl rfl)
theorem dX8_text_145 : decode cX8_text 145 = .ok (.aload_n 0, 1) := dk_42 (dk_at dksX8_text_6 6 rfl rfl)
theorem dX8_text_146 : decode cX8_text 146 = .ok (.getfield 134, 3) := dk_180 0 134 (dk_at dksX8_text_6 7 rfl rfl)
theorem dX8_text_149 : decode cX8_text 149 = .ok (.ifCond .eq 11, 3) := dk_153 0 11 (dk_at dksX8_text_6 10 rfl rfl)
theorem dX8_text_152 : decode cX8_text 152 = .ok (.bipush (-10), 2) := dk_16 246 (dk_at dksX8_text_6 13 rfl rfl)
theorem dX8_text_154 : decode cX8_text 154 = .ok (.aload_n 0, 1) := dk_42 (dk_at dksX8_text_6 15 rfl rfl)
theorem dX8_text_155 : decode cX8_text 155 = .ok (.getfield 134, 3) := dk_180 0 134 (dk_at dksX8_text_6 16 rfl rfl)
theorem dX8_text_158 : decode cX8_text 158 = .ok (.isub, 1) := dk_100 (dk_at dksX8_text_6 19 rfl rfl)
theorem dX8_text_159 : decode cX8_text 159 = .ok (.ireturn, 1) := dk_172 (dk_at dksX8_text_6 20 rfl rfl)
theorem dX8_text_160 : decode cX8_text 160 = .ok (.iload_n 1, 1) := dk_27 (dk_at dksX8_text_6 21 rfl rfl)
theorem dX8_text_161 : decode cX8_text 161 = .ok (.ifCond .ne 7, 3) := dk_154 0 7 (dk_at dksX8_text_7 0 rfl rfl)
theorem dX8_text_164 : decode cX8_text 164 = .ok (.iconst 0, 1) := dk_3 (dk_at dksX8_text_7 3 rfl rfl)
theorem dX8_text_165 : decode cX8_text 165 = .ok (.goto 5, 3) := dk_167 0 5 (dk_at dksX8_text_7 4 rfl rfl)
theorem dX8_text_168 : decode cX8_text 168 = .ok (.bipush 114, 2) := dk_16 114 (dk_at dksX8_text_7 7 rfl rfl)
theorem dX8_text_170 : decode cX8_text 170 = .ok (.istore_n 3, 1) := dk_62 (dk_at dksX8_text_7 9 rfl rfl)
theorem dX8_text_171 : decode cX8_text 171 = .ok (.iload_n 1, 1) := dk_27 (dk_at dksX8_text_7 10 rfl rfl)
theorem dX8_text_172 : decode cX8_text 172 = .ok (.ifCond .ne 8, 3) := dk_154 0 8 (dk_at dksX8_text_7 11 rfl rfl)
theorem dX8_text_175 : decode cX8_text 175 = .ok (.bipush 113, 2) := dk_16 113 (dk_at dksX8_text_7 14 rfl rfl)
theorem dX8_text_177 : decode cX8_text 177 = .ok (.goto 6, 3) := dk_167 0 6 (dk_at dksX8_text_7 16 rfl rfl)
theorem dX8_text_180 : decode cX8_text 180 = .ok (.sipush 531, 3) := dk_17 2 19 (dk_at dksX8_text_7 19 rfl rfl)
theorem dX8_text_183 : decode cX8_text 183 = .ok (.istore 4, 2) := dk_54 4 (dk_at dksX8_text_7 22 rfl rfl)
theorem dX8_text_185 : decode cX8_text 185 = .ok (.iload_n 3, 1) := dk_29 (dk_at dksX8_text_8 0 rfl rfl)
theorem dX8_text_186 : decode cX8_text 186 = .ok (.istore 5, 2) := dk_54 5 (dk_at dksX8_text_8 1 rfl rfl)
theorem dX8_text_188 : decode cX8_text 188 = .ok (.iload 5, 2) := dk_21 5 (dk_at dksX8_text_8 3 rfl rfl)
theorem dX8_text_190 : decode cX8_text 190 = .ok (.iload 4, 2) := dk_21 4 (dk_at dksX8_text_8 5 rfl rfl)
theorem dX8_text_192 : decode cX8_text 192 = .ok (.if_icmp .ge 23, 3) := dk_162 0 23 (dk_at dksX8_text_8 7 rfl rfl)
theorem dX8_text_195 : decode cX8_text 195 = .ok (.aload_n 0, 1) := dk_42 (dk_at dksX8_text_8 10 rfl rfl)
theorem dX8_text_196 : decode cX8_text 196 = .ok (.getfield 13, 3) := dk_180 0 13 (dk_at dksX8_text_8 11 rfl rfl)
theorem dX8_text_199 : decode cX8_text 199 = .ok (.iload 5, 2) := dk_21 5 (dk_at dksX8_text_8 14 rfl rfl)
theorem dX8_text_201 : decode cX8_text 201 = .ok (.aload_n 0, 1) := dk_42 (dk_at dksX8_text_8 16 rfl rfl)
theorem dX8_text_202 : decode cX8_text 202 = .ok (.getfield 24, 3) := dk_180 0 24 (dk_at dksX8_text_8 17 rfl rfl)
theorem dX8_text_205 : decode cX8_text 205 = .ok (.iload 5, 2) := dk_21 5 (dk_at dksX8_text_8 20 rfl rfl)
theorem dX8_text_207 : decode cX8_text 207 = .ok (.iaload, 1) := dk_46 (dk_at dksX8_text_8 22 rfl rfl)
theorem dX8_text_208 : decode cX8_text 208 = .ok (.iastore, 1) := dk_79 (dk_at dksX8_text_8 23 rfl rfl)
theorem dX8_text_209 : decode cX8_text 209 = .ok (.iinc 5 1, 3) := dk_132 5 1 (dk_at dksX8_text_9 0 rfl rfl)
theorem dX8_text_212 : decode cX8_text 212 = .ok (.goto (-24), 3) := dk_167 255 232 (dk_at dksX8_text_9 3 rfl rfl)
theorem dX8_text_215 : decode cX8_text 215 = .ok (.iload_n 1, 1) := dk_27 (dk_at dksX8_text_9 6 rfl rfl)
theorem dX8_text_216 : decode cX8_text 216 = .ok (.ifCond .ne 13, 3) := dk_154 0 13 (dk_at dksX8_text_9 7 rfl rfl)
theorem dX8_text_219 : decode cX8_text 219 = .ok (.aload_n 0, 1) := dk_42 (dk_at dksX8_text_9 10 rfl rfl)
theorem dX8_text_220 : decode cX8_text 220 = .ok (.getfield 13, 3) := dk_180 0 13 (dk_at dksX8_text_9 11 rfl rfl)
theorem dX8_text_223 : decode cX8_text 223 = .ok (.bipush 79, 2) := dk_16 79 (dk_at dksX8_text_9 14 rfl rfl)
theorem dX8_text_225 : decode cX8_text 225 = .ok (.iaload, 1) := dk_46 (dk_at dksX8_text_9 16 rfl rfl)
theorem dX8_text_226 : decode cX8_text 226 = .ok (.goto 10, 3) := dk_167 0 10 (dk_at dksX8_text_9 17 rfl rfl)
theorem dX8_text_229 : decode cX8_text 229 = .ok (.aload_n 0, 1) := dk_42 (dk_at dksX8_text_9 20 rfl rfl)
theorem dX8_text_230 : decode cX8_text 230 = .ok (.getfield 13, 3) := dk_180 0 13 (dk_at dksX8_text_9 21 rfl rfl)
theorem dX8_text_233 : decode cX8_text 233 = .ok (.bipush 114, 2) := dk_16 114 (dk_at dksX8_text_10 0 rfl rfl)
theorem dX8_text_235 : decode cX8_text 235 = .ok (.iaload, 1) := dk_46 (dk_at dksX8_text_10 2 rfl rfl)
theorem dX8_text_236 : decode cX8_text 236 = .ok (.ireturn, 1) := dk_172 (dk_at dksX8_text_10 3 rfl rfl)
abbrev cX8_within : ByteArray := prog_20_method_2_code
def yX8_within : MethodName := ⟨RX8, "within", "(JJJ)Z"⟩
def dkwX8_within_0 : List UInt8 := [30, 32, 148, 155, 0, 14, 30, 22, 4, 148, 157, 0, 7, 4, 167, 0, 4, 3, 172]
abbrev dktX8_within_0 : List UInt8 := dkwX8_within_0 ++ []
theorem dksX8_within_0 : cX8_within.data.toList.drop 0 = dktX8_within_0 := by decide +kernel
theorem dX8_within_0 : decode cX8_within 0 = .ok (.lload_n 0, 1) := dk_30 (dk_at dksX8_within_0 0 rfl rfl)
theorem dX8_within_1 : decode cX8_within 1 = .ok (.lload_n 2, 1) := dk_32 (dk_at dksX8_within_0 1 rfl rfl)
theorem dX8_within_2 : decode cX8_within 2 = .ok (.lcmp, 1) := dk_148 (dk_at dksX8_within_0 2 rfl rfl)
theorem dX8_within_3 : decode cX8_within 3 = .ok (.ifCond .lt 14, 3) := dk_155 0 14 (dk_at dksX8_within_0 3 rfl rfl)
theorem dX8_within_6 : decode cX8_within 6 = .ok (.lload_n 0, 1) := dk_30 (dk_at dksX8_within_0 6 rfl rfl)
theorem dX8_within_7 : decode cX8_within 7 = .ok (.lload 4, 2) := dk_22 4 (dk_at dksX8_within_0 7 rfl rfl)
theorem dX8_within_9 : decode cX8_within 9 = .ok (.lcmp, 1) := dk_148 (dk_at dksX8_within_0 9 rfl rfl)
theorem dX8_within_10 : decode cX8_within 10 = .ok (.ifCond .gt 7, 3) := dk_157 0 7 (dk_at dksX8_within_0 10 rfl rfl)
theorem dX8_within_13 : decode cX8_within 13 = .ok (.iconst 1, 1) := dk_4 (dk_at dksX8_within_0 13 rfl rfl)
theorem dX8_within_14 : decode cX8_within 14 = .ok (.goto 4, 3) := dk_167 0 4 (dk_at dksX8_within_0 14 rfl rfl)
theorem dX8_within_17 : decode cX8_within 17 = .ok (.iconst 0, 1) := dk_3 (dk_at dksX8_within_0 17 rfl rfl)
theorem dX8_within_18 : decode cX8_within 18 = .ok (.ireturn, 1) := dk_172 (dk_at dksX8_within_0 18 rfl rfl)
abbrev cX8_next : ByteArray := prog_20_method_10_code
def yX8_next : MethodName := ⟨RX8, "next", "()V"⟩
def dkwX8_next_13 : List UInt8 := [16, 28, 167, 0, 5, 16, 30, 181, 0, 118, 177]
abbrev dktX8_next_13 : List UInt8 := dkwX8_next_13 ++ []
def dkwX8_next_12 : List UInt8 := [16, 40, 160, 0, 8, 16, 27, 167, 0, 23, 42, 42, 180, 0, 108, 182, 0, 114, 16, 41, 160, 0, 8]
abbrev dktX8_next_12 : List UInt8 := dkwX8_next_12 ++ dktX8_next_13
def dkwX8_next_11 : List UInt8 := [180, 0, 108, 182, 0, 114, 16, 59, 160, 0, 8, 16, 26, 167, 0, 41, 42, 42, 180, 0, 108, 182, 0, 114]
abbrev dktX8_next_11 : List UInt8 := dkwX8_next_11 ++ dktX8_next_12
def dkwX8_next_10 : List UInt8 := [167, 0, 5, 16, 25, 181, 0, 118, 167, 0, 73, 42, 89, 180, 0, 111, 4, 96, 181, 0, 111, 42, 42, 42]
abbrev dktX8_next_10 : List UInt8 := dkwX8_next_10 ++ dktX8_next_11
def dkwX8_next_9 : List UInt8 := [181, 0, 111, 167, 255, 196, 42, 42, 180, 0, 111, 42, 180, 0, 108, 100, 6, 164, 0, 8, 16, 30]
abbrev dktX8_next_9 : List UInt8 := dkwX8_next_9 ++ dktX8_next_10
def dkwX8_next_8 : List UInt8 := [42, 42, 180, 0, 111, 182, 0, 114, 96, 16, 48, 100, 181, 0, 131, 42, 89, 180, 0, 111, 4, 96]
abbrev dktX8_next_8 : List UInt8 := dkwX8_next_8 ++ dktX8_next_9
def dkwX8_next_7 : List UInt8 := [153, 0, 52, 42, 180, 0, 111, 42, 180, 0, 108, 100, 6, 162, 0, 26, 42, 16, 10, 42, 180, 0, 131, 104]
abbrev dktX8_next_7 : List UInt8 := dkwX8_next_7 ++ dktX8_next_8
def dkwX8_next_6 : List UInt8 := [184, 0, 128, 153, 0, 98, 42, 3, 181, 0, 131, 42, 42, 180, 0, 111, 182, 0, 114, 184, 0, 128]
abbrev dktX8_next_6 : List UInt8 := dkwX8_next_6 ++ dktX8_next_7
def dkwX8_next_5 : List UInt8 := [167, 255, 232, 42, 42, 182, 0, 125, 181, 0, 118, 167, 0, 182, 42, 42, 180, 0, 108, 182, 0, 114]
abbrev dktX8_next_5 : List UInt8 := dkwX8_next_5 ++ dktX8_next_6
def dkwX8_next_4 : List UInt8 := [180, 0, 111, 182, 0, 114, 184, 0, 121, 153, 0, 16, 42, 89, 180, 0, 111, 4, 96, 181, 0, 111]
abbrev dktX8_next_4 : List UInt8 := dkwX8_next_4 ++ dktX8_next_5
def dkwX8_next_3 : List UInt8 := [181, 0, 118, 167, 0, 234, 42, 42, 180, 0, 108, 182, 0, 114, 184, 0, 121, 153, 0, 41, 42, 42]
abbrev dktX8_next_3 : List UInt8 := dkwX8_next_3 ++ dktX8_next_4
def dkwX8_next_2 : List UInt8 := [42, 42, 180, 0, 108, 181, 0, 111, 42, 180, 0, 108, 42, 180, 0, 93, 161, 0, 12, 42, 16, 29]
abbrev dktX8_next_2 : List UInt8 := dkwX8_next_2 ++ dktX8_next_3
def dkwX8_next_1 : List UInt8 := [180, 0, 108, 182, 0, 114, 16, 32, 160, 0, 16, 42, 89, 180, 0, 108, 4, 96, 181, 0, 108, 167, 255, 220]
abbrev dktX8_next_1 : List UInt8 := dkwX8_next_1 ++ dktX8_next_2
def dkwX8_next_0 : List UInt8 := [42, 42, 180, 0, 111, 181, 0, 108, 42, 42, 180, 0, 108, 182, 0, 114, 16, 10, 159, 0, 16, 42, 42]
abbrev dktX8_next_0 : List UInt8 := dkwX8_next_0 ++ dktX8_next_1
theorem dksX8_next_0 : cX8_next.data.toList.drop 0 = dktX8_next_0 := by decide +kernel
theorem dksX8_next_1 : cX8_next.data.toList.drop 23 = dktX8_next_1 := dk_seg dksX8_next_0 23 rfl rfl
theorem dksX8_next_2 : cX8_next.data.toList.drop 47 = dktX8_next_2 := dk_seg dksX8_next_1 24 rfl rfl
theorem dksX8_next_3 : cX8_next.data.toList.drop 69 = dktX8_next_3 := dk_seg dksX8_next_2 22 rfl rfl
theorem dksX8_next_4 : cX8_next.data.toList.drop 91 = dktX8_next_4 := dk_seg dksX8_next_3 22 rfl rfl
theorem dksX8_next_5 : cX8_next.data.toList.drop 113 = dktX8_next_5 := dk_seg dksX8_next_4 22 rfl rfl
theorem dksX8_next_6 : cX8_next.data.toList.drop 135 = dktX8_next_6 := dk_seg dksX8_next_5 22 rfl rfl
theorem dksX8_next_7 : cX8_next.data.toList.drop 157 = dktX8_next_7 := dk_seg dksX8_next_6 22 rfl rfl
theorem dksX8_next_8 : cX8_next.data.toList.drop 181 = dktX8_next_8 := dk_seg dksX8_next_7 24 rfl rfl
theorem dksX8_next_9 : cX8_next.data.toList.drop 203 = dktX8_next_9 := dk_seg dksX8_next_8 22 rfl rfl
theorem dksX8_next_10 : cX8_next.data.toList.drop 225 = dktX8_next_10 := dk_seg dksX8_next_9 22 rfl rfl
theorem dksX8_next_11 : cX8_next.data.toList.drop 249 = dktX8_next_11 := dk_seg dksX8_next_10 24 rfl rfl
theorem dksX8_next_12 : cX8_next.data.toList.drop 273 = dktX8_next_12 := dk_seg dksX8_next_11 24 rfl rfl
theorem dksX8_next_13 : cX8_next.data.toList.drop 296 = dktX8_next_13 := dk_seg dksX8_next_12 23 rfl rfl
theorem dX8_next_0 : decode cX8_next 0 = .ok (.aload_n 0, 1) := dk_42 (dk_at dksX8_next_0 0 rfl rfl)
theorem dX8_next_1 : decode cX8_next 1 = .ok (.aload_n 0, 1) := dk_42 (dk_at dksX8_next_0 1 rfl rfl)
theorem dX8_next_2 : decode cX8_next 2 = .ok (.getfield 111, 3) := dk_180 0 111 (dk_at dksX8_next_0 2 rfl rfl)
theorem dX8_next_5 : decode cX8_next 5 = .ok (.putfield 108, 3) := dk_181 0 108 (dk_at dksX8_next_0 5 rfl rfl)
theorem dX8_next_8 : decode cX8_next 8 = .ok (.aload_n 0, 1) := dk_42 (dk_at dksX8_next_0 8 rfl rfl)
theorem dX8_next_9 : decode cX8_next 9 = .ok (.aload_n 0, 1) := dk_42 (dk_at dksX8_next_0 9 rfl rfl)
theorem dX8_next_10 : decode cX8_next 10 = .ok (.getfield 108, 3) := dk_180 0 108 (dk_at dksX8_next_0 10 rfl rfl)
theorem dX8_next_13 : decode cX8_next 13 = .ok (.invokevirtual 114, 3) := dk_182 0 114 (dk_at dksX8_next_0 13 rfl rfl)
theorem dX8_next_16 : decode cX8_next 16 = .ok (.bipush 10, 2) := dk_16 10 (dk_at dksX8_next_0 16 rfl rfl)
theorem dX8_next_18 : decode cX8_next 18 = .ok (.if_icmp .eq 16, 3) := dk_159 0 16 (dk_at dksX8_next_0 18 rfl rfl)
theorem dX8_next_21 : decode cX8_next 21 = .ok (.aload_n 0, 1) := dk_42 (dk_at dksX8_next_0 21 rfl rfl)
theorem dX8_next_22 : decode cX8_next 22 = .ok (.aload_n 0, 1) := dk_42 (dk_at dksX8_next_0 22 rfl rfl)
theorem dX8_next_23 : decode cX8_next 23 = .ok (.getfield 108, 3) := dk_180 0 108 (dk_at dksX8_next_1 0 rfl rfl)
theorem dX8_next_26 : decode cX8_next 26 = .ok (.invokevirtual 114, 3) := dk_182 0 114 (dk_at dksX8_next_1 3 rfl rfl)
theorem dX8_next_29 : decode cX8_next 29 = .ok (.bipush 32, 2) := dk_16 32 (dk_at dksX8_next_1 6 rfl rfl)
theorem dX8_next_31 : decode cX8_next 31 = .ok (.if_icmp .ne 16, 3) := dk_160 0 16 (dk_at dksX8_next_1 8 rfl rfl)
theorem dX8_next_34 : decode cX8_next 34 = .ok (.aload_n 0, 1) := dk_42 (dk_at dksX8_next_1 11 rfl rfl)
theorem dX8_next_35 : decode cX8_next 35 = .ok (.dup, 1) := dk_89 (dk_at dksX8_next_1 12 rfl rfl)
theorem dX8_next_36 : decode cX8_next 36 = .ok (.getfield 108, 3) := dk_180 0 108 (dk_at dksX8_next_1 13 rfl rfl)
theorem dX8_next_39 : decode cX8_next 39 = .ok (.iconst 1, 1) := dk_4 (dk_at dksX8_next_1 16 rfl rfl)
theorem dX8_next_40 : decode cX8_next 40 = .ok (.iadd, 1) := dk_96 (dk_at dksX8_next_1 17 rfl rfl)
theorem dX8_next_41 : decode cX8_next 41 = .ok (.putfield 108, 3) := dk_181 0 108 (dk_at dksX8_next_1 18 rfl rfl)
theorem dX8_next_44 : decode cX8_next 44 = .ok (.goto (-36), 3) := dk_167 255 220 (dk_at dksX8_next_1 21 rfl rfl)
theorem dX8_next_47 : decode cX8_next 47 = .ok (.aload_n 0, 1) := dk_42 (dk_at dksX8_next_2 0 rfl rfl)
theorem dX8_next_48 : decode cX8_next 48 = .ok (.aload_n 0, 1) := dk_42 (dk_at dksX8_next_2 1 rfl rfl)
theorem dX8_next_49 : decode cX8_next 49 = .ok (.getfield 108, 3) := dk_180 0 108 (dk_at dksX8_next_2 2 rfl rfl)
theorem dX8_next_52 : decode cX8_next 52 = .ok (.putfield 111, 3) := dk_181 0 111 (dk_at dksX8_next_2 5 rfl rfl)
theorem dX8_next_55 : decode cX8_next 55 = .ok (.aload_n 0, 1) := dk_42 (dk_at dksX8_next_2 8 rfl rfl)
theorem dX8_next_56 : decode cX8_next 56 = .ok (.getfield 108, 3) := dk_180 0 108 (dk_at dksX8_next_2 9 rfl rfl)
theorem dX8_next_59 : decode cX8_next 59 = .ok (.aload_n 0, 1) := dk_42 (dk_at dksX8_next_2 12 rfl rfl)
theorem dX8_next_60 : decode cX8_next 60 = .ok (.getfield 93, 3) := dk_180 0 93 (dk_at dksX8_next_2 13 rfl rfl)
theorem dX8_next_63 : decode cX8_next 63 = .ok (.if_icmp .lt 12, 3) := dk_161 0 12 (dk_at dksX8_next_2 16 rfl rfl)
theorem dX8_next_66 : decode cX8_next 66 = .ok (.aload_n 0, 1) := dk_42 (dk_at dksX8_next_2 19 rfl rfl)
theorem dX8_next_67 : decode cX8_next 67 = .ok (.bipush 29, 2) := dk_16 29 (dk_at dksX8_next_2 20 rfl rfl)
theorem dX8_next_69 : decode cX8_next 69 = .ok (.putfield 118, 3) := dk_181 0 118 (dk_at dksX8_next_3 0 rfl rfl)
theorem dX8_next_72 : decode cX8_next 72 = .ok (.goto 234, 3) := dk_167 0 234 (dk_at dksX8_next_3 3 rfl rfl)
theorem dX8_next_75 : decode cX8_next 75 = .ok (.aload_n 0, 1) := dk_42 (dk_at dksX8_next_3 6 rfl rfl)
theorem dX8_next_76 : decode cX8_next 76 = .ok (.aload_n 0, 1) := dk_42 (dk_at dksX8_next_3 7 rfl rfl)
theorem dX8_next_77 : decode cX8_next 77 = .ok (.getfield 108, 3) := dk_180 0 108 (dk_at dksX8_next_3 8 rfl rfl)
theorem dX8_next_80 : decode cX8_next 80 = .ok (.invokevirtual 114, 3) := dk_182 0 114 (dk_at dksX8_next_3 11 rfl rfl)
theorem dX8_next_83 : decode cX8_next 83 = .ok (.invokestatic 121, 3) := dk_184 0 121 (dk_at dksX8_next_3 14 rfl rfl)
theorem dX8_next_86 : decode cX8_next 86 = .ok (.ifCond .eq 41, 3) := dk_153 0 41 (dk_at dksX8_next_3 17 rfl rfl)
theorem dX8_next_89 : decode cX8_next 89 = .ok (.aload_n 0, 1) := dk_42 (dk_at dksX8_next_3 20 rfl rfl)
theorem dX8_next_90 : decode cX8_next 90 = .ok (.aload_n 0, 1) := dk_42 (dk_at dksX8_next_3 21 rfl rfl)
theorem dX8_next_91 : decode cX8_next 91 = .ok (.getfield 111, 3) := dk_180 0 111 (dk_at dksX8_next_4 0 rfl rfl)
theorem dX8_next_94 : decode cX8_next 94 = .ok (.invokevirtual 114, 3) := dk_182 0 114 (dk_at dksX8_next_4 3 rfl rfl)
theorem dX8_next_97 : decode cX8_next 97 = .ok (.invokestatic 121, 3) := dk_184 0 121 (dk_at dksX8_next_4 6 rfl rfl)
theorem dX8_next_100 : decode cX8_next 100 = .ok (.ifCond .eq 16, 3) := dk_153 0 16 (dk_at dksX8_next_4 9 rfl rfl)
theorem dX8_next_103 : decode cX8_next 103 = .ok (.aload_n 0, 1) := dk_42 (dk_at dksX8_next_4 12 rfl rfl)
theorem dX8_next_104 : decode cX8_next 104 = .ok (.dup, 1) := dk_89 (dk_at dksX8_next_4 13 rfl rfl)
theorem dX8_next_105 : decode cX8_next 105 = .ok (.getfield 111, 3) := dk_180 0 111 (dk_at dksX8_next_4 14 rfl rfl)
theorem dX8_next_108 : decode cX8_next 108 = .ok (.iconst 1, 1) := dk_4 (dk_at dksX8_next_4 17 rfl rfl)
theorem dX8_next_109 : decode cX8_next 109 = .ok (.iadd, 1) := dk_96 (dk_at dksX8_next_4 18 rfl rfl)
theorem dX8_next_110 : decode cX8_next 110 = .ok (.putfield 111, 3) := dk_181 0 111 (dk_at dksX8_next_4 19 rfl rfl)
theorem dX8_next_113 : decode cX8_next 113 = .ok (.goto (-24), 3) := dk_167 255 232 (dk_at dksX8_next_5 0 rfl rfl)
theorem dX8_next_116 : decode cX8_next 116 = .ok (.aload_n 0, 1) := dk_42 (dk_at dksX8_next_5 3 rfl rfl)
theorem dX8_next_117 : decode cX8_next 117 = .ok (.aload_n 0, 1) := dk_42 (dk_at dksX8_next_5 4 rfl rfl)
theorem dX8_next_118 : decode cX8_next 118 = .ok (.invokevirtual 125, 3) := dk_182 0 125 (dk_at dksX8_next_5 5 rfl rfl)
theorem dX8_next_121 : decode cX8_next 121 = .ok (.putfield 118, 3) := dk_181 0 118 (dk_at dksX8_next_5 8 rfl rfl)
theorem dX8_next_124 : decode cX8_next 124 = .ok (.goto 182, 3) := dk_167 0 182 (dk_at dksX8_next_5 11 rfl rfl)
theorem dX8_next_127 : decode cX8_next 127 = .ok (.aload_n 0, 1) := dk_42 (dk_at dksX8_next_5 14 rfl rfl)
theorem dX8_next_128 : decode cX8_next 128 = .ok (.aload_n 0, 1) := dk_42 (dk_at dksX8_next_5 15 rfl rfl)
theorem dX8_next_129 : decode cX8_next 129 = .ok (.getfield 108, 3) := dk_180 0 108 (dk_at dksX8_next_5 16 rfl rfl)
theorem dX8_next_132 : decode cX8_next 132 = .ok (.invokevirtual 114, 3) := dk_182 0 114 (dk_at dksX8_next_5 19 rfl rfl)
theorem dX8_next_135 : decode cX8_next 135 = .ok (.invokestatic 128, 3) := dk_184 0 128 (dk_at dksX8_next_6 0 rfl rfl)
theorem dX8_next_138 : decode cX8_next 138 = .ok (.ifCond .eq 98, 3) := dk_153 0 98 (dk_at dksX8_next_6 3 rfl rfl)
theorem dX8_next_141 : decode cX8_next 141 = .ok (.aload_n 0, 1) := dk_42 (dk_at dksX8_next_6 6 rfl rfl)
theorem dX8_next_142 : decode cX8_next 142 = .ok (.iconst 0, 1) := dk_3 (dk_at dksX8_next_6 7 rfl rfl)
theorem dX8_next_143 : decode cX8_next 143 = .ok (.putfield 131, 3) := dk_181 0 131 (dk_at dksX8_next_6 8 rfl rfl)
theorem dX8_next_146 : decode cX8_next 146 = .ok (.aload_n 0, 1) := dk_42 (dk_at dksX8_next_6 11 rfl rfl)
theorem dX8_next_147 : decode cX8_next 147 = .ok (.aload_n 0, 1) := dk_42 (dk_at dksX8_next_6 12 rfl rfl)
theorem dX8_next_148 : decode cX8_next 148 = .ok (.getfield 111, 3) := dk_180 0 111 (dk_at dksX8_next_6 13 rfl rfl)
theorem dX8_next_151 : decode cX8_next 151 = .ok (.invokevirtual 114, 3) := dk_182 0 114 (dk_at dksX8_next_6 16 rfl rfl)
theorem dX8_next_154 : decode cX8_next 154 = .ok (.invokestatic 128, 3) := dk_184 0 128 (dk_at dksX8_next_6 19 rfl rfl)
theorem dX8_next_157 : decode cX8_next 157 = .ok (.ifCond .eq 52, 3) := dk_153 0 52 (dk_at dksX8_next_7 0 rfl rfl)
theorem dX8_next_160 : decode cX8_next 160 = .ok (.aload_n 0, 1) := dk_42 (dk_at dksX8_next_7 3 rfl rfl)
theorem dX8_next_161 : decode cX8_next 161 = .ok (.getfield 111, 3) := dk_180 0 111 (dk_at dksX8_next_7 4 rfl rfl)
theorem dX8_next_164 : decode cX8_next 164 = .ok (.aload_n 0, 1) := dk_42 (dk_at dksX8_next_7 7 rfl rfl)
theorem dX8_next_165 : decode cX8_next 165 = .ok (.getfield 108, 3) := dk_180 0 108 (dk_at dksX8_next_7 8 rfl rfl)
theorem dX8_next_168 : decode cX8_next 168 = .ok (.isub, 1) := dk_100 (dk_at dksX8_next_7 11 rfl rfl)
theorem dX8_next_169 : decode cX8_next 169 = .ok (.iconst 3, 1) := dk_6 (dk_at dksX8_next_7 12 rfl rfl)
theorem dX8_next_170 : decode cX8_next 170 = .ok (.if_icmp .ge 26, 3) := dk_162 0 26 (dk_at dksX8_next_7 13 rfl rfl)
theorem dX8_next_173 : decode cX8_next 173 = .ok (.aload_n 0, 1) := dk_42 (dk_at dksX8_next_7 16 rfl rfl)
theorem dX8_next_174 : decode cX8_next 174 = .ok (.bipush 10, 2) := dk_16 10 (dk_at dksX8_next_7 17 rfl rfl)
theorem dX8_next_176 : decode cX8_next 176 = .ok (.aload_n 0, 1) := dk_42 (dk_at dksX8_next_7 19 rfl rfl)
theorem dX8_next_177 : decode cX8_next 177 = .ok (.getfield 131, 3) := dk_180 0 131 (dk_at dksX8_next_7 20 rfl rfl)
theorem dX8_next_180 : decode cX8_next 180 = .ok (.imul, 1) := dk_104 (dk_at dksX8_next_7 23 rfl rfl)
theorem dX8_next_181 : decode cX8_next 181 = .ok (.aload_n 0, 1) := dk_42 (dk_at dksX8_next_8 0 rfl rfl)
theorem dX8_next_182 : decode cX8_next 182 = .ok (.aload_n 0, 1) := dk_42 (dk_at dksX8_next_8 1 rfl rfl)
theorem dX8_next_183 : decode cX8_next 183 = .ok (.getfield 111, 3) := dk_180 0 111 (dk_at dksX8_next_8 2 rfl rfl)
theorem dX8_next_186 : decode cX8_next 186 = .ok (.invokevirtual 114, 3) := dk_182 0 114 (dk_at dksX8_next_8 5 rfl rfl)
theorem dX8_next_189 : decode cX8_next 189 = .ok (.iadd, 1) := dk_96 (dk_at dksX8_next_8 8 rfl rfl)
theorem dX8_next_190 : decode cX8_next 190 = .ok (.bipush 48, 2) := dk_16 48 (dk_at dksX8_next_8 9 rfl rfl)
theorem dX8_next_192 : decode cX8_next 192 = .ok (.isub, 1) := dk_100 (dk_at dksX8_next_8 11 rfl rfl)
theorem dX8_next_193 : decode cX8_next 193 = .ok (.putfield 131, 3) := dk_181 0 131 (dk_at dksX8_next_8 12 rfl rfl)
theorem dX8_next_196 : decode cX8_next 196 = .ok (.aload_n 0, 1) := dk_42 (dk_at dksX8_next_8 15 rfl rfl)
theorem dX8_next_197 : decode cX8_next 197 = .ok (.dup, 1) := dk_89 (dk_at dksX8_next_8 16 rfl rfl)
theorem dX8_next_198 : decode cX8_next 198 = .ok (.getfield 111, 3) := dk_180 0 111 (dk_at dksX8_next_8 17 rfl rfl)
theorem dX8_next_201 : decode cX8_next 201 = .ok (.iconst 1, 1) := dk_4 (dk_at dksX8_next_8 20 rfl rfl)
theorem dX8_next_202 : decode cX8_next 202 = .ok (.iadd, 1) := dk_96 (dk_at dksX8_next_8 21 rfl rfl)
theorem dX8_next_203 : decode cX8_next 203 = .ok (.putfield 111, 3) := dk_181 0 111 (dk_at dksX8_next_9 0 rfl rfl)
theorem dX8_next_206 : decode cX8_next 206 = .ok (.goto (-60), 3) := dk_167 255 196 (dk_at dksX8_next_9 3 rfl rfl)
theorem dX8_next_209 : decode cX8_next 209 = .ok (.aload_n 0, 1) := dk_42 (dk_at dksX8_next_9 6 rfl rfl)
theorem dX8_next_210 : decode cX8_next 210 = .ok (.aload_n 0, 1) := dk_42 (dk_at dksX8_next_9 7 rfl rfl)
theorem dX8_next_211 : decode cX8_next 211 = .ok (.getfield 111, 3) := dk_180 0 111 (dk_at dksX8_next_9 8 rfl rfl)
theorem dX8_next_214 : decode cX8_next 214 = .ok (.aload_n 0, 1) := dk_42 (dk_at dksX8_next_9 11 rfl rfl)
theorem dX8_next_215 : decode cX8_next 215 = .ok (.getfield 108, 3) := dk_180 0 108 (dk_at dksX8_next_9 12 rfl rfl)
theorem dX8_next_218 : decode cX8_next 218 = .ok (.isub, 1) := dk_100 (dk_at dksX8_next_9 15 rfl rfl)
theorem dX8_next_219 : decode cX8_next 219 = .ok (.iconst 3, 1) := dk_6 (dk_at dksX8_next_9 16 rfl rfl)
theorem dX8_next_220 : decode cX8_next 220 = .ok (.if_icmp .le 8, 3) := dk_164 0 8 (dk_at dksX8_next_9 17 rfl rfl)
theorem dX8_next_223 : decode cX8_next 223 = .ok (.bipush 30, 2) := dk_16 30 (dk_at dksX8_next_9 20 rfl rfl)
theorem dX8_next_225 : decode cX8_next 225 = .ok (.goto 5, 3) := dk_167 0 5 (dk_at dksX8_next_10 0 rfl rfl)
theorem dX8_next_228 : decode cX8_next 228 = .ok (.bipush 25, 2) := dk_16 25 (dk_at dksX8_next_10 3 rfl rfl)
theorem dX8_next_230 : decode cX8_next 230 = .ok (.putfield 118, 3) := dk_181 0 118 (dk_at dksX8_next_10 5 rfl rfl)
theorem dX8_next_233 : decode cX8_next 233 = .ok (.goto 73, 3) := dk_167 0 73 (dk_at dksX8_next_10 8 rfl rfl)
theorem dX8_next_236 : decode cX8_next 236 = .ok (.aload_n 0, 1) := dk_42 (dk_at dksX8_next_10 11 rfl rfl)
theorem dX8_next_237 : decode cX8_next 237 = .ok (.dup, 1) := dk_89 (dk_at dksX8_next_10 12 rfl rfl)
theorem dX8_next_238 : decode cX8_next 238 = .ok (.getfield 111, 3) := dk_180 0 111 (dk_at dksX8_next_10 13 rfl rfl)
theorem dX8_next_241 : decode cX8_next 241 = .ok (.iconst 1, 1) := dk_4 (dk_at dksX8_next_10 16 rfl rfl)
theorem dX8_next_242 : decode cX8_next 242 = .ok (.iadd, 1) := dk_96 (dk_at dksX8_next_10 17 rfl rfl)
theorem dX8_next_243 : decode cX8_next 243 = .ok (.putfield 111, 3) := dk_181 0 111 (dk_at dksX8_next_10 18 rfl rfl)
theorem dX8_next_246 : decode cX8_next 246 = .ok (.aload_n 0, 1) := dk_42 (dk_at dksX8_next_10 21 rfl rfl)
theorem dX8_next_247 : decode cX8_next 247 = .ok (.aload_n 0, 1) := dk_42 (dk_at dksX8_next_10 22 rfl rfl)
theorem dX8_next_248 : decode cX8_next 248 = .ok (.aload_n 0, 1) := dk_42 (dk_at dksX8_next_10 23 rfl rfl)
theorem dX8_next_249 : decode cX8_next 249 = .ok (.getfield 108, 3) := dk_180 0 108 (dk_at dksX8_next_11 0 rfl rfl)
theorem dX8_next_252 : decode cX8_next 252 = .ok (.invokevirtual 114, 3) := dk_182 0 114 (dk_at dksX8_next_11 3 rfl rfl)
theorem dX8_next_255 : decode cX8_next 255 = .ok (.bipush 59, 2) := dk_16 59 (dk_at dksX8_next_11 6 rfl rfl)
theorem dX8_next_257 : decode cX8_next 257 = .ok (.if_icmp .ne 8, 3) := dk_160 0 8 (dk_at dksX8_next_11 8 rfl rfl)
theorem dX8_next_260 : decode cX8_next 260 = .ok (.bipush 26, 2) := dk_16 26 (dk_at dksX8_next_11 11 rfl rfl)
theorem dX8_next_262 : decode cX8_next 262 = .ok (.goto 41, 3) := dk_167 0 41 (dk_at dksX8_next_11 13 rfl rfl)
theorem dX8_next_265 : decode cX8_next 265 = .ok (.aload_n 0, 1) := dk_42 (dk_at dksX8_next_11 16 rfl rfl)
theorem dX8_next_266 : decode cX8_next 266 = .ok (.aload_n 0, 1) := dk_42 (dk_at dksX8_next_11 17 rfl rfl)
theorem dX8_next_267 : decode cX8_next 267 = .ok (.getfield 108, 3) := dk_180 0 108 (dk_at dksX8_next_11 18 rfl rfl)
theorem dX8_next_270 : decode cX8_next 270 = .ok (.invokevirtual 114, 3) := dk_182 0 114 (dk_at dksX8_next_11 21 rfl rfl)
theorem dX8_next_273 : decode cX8_next 273 = .ok (.bipush 40, 2) := dk_16 40 (dk_at dksX8_next_12 0 rfl rfl)
theorem dX8_next_275 : decode cX8_next 275 = .ok (.if_icmp .ne 8, 3) := dk_160 0 8 (dk_at dksX8_next_12 2 rfl rfl)
theorem dX8_next_278 : decode cX8_next 278 = .ok (.bipush 27, 2) := dk_16 27 (dk_at dksX8_next_12 5 rfl rfl)
theorem dX8_next_280 : decode cX8_next 280 = .ok (.goto 23, 3) := dk_167 0 23 (dk_at dksX8_next_12 7 rfl rfl)
theorem dX8_next_283 : decode cX8_next 283 = .ok (.aload_n 0, 1) := dk_42 (dk_at dksX8_next_12 10 rfl rfl)
theorem dX8_next_284 : decode cX8_next 284 = .ok (.aload_n 0, 1) := dk_42 (dk_at dksX8_next_12 11 rfl rfl)
theorem dX8_next_285 : decode cX8_next 285 = .ok (.getfield 108, 3) := dk_180 0 108 (dk_at dksX8_next_12 12 rfl rfl)
theorem dX8_next_288 : decode cX8_next 288 = .ok (.invokevirtual 114, 3) := dk_182 0 114 (dk_at dksX8_next_12 15 rfl rfl)
theorem dX8_next_291 : decode cX8_next 291 = .ok (.bipush 41, 2) := dk_16 41 (dk_at dksX8_next_12 18 rfl rfl)
theorem dX8_next_293 : decode cX8_next 293 = .ok (.if_icmp .ne 8, 3) := dk_160 0 8 (dk_at dksX8_next_12 20 rfl rfl)
theorem dX8_next_296 : decode cX8_next 296 = .ok (.bipush 28, 2) := dk_16 28 (dk_at dksX8_next_13 0 rfl rfl)
theorem dX8_next_298 : decode cX8_next 298 = .ok (.goto 5, 3) := dk_167 0 5 (dk_at dksX8_next_13 2 rfl rfl)
theorem dX8_next_301 : decode cX8_next 301 = .ok (.bipush 30, 2) := dk_16 30 (dk_at dksX8_next_13 5 rfl rfl)
theorem dX8_next_303 : decode cX8_next 303 = .ok (.putfield 118, 3) := dk_181 0 118 (dk_at dksX8_next_13 7 rfl rfl)
theorem dX8_next_306 : decode cX8_next 306 = .ok (.return_, 1) := dk_177 (dk_at dksX8_next_13 10 rfl rfl)
abbrev cX8_see : ByteArray := prog_20_method_6_code
def yX8_see : MethodName := ⟨RX8, "see", "(I)I"⟩
def dkwX8_see_0 : List UInt8 := [27, 42, 180, 0, 93, 162, 0, 12, 42, 180, 0, 21, 27, 46, 167, 0, 4, 2, 172]
abbrev dktX8_see_0 : List UInt8 := dkwX8_see_0 ++ []
theorem dksX8_see_0 : cX8_see.data.toList.drop 0 = dktX8_see_0 := by decide +kernel
theorem dX8_see_0 : decode cX8_see 0 = .ok (.iload_n 1, 1) := dk_27 (dk_at dksX8_see_0 0 rfl rfl)
theorem dX8_see_1 : decode cX8_see 1 = .ok (.aload_n 0, 1) := dk_42 (dk_at dksX8_see_0 1 rfl rfl)
theorem dX8_see_2 : decode cX8_see 2 = .ok (.getfield 93, 3) := dk_180 0 93 (dk_at dksX8_see_0 2 rfl rfl)
theorem dX8_see_5 : decode cX8_see 5 = .ok (.if_icmp .ge 12, 3) := dk_162 0 12 (dk_at dksX8_see_0 5 rfl rfl)
theorem dX8_see_8 : decode cX8_see 8 = .ok (.aload_n 0, 1) := dk_42 (dk_at dksX8_see_0 8 rfl rfl)
theorem dX8_see_9 : decode cX8_see 9 = .ok (.getfield 21, 3) := dk_180 0 21 (dk_at dksX8_see_0 9 rfl rfl)
theorem dX8_see_12 : decode cX8_see 12 = .ok (.iload_n 1, 1) := dk_27 (dk_at dksX8_see_0 12 rfl rfl)
theorem dX8_see_13 : decode cX8_see 13 = .ok (.iaload, 1) := dk_46 (dk_at dksX8_see_0 13 rfl rfl)
theorem dX8_see_14 : decode cX8_see 14 = .ok (.goto 4, 3) := dk_167 0 4 (dk_at dksX8_see_0 14 rfl rfl)
theorem dX8_see_17 : decode cX8_see 17 = .ok (.iconst (-1), 1) := dk_2 (dk_at dksX8_see_0 17 rfl rfl)
theorem dX8_see_18 : decode cX8_see 18 = .ok (.ireturn, 1) := dk_172 (dk_at dksX8_see_0 18 rfl rfl)
abbrev cX8_isSmall : ByteArray := prog_20_method_7_code
def yX8_isSmall : MethodName := ⟨RX8, "isSmall", "(I)Z"⟩
def dkwX8_isSmall_0 : List UInt8 := [26, 16, 97, 161, 0, 13, 26, 16, 122, 163, 0, 7, 4, 167, 0, 4, 3, 172]
abbrev dktX8_isSmall_0 : List UInt8 := dkwX8_isSmall_0 ++ []
theorem dksX8_isSmall_0 : cX8_isSmall.data.toList.drop 0 = dktX8_isSmall_0 := by decide +kernel
theorem dX8_isSmall_0 : decode cX8_isSmall 0 = .ok (.iload_n 0, 1) := dk_26 (dk_at dksX8_isSmall_0 0 rfl rfl)
theorem dX8_isSmall_1 : decode cX8_isSmall 1 = .ok (.bipush 97, 2) := dk_16 97 (dk_at dksX8_isSmall_0 1 rfl rfl)
theorem dX8_isSmall_3 : decode cX8_isSmall 3 = .ok (.if_icmp .lt 13, 3) := dk_161 0 13 (dk_at dksX8_isSmall_0 3 rfl rfl)
theorem dX8_isSmall_6 : decode cX8_isSmall 6 = .ok (.iload_n 0, 1) := dk_26 (dk_at dksX8_isSmall_0 6 rfl rfl)
theorem dX8_isSmall_7 : decode cX8_isSmall 7 = .ok (.bipush 122, 2) := dk_16 122 (dk_at dksX8_isSmall_0 7 rfl rfl)
theorem dX8_isSmall_9 : decode cX8_isSmall 9 = .ok (.if_icmp .gt 7, 3) := dk_163 0 7 (dk_at dksX8_isSmall_0 9 rfl rfl)
theorem dX8_isSmall_12 : decode cX8_isSmall 12 = .ok (.iconst 1, 1) := dk_4 (dk_at dksX8_isSmall_0 12 rfl rfl)
theorem dX8_isSmall_13 : decode cX8_isSmall 13 = .ok (.goto 4, 3) := dk_167 0 4 (dk_at dksX8_isSmall_0 13 rfl rfl)
theorem dX8_isSmall_16 : decode cX8_isSmall 16 = .ok (.iconst 0, 1) := dk_3 (dk_at dksX8_isSmall_0 16 rfl rfl)
theorem dX8_isSmall_17 : decode cX8_isSmall 17 = .ok (.ireturn, 1) := dk_172 (dk_at dksX8_isSmall_0 17 rfl rfl)
abbrev cX8_keyAt : ByteArray := prog_20_method_9_code
def yX8_keyAt : MethodName := ⟨RX8, "keyAt", "()I"⟩
def dkwX8_keyAt_5 : List UInt8 := [132, 2, 1, 132, 1, 1, 167, 255, 140, 16, 24, 172]
abbrev dktX8_keyAt_5 : List UInt8 := dkwX8_keyAt_5 ++ []
def dkwX8_keyAt_4 : List UInt8 := [160, 0, 5, 27, 172, 18, 96, 28, 182, 0, 104, 16, 32, 159, 0, 9, 132, 2, 1, 167, 255, 242]
abbrev dktX8_keyAt_4 : List UInt8 := dkwX8_keyAt_4 ++ dktX8_keyAt_5
def dkwX8_keyAt_3 : List UInt8 := [18, 96, 28, 29, 96, 182, 0, 104, 16, 32, 160, 0, 18, 42, 180, 0, 108, 29, 96, 42, 180, 0, 111]
abbrev dktX8_keyAt_3 : List UInt8 := dkwX8_keyAt_3 ++ dktX8_keyAt_4
def dkwX8_keyAt_2 : List UInt8 := [180, 0, 108, 29, 96, 46, 18, 96, 28, 29, 96, 182, 0, 104, 160, 0, 9, 132, 3, 1, 167, 255, 205]
abbrev dktX8_keyAt_2 : List UInt8 := dkwX8_keyAt_2 ++ dktX8_keyAt_3
def dkwX8_keyAt_1 : List UInt8 := [16, 32, 159, 0, 44, 42, 180, 0, 108, 29, 96, 42, 180, 0, 111, 162, 0, 31, 42, 180, 0, 21, 42]
abbrev dktX8_keyAt_1 : List UInt8 := dkwX8_keyAt_1 ++ dktX8_keyAt_2
def dkwX8_keyAt_0 : List UInt8 := [3, 60, 4, 61, 28, 18, 96, 182, 0, 98, 162, 0, 113, 3, 62, 18, 96, 28, 29, 96, 182, 0, 104]
abbrev dktX8_keyAt_0 : List UInt8 := dkwX8_keyAt_0 ++ dktX8_keyAt_1
theorem dksX8_keyAt_0 : cX8_keyAt.data.toList.drop 0 = dktX8_keyAt_0 := by decide +kernel
theorem dksX8_keyAt_1 : cX8_keyAt.data.toList.drop 23 = dktX8_keyAt_1 := dk_seg dksX8_keyAt_0 23 rfl rfl
theorem dksX8_keyAt_2 : cX8_keyAt.data.toList.drop 46 = dktX8_keyAt_2 := dk_seg dksX8_keyAt_1 23 rfl rfl
theorem dksX8_keyAt_3 : cX8_keyAt.data.toList.drop 69 = dktX8_keyAt_3 := dk_seg dksX8_keyAt_2 23 rfl rfl
theorem dksX8_keyAt_4 : cX8_keyAt.data.toList.drop 92 = dktX8_keyAt_4 := dk_seg dksX8_keyAt_3 23 rfl rfl
theorem dksX8_keyAt_5 : cX8_keyAt.data.toList.drop 114 = dktX8_keyAt_5 := dk_seg dksX8_keyAt_4 22 rfl rfl
theorem dX8_keyAt_0 : decode cX8_keyAt 0 = .ok (.iconst 0, 1) := dk_3 (dk_at dksX8_keyAt_0 0 rfl rfl)
theorem dX8_keyAt_1 : decode cX8_keyAt 1 = .ok (.istore_n 1, 1) := dk_60 (dk_at dksX8_keyAt_0 1 rfl rfl)
theorem dX8_keyAt_2 : decode cX8_keyAt 2 = .ok (.iconst 1, 1) := dk_4 (dk_at dksX8_keyAt_0 2 rfl rfl)
theorem dX8_keyAt_3 : decode cX8_keyAt 3 = .ok (.istore_n 2, 1) := dk_61 (dk_at dksX8_keyAt_0 3 rfl rfl)
theorem dX8_keyAt_4 : decode cX8_keyAt 4 = .ok (.iload_n 2, 1) := dk_28 (dk_at dksX8_keyAt_0 4 rfl rfl)
theorem dX8_keyAt_5 : decode cX8_keyAt 5 = .ok (.ldc 96, 2) := dk_18 96 (dk_at dksX8_keyAt_0 5 rfl rfl)
theorem dX8_keyAt_7 : decode cX8_keyAt 7 = .ok (.invokevirtual 98, 3) := dk_182 0 98 (dk_at dksX8_keyAt_0 7 rfl rfl)
theorem dX8_keyAt_10 : decode cX8_keyAt 10 = .ok (.if_icmp .ge 113, 3) := dk_162 0 113 (dk_at dksX8_keyAt_0 10 rfl rfl)
theorem dX8_keyAt_13 : decode cX8_keyAt 13 = .ok (.iconst 0, 1) := dk_3 (dk_at dksX8_keyAt_0 13 rfl rfl)
theorem dX8_keyAt_14 : decode cX8_keyAt 14 = .ok (.istore_n 3, 1) := dk_62 (dk_at dksX8_keyAt_0 14 rfl rfl)
theorem dX8_keyAt_15 : decode cX8_keyAt 15 = .ok (.ldc 96, 2) := dk_18 96 (dk_at dksX8_keyAt_0 15 rfl rfl)
theorem dX8_keyAt_17 : decode cX8_keyAt 17 = .ok (.iload_n 2, 1) := dk_28 (dk_at dksX8_keyAt_0 17 rfl rfl)
theorem dX8_keyAt_18 : decode cX8_keyAt 18 = .ok (.iload_n 3, 1) := dk_29 (dk_at dksX8_keyAt_0 18 rfl rfl)
theorem dX8_keyAt_19 : decode cX8_keyAt 19 = .ok (.iadd, 1) := dk_96 (dk_at dksX8_keyAt_0 19 rfl rfl)
theorem dX8_keyAt_20 : decode cX8_keyAt 20 = .ok (.invokevirtual 104, 3) := dk_182 0 104 (dk_at dksX8_keyAt_0 20 rfl rfl)
theorem dX8_keyAt_23 : decode cX8_keyAt 23 = .ok (.bipush 32, 2) := dk_16 32 (dk_at dksX8_keyAt_1 0 rfl rfl)
theorem dX8_keyAt_25 : decode cX8_keyAt 25 = .ok (.if_icmp .eq 44, 3) := dk_159 0 44 (dk_at dksX8_keyAt_1 2 rfl rfl)
theorem dX8_keyAt_28 : decode cX8_keyAt 28 = .ok (.aload_n 0, 1) := dk_42 (dk_at dksX8_keyAt_1 5 rfl rfl)
theorem dX8_keyAt_29 : decode cX8_keyAt 29 = .ok (.getfield 108, 3) := dk_180 0 108 (dk_at dksX8_keyAt_1 6 rfl rfl)
theorem dX8_keyAt_32 : decode cX8_keyAt 32 = .ok (.iload_n 3, 1) := dk_29 (dk_at dksX8_keyAt_1 9 rfl rfl)
theorem dX8_keyAt_33 : decode cX8_keyAt 33 = .ok (.iadd, 1) := dk_96 (dk_at dksX8_keyAt_1 10 rfl rfl)
theorem dX8_keyAt_34 : decode cX8_keyAt 34 = .ok (.aload_n 0, 1) := dk_42 (dk_at dksX8_keyAt_1 11 rfl rfl)
theorem dX8_keyAt_35 : decode cX8_keyAt 35 = .ok (.getfield 111, 3) := dk_180 0 111 (dk_at dksX8_keyAt_1 12 rfl rfl)
theorem dX8_keyAt_38 : decode cX8_keyAt 38 = .ok (.if_icmp .ge 31, 3) := dk_162 0 31 (dk_at dksX8_keyAt_1 15 rfl rfl)
theorem dX8_keyAt_41 : decode cX8_keyAt 41 = .ok (.aload_n 0, 1) := dk_42 (dk_at dksX8_keyAt_1 18 rfl rfl)
theorem dX8_keyAt_42 : decode cX8_keyAt 42 = .ok (.getfield 21, 3) := dk_180 0 21 (dk_at dksX8_keyAt_1 19 rfl rfl)
theorem dX8_keyAt_45 : decode cX8_keyAt 45 = .ok (.aload_n 0, 1) := dk_42 (dk_at dksX8_keyAt_1 22 rfl rfl)
theorem dX8_keyAt_46 : decode cX8_keyAt 46 = .ok (.getfield 108, 3) := dk_180 0 108 (dk_at dksX8_keyAt_2 0 rfl rfl)
theorem dX8_keyAt_49 : decode cX8_keyAt 49 = .ok (.iload_n 3, 1) := dk_29 (dk_at dksX8_keyAt_2 3 rfl rfl)
theorem dX8_keyAt_50 : decode cX8_keyAt 50 = .ok (.iadd, 1) := dk_96 (dk_at dksX8_keyAt_2 4 rfl rfl)
theorem dX8_keyAt_51 : decode cX8_keyAt 51 = .ok (.iaload, 1) := dk_46 (dk_at dksX8_keyAt_2 5 rfl rfl)
theorem dX8_keyAt_52 : decode cX8_keyAt 52 = .ok (.ldc 96, 2) := dk_18 96 (dk_at dksX8_keyAt_2 6 rfl rfl)
theorem dX8_keyAt_54 : decode cX8_keyAt 54 = .ok (.iload_n 2, 1) := dk_28 (dk_at dksX8_keyAt_2 8 rfl rfl)
theorem dX8_keyAt_55 : decode cX8_keyAt 55 = .ok (.iload_n 3, 1) := dk_29 (dk_at dksX8_keyAt_2 9 rfl rfl)
theorem dX8_keyAt_56 : decode cX8_keyAt 56 = .ok (.iadd, 1) := dk_96 (dk_at dksX8_keyAt_2 10 rfl rfl)
theorem dX8_keyAt_57 : decode cX8_keyAt 57 = .ok (.invokevirtual 104, 3) := dk_182 0 104 (dk_at dksX8_keyAt_2 11 rfl rfl)
theorem dX8_keyAt_60 : decode cX8_keyAt 60 = .ok (.if_icmp .ne 9, 3) := dk_160 0 9 (dk_at dksX8_keyAt_2 14 rfl rfl)
theorem dX8_keyAt_63 : decode cX8_keyAt 63 = .ok (.iinc 3 1, 3) := dk_132 3 1 (dk_at dksX8_keyAt_2 17 rfl rfl)
theorem dX8_keyAt_66 : decode cX8_keyAt 66 = .ok (.goto (-51), 3) := dk_167 255 205 (dk_at dksX8_keyAt_2 20 rfl rfl)
theorem dX8_keyAt_69 : decode cX8_keyAt 69 = .ok (.ldc 96, 2) := dk_18 96 (dk_at dksX8_keyAt_3 0 rfl rfl)
theorem dX8_keyAt_71 : decode cX8_keyAt 71 = .ok (.iload_n 2, 1) := dk_28 (dk_at dksX8_keyAt_3 2 rfl rfl)
theorem dX8_keyAt_72 : decode cX8_keyAt 72 = .ok (.iload_n 3, 1) := dk_29 (dk_at dksX8_keyAt_3 3 rfl rfl)
theorem dX8_keyAt_73 : decode cX8_keyAt 73 = .ok (.iadd, 1) := dk_96 (dk_at dksX8_keyAt_3 4 rfl rfl)
theorem dX8_keyAt_74 : decode cX8_keyAt 74 = .ok (.invokevirtual 104, 3) := dk_182 0 104 (dk_at dksX8_keyAt_3 5 rfl rfl)
theorem dX8_keyAt_77 : decode cX8_keyAt 77 = .ok (.bipush 32, 2) := dk_16 32 (dk_at dksX8_keyAt_3 8 rfl rfl)
theorem dX8_keyAt_79 : decode cX8_keyAt 79 = .ok (.if_icmp .ne 18, 3) := dk_160 0 18 (dk_at dksX8_keyAt_3 10 rfl rfl)
theorem dX8_keyAt_82 : decode cX8_keyAt 82 = .ok (.aload_n 0, 1) := dk_42 (dk_at dksX8_keyAt_3 13 rfl rfl)
theorem dX8_keyAt_83 : decode cX8_keyAt 83 = .ok (.getfield 108, 3) := dk_180 0 108 (dk_at dksX8_keyAt_3 14 rfl rfl)
theorem dX8_keyAt_86 : decode cX8_keyAt 86 = .ok (.iload_n 3, 1) := dk_29 (dk_at dksX8_keyAt_3 17 rfl rfl)
theorem dX8_keyAt_87 : decode cX8_keyAt 87 = .ok (.iadd, 1) := dk_96 (dk_at dksX8_keyAt_3 18 rfl rfl)
theorem dX8_keyAt_88 : decode cX8_keyAt 88 = .ok (.aload_n 0, 1) := dk_42 (dk_at dksX8_keyAt_3 19 rfl rfl)
theorem dX8_keyAt_89 : decode cX8_keyAt 89 = .ok (.getfield 111, 3) := dk_180 0 111 (dk_at dksX8_keyAt_3 20 rfl rfl)
theorem dX8_keyAt_92 : decode cX8_keyAt 92 = .ok (.if_icmp .ne 5, 3) := dk_160 0 5 (dk_at dksX8_keyAt_4 0 rfl rfl)
theorem dX8_keyAt_95 : decode cX8_keyAt 95 = .ok (.iload_n 1, 1) := dk_27 (dk_at dksX8_keyAt_4 3 rfl rfl)
theorem dX8_keyAt_96 : decode cX8_keyAt 96 = .ok (.ireturn, 1) := dk_172 (dk_at dksX8_keyAt_4 4 rfl rfl)
theorem dX8_keyAt_97 : decode cX8_keyAt 97 = .ok (.ldc 96, 2) := dk_18 96 (dk_at dksX8_keyAt_4 5 rfl rfl)
theorem dX8_keyAt_99 : decode cX8_keyAt 99 = .ok (.iload_n 2, 1) := dk_28 (dk_at dksX8_keyAt_4 7 rfl rfl)
theorem dX8_keyAt_100 : decode cX8_keyAt 100 = .ok (.invokevirtual 104, 3) := dk_182 0 104 (dk_at dksX8_keyAt_4 8 rfl rfl)
theorem dX8_keyAt_103 : decode cX8_keyAt 103 = .ok (.bipush 32, 2) := dk_16 32 (dk_at dksX8_keyAt_4 11 rfl rfl)
theorem dX8_keyAt_105 : decode cX8_keyAt 105 = .ok (.if_icmp .eq 9, 3) := dk_159 0 9 (dk_at dksX8_keyAt_4 13 rfl rfl)
theorem dX8_keyAt_108 : decode cX8_keyAt 108 = .ok (.iinc 2 1, 3) := dk_132 2 1 (dk_at dksX8_keyAt_4 16 rfl rfl)
theorem dX8_keyAt_111 : decode cX8_keyAt 111 = .ok (.goto (-14), 3) := dk_167 255 242 (dk_at dksX8_keyAt_4 19 rfl rfl)
theorem dX8_keyAt_114 : decode cX8_keyAt 114 = .ok (.iinc 2 1, 3) := dk_132 2 1 (dk_at dksX8_keyAt_5 0 rfl rfl)
theorem dX8_keyAt_117 : decode cX8_keyAt 117 = .ok (.iinc 1 1, 3) := dk_132 1 1 (dk_at dksX8_keyAt_5 3 rfl rfl)
theorem dX8_keyAt_120 : decode cX8_keyAt 120 = .ok (.goto (-116), 3) := dk_167 255 140 (dk_at dksX8_keyAt_5 6 rfl rfl)
theorem dX8_keyAt_123 : decode cX8_keyAt 123 = .ok (.bipush 24, 2) := dk_16 24 (dk_at dksX8_keyAt_5 9 rfl rfl)
theorem dX8_keyAt_125 : decode cX8_keyAt 125 = .ok (.ireturn, 1) := dk_172 (dk_at dksX8_keyAt_5 11 rfl rfl)
abbrev cX8_isDigit : ByteArray := prog_20_method_8_code
def yX8_isDigit : MethodName := ⟨RX8, "isDigit", "(I)Z"⟩
def dkwX8_isDigit_0 : List UInt8 := [26, 16, 48, 161, 0, 13, 26, 16, 57, 163, 0, 7, 4, 167, 0, 4, 3, 172]
abbrev dktX8_isDigit_0 : List UInt8 := dkwX8_isDigit_0 ++ []
theorem dksX8_isDigit_0 : cX8_isDigit.data.toList.drop 0 = dktX8_isDigit_0 := by decide +kernel
theorem dX8_isDigit_0 : decode cX8_isDigit 0 = .ok (.iload_n 0, 1) := dk_26 (dk_at dksX8_isDigit_0 0 rfl rfl)
theorem dX8_isDigit_1 : decode cX8_isDigit 1 = .ok (.bipush 48, 2) := dk_16 48 (dk_at dksX8_isDigit_0 1 rfl rfl)
theorem dX8_isDigit_3 : decode cX8_isDigit 3 = .ok (.if_icmp .lt 13, 3) := dk_161 0 13 (dk_at dksX8_isDigit_0 3 rfl rfl)
theorem dX8_isDigit_6 : decode cX8_isDigit 6 = .ok (.iload_n 0, 1) := dk_26 (dk_at dksX8_isDigit_0 6 rfl rfl)
theorem dX8_isDigit_7 : decode cX8_isDigit 7 = .ok (.bipush 57, 2) := dk_16 57 (dk_at dksX8_isDigit_0 7 rfl rfl)
theorem dX8_isDigit_9 : decode cX8_isDigit 9 = .ok (.if_icmp .gt 7, 3) := dk_163 0 7 (dk_at dksX8_isDigit_0 9 rfl rfl)
theorem dX8_isDigit_12 : decode cX8_isDigit 12 = .ok (.iconst 1, 1) := dk_4 (dk_at dksX8_isDigit_0 12 rfl rfl)
theorem dX8_isDigit_13 : decode cX8_isDigit 13 = .ok (.goto 4, 3) := dk_167 0 4 (dk_at dksX8_isDigit_0 13 rfl rfl)
theorem dX8_isDigit_16 : decode cX8_isDigit 16 = .ok (.iconst 0, 1) := dk_3 (dk_at dksX8_isDigit_0 16 rfl rfl)
theorem dX8_isDigit_17 : decode cX8_isDigit 17 = .ok (.ireturn, 1) := dk_172 (dk_at dksX8_isDigit_0 17 rfl rfl)
abbrev cX8_readLine : ByteArray := prog_20_method_21_code
def yX8_readLine : MethodName := ⟨RX8, "readLine", "()V"⟩
def dkwX8_readLine_8 : List UInt8 := [79, 177]
abbrev dktX8_readLine_8 : List UInt8 := dkwX8_readLine_8 ++ []
def dkwX8_readLine_7 : List UInt8 := [167, 0, 8, 42, 5, 182, 0, 149, 42, 16, 26, 182, 0, 161, 42, 180, 0, 24, 16, 79, 92, 46, 4, 96]
abbrev dktX8_readLine_7 : List UInt8 := dkwX8_readLine_7 ++ dktX8_readLine_8
def dkwX8_readLine_6 : List UInt8 := [16, 77, 4, 79, 167, 0, 28, 42, 16, 13, 182, 0, 146, 153, 0, 14, 42, 180, 0, 24, 16, 78, 4, 79]
abbrev dktX8_readLine_6 : List UInt8 := dkwX8_readLine_6 ++ dktX8_readLine_7
def dkwX8_readLine_5 : List UInt8 := [4, 16, 8, 182, 0, 157, 79, 167, 0, 48, 42, 16, 12, 182, 0, 146, 153, 0, 14, 42, 180, 0, 24]
abbrev dktX8_readLine_5 : List UInt8 := dkwX8_readLine_5 ++ dktX8_readLine_6
def dkwX8_readLine_4 : List UInt8 := [6, 182, 0, 157, 79, 167, 0, 74, 42, 16, 11, 182, 0, 146, 153, 0, 20, 42, 180, 0, 24, 16, 76, 42]
abbrev dktX8_readLine_4 : List UInt8 := dkwX8_readLine_4 ++ dktX8_readLine_5
def dkwX8_readLine_3 : List UInt8 := [4, 182, 0, 176, 167, 0, 99, 42, 16, 10, 182, 0, 146, 153, 0, 19, 42, 180, 0, 24, 16, 75, 42, 4]
abbrev dktX8_readLine_3 : List UInt8 := dkwX8_readLine_3 ++ dktX8_readLine_4
def dkwX8_readLine_2 : List UInt8 := [182, 0, 140, 153, 0, 11, 42, 3, 182, 0, 176, 167, 0, 116, 42, 16, 9, 182, 0, 140, 153, 0, 11, 42]
abbrev dktX8_readLine_2 : List UInt8 := dkwX8_readLine_2 ++ dktX8_readLine_3
def dkwX8_readLine_1 : List UInt8 := [182, 0, 170, 167, 0, 148, 42, 8, 182, 0, 140, 153, 0, 10, 42, 182, 0, 173, 167, 0, 133, 42, 16, 8]
abbrev dktX8_readLine_1 : List UInt8 := dkwX8_readLine_1 ++ dktX8_readLine_2
def dkwX8_readLine_0 : List UInt8 := [42, 3, 182, 0, 140, 153, 0, 10, 42, 182, 0, 167, 167, 0, 163, 42, 4, 182, 0, 140, 153, 0, 10, 42]
abbrev dktX8_readLine_0 : List UInt8 := dkwX8_readLine_0 ++ dktX8_readLine_1
theorem dksX8_readLine_0 : cX8_readLine.data.toList.drop 0 = dktX8_readLine_0 := by decide +kernel
theorem dksX8_readLine_1 : cX8_readLine.data.toList.drop 24 = dktX8_readLine_1 := dk_seg dksX8_readLine_0 24 rfl rfl
theorem dksX8_readLine_2 : cX8_readLine.data.toList.drop 48 = dktX8_readLine_2 := dk_seg dksX8_readLine_1 24 rfl rfl
theorem dksX8_readLine_3 : cX8_readLine.data.toList.drop 72 = dktX8_readLine_3 := dk_seg dksX8_readLine_2 24 rfl rfl
theorem dksX8_readLine_4 : cX8_readLine.data.toList.drop 96 = dktX8_readLine_4 := dk_seg dksX8_readLine_3 24 rfl rfl
theorem dksX8_readLine_5 : cX8_readLine.data.toList.drop 120 = dktX8_readLine_5 := dk_seg dksX8_readLine_4 24 rfl rfl
theorem dksX8_readLine_6 : cX8_readLine.data.toList.drop 143 = dktX8_readLine_6 := dk_seg dksX8_readLine_5 23 rfl rfl
theorem dksX8_readLine_7 : cX8_readLine.data.toList.drop 167 = dktX8_readLine_7 := dk_seg dksX8_readLine_6 24 rfl rfl
theorem dksX8_readLine_8 : cX8_readLine.data.toList.drop 191 = dktX8_readLine_8 := dk_seg dksX8_readLine_7 24 rfl rfl
theorem dX8_readLine_0 : decode cX8_readLine 0 = .ok (.aload_n 0, 1) := dk_42 (dk_at dksX8_readLine_0 0 rfl rfl)
theorem dX8_readLine_1 : decode cX8_readLine 1 = .ok (.iconst 0, 1) := dk_3 (dk_at dksX8_readLine_0 1 rfl rfl)
theorem dX8_readLine_2 : decode cX8_readLine 2 = .ok (.invokevirtual 140, 3) := dk_182 0 140 (dk_at dksX8_readLine_0 2 rfl rfl)
theorem dX8_readLine_5 : decode cX8_readLine 5 = .ok (.ifCond .eq 10, 3) := dk_153 0 10 (dk_at dksX8_readLine_0 5 rfl rfl)
theorem dX8_readLine_8 : decode cX8_readLine 8 = .ok (.aload_n 0, 1) := dk_42 (dk_at dksX8_readLine_0 8 rfl rfl)
theorem dX8_readLine_9 : decode cX8_readLine 9 = .ok (.invokevirtual 167, 3) := dk_182 0 167 (dk_at dksX8_readLine_0 9 rfl rfl)
theorem dX8_readLine_12 : decode cX8_readLine 12 = .ok (.goto 163, 3) := dk_167 0 163 (dk_at dksX8_readLine_0 12 rfl rfl)
theorem dX8_readLine_15 : decode cX8_readLine 15 = .ok (.aload_n 0, 1) := dk_42 (dk_at dksX8_readLine_0 15 rfl rfl)
theorem dX8_readLine_16 : decode cX8_readLine 16 = .ok (.iconst 1, 1) := dk_4 (dk_at dksX8_readLine_0 16 rfl rfl)
theorem dX8_readLine_17 : decode cX8_readLine 17 = .ok (.invokevirtual 140, 3) := dk_182 0 140 (dk_at dksX8_readLine_0 17 rfl rfl)
theorem dX8_readLine_20 : decode cX8_readLine 20 = .ok (.ifCond .eq 10, 3) := dk_153 0 10 (dk_at dksX8_readLine_0 20 rfl rfl)
theorem dX8_readLine_23 : decode cX8_readLine 23 = .ok (.aload_n 0, 1) := dk_42 (dk_at dksX8_readLine_0 23 rfl rfl)
theorem dX8_readLine_24 : decode cX8_readLine 24 = .ok (.invokevirtual 170, 3) := dk_182 0 170 (dk_at dksX8_readLine_1 0 rfl rfl)
theorem dX8_readLine_27 : decode cX8_readLine 27 = .ok (.goto 148, 3) := dk_167 0 148 (dk_at dksX8_readLine_1 3 rfl rfl)
theorem dX8_readLine_30 : decode cX8_readLine 30 = .ok (.aload_n 0, 1) := dk_42 (dk_at dksX8_readLine_1 6 rfl rfl)
theorem dX8_readLine_31 : decode cX8_readLine 31 = .ok (.iconst 5, 1) := dk_8 (dk_at dksX8_readLine_1 7 rfl rfl)
theorem dX8_readLine_32 : decode cX8_readLine 32 = .ok (.invokevirtual 140, 3) := dk_182 0 140 (dk_at dksX8_readLine_1 8 rfl rfl)
theorem dX8_readLine_35 : decode cX8_readLine 35 = .ok (.ifCond .eq 10, 3) := dk_153 0 10 (dk_at dksX8_readLine_1 11 rfl rfl)
theorem dX8_readLine_38 : decode cX8_readLine 38 = .ok (.aload_n 0, 1) := dk_42 (dk_at dksX8_readLine_1 14 rfl rfl)
theorem dX8_readLine_39 : decode cX8_readLine 39 = .ok (.invokevirtual 173, 3) := dk_182 0 173 (dk_at dksX8_readLine_1 15 rfl rfl)
theorem dX8_readLine_42 : decode cX8_readLine 42 = .ok (.goto 133, 3) := dk_167 0 133 (dk_at dksX8_readLine_1 18 rfl rfl)
theorem dX8_readLine_45 : decode cX8_readLine 45 = .ok (.aload_n 0, 1) := dk_42 (dk_at dksX8_readLine_1 21 rfl rfl)
theorem dX8_readLine_46 : decode cX8_readLine 46 = .ok (.bipush 8, 2) := dk_16 8 (dk_at dksX8_readLine_1 22 rfl rfl)
theorem dX8_readLine_48 : decode cX8_readLine 48 = .ok (.invokevirtual 140, 3) := dk_182 0 140 (dk_at dksX8_readLine_2 0 rfl rfl)
theorem dX8_readLine_51 : decode cX8_readLine 51 = .ok (.ifCond .eq 11, 3) := dk_153 0 11 (dk_at dksX8_readLine_2 3 rfl rfl)
theorem dX8_readLine_54 : decode cX8_readLine 54 = .ok (.aload_n 0, 1) := dk_42 (dk_at dksX8_readLine_2 6 rfl rfl)
theorem dX8_readLine_55 : decode cX8_readLine 55 = .ok (.iconst 0, 1) := dk_3 (dk_at dksX8_readLine_2 7 rfl rfl)
theorem dX8_readLine_56 : decode cX8_readLine 56 = .ok (.invokevirtual 176, 3) := dk_182 0 176 (dk_at dksX8_readLine_2 8 rfl rfl)
theorem dX8_readLine_59 : decode cX8_readLine 59 = .ok (.goto 116, 3) := dk_167 0 116 (dk_at dksX8_readLine_2 11 rfl rfl)
theorem dX8_readLine_62 : decode cX8_readLine 62 = .ok (.aload_n 0, 1) := dk_42 (dk_at dksX8_readLine_2 14 rfl rfl)
theorem dX8_readLine_63 : decode cX8_readLine 63 = .ok (.bipush 9, 2) := dk_16 9 (dk_at dksX8_readLine_2 15 rfl rfl)
theorem dX8_readLine_65 : decode cX8_readLine 65 = .ok (.invokevirtual 140, 3) := dk_182 0 140 (dk_at dksX8_readLine_2 17 rfl rfl)
theorem dX8_readLine_68 : decode cX8_readLine 68 = .ok (.ifCond .eq 11, 3) := dk_153 0 11 (dk_at dksX8_readLine_2 20 rfl rfl)
theorem dX8_readLine_71 : decode cX8_readLine 71 = .ok (.aload_n 0, 1) := dk_42 (dk_at dksX8_readLine_2 23 rfl rfl)
theorem dX8_readLine_72 : decode cX8_readLine 72 = .ok (.iconst 1, 1) := dk_4 (dk_at dksX8_readLine_3 0 rfl rfl)
theorem dX8_readLine_73 : decode cX8_readLine 73 = .ok (.invokevirtual 176, 3) := dk_182 0 176 (dk_at dksX8_readLine_3 1 rfl rfl)
theorem dX8_readLine_76 : decode cX8_readLine 76 = .ok (.goto 99, 3) := dk_167 0 99 (dk_at dksX8_readLine_3 4 rfl rfl)
theorem dX8_readLine_79 : decode cX8_readLine 79 = .ok (.aload_n 0, 1) := dk_42 (dk_at dksX8_readLine_3 7 rfl rfl)
theorem dX8_readLine_80 : decode cX8_readLine 80 = .ok (.bipush 10, 2) := dk_16 10 (dk_at dksX8_readLine_3 8 rfl rfl)
theorem dX8_readLine_82 : decode cX8_readLine 82 = .ok (.invokevirtual 146, 3) := dk_182 0 146 (dk_at dksX8_readLine_3 10 rfl rfl)
theorem dX8_readLine_85 : decode cX8_readLine 85 = .ok (.ifCond .eq 19, 3) := dk_153 0 19 (dk_at dksX8_readLine_3 13 rfl rfl)
theorem dX8_readLine_88 : decode cX8_readLine 88 = .ok (.aload_n 0, 1) := dk_42 (dk_at dksX8_readLine_3 16 rfl rfl)
theorem dX8_readLine_89 : decode cX8_readLine 89 = .ok (.getfield 24, 3) := dk_180 0 24 (dk_at dksX8_readLine_3 17 rfl rfl)
theorem dX8_readLine_92 : decode cX8_readLine 92 = .ok (.bipush 75, 2) := dk_16 75 (dk_at dksX8_readLine_3 20 rfl rfl)
theorem dX8_readLine_94 : decode cX8_readLine 94 = .ok (.aload_n 0, 1) := dk_42 (dk_at dksX8_readLine_3 22 rfl rfl)
theorem dX8_readLine_95 : decode cX8_readLine 95 = .ok (.iconst 1, 1) := dk_4 (dk_at dksX8_readLine_3 23 rfl rfl)
theorem dX8_readLine_96 : decode cX8_readLine 96 = .ok (.iconst 3, 1) := dk_6 (dk_at dksX8_readLine_4 0 rfl rfl)
theorem dX8_readLine_97 : decode cX8_readLine 97 = .ok (.invokevirtual 157, 3) := dk_182 0 157 (dk_at dksX8_readLine_4 1 rfl rfl)
theorem dX8_readLine_100 : decode cX8_readLine 100 = .ok (.iastore, 1) := dk_79 (dk_at dksX8_readLine_4 4 rfl rfl)
theorem dX8_readLine_101 : decode cX8_readLine 101 = .ok (.goto 74, 3) := dk_167 0 74 (dk_at dksX8_readLine_4 5 rfl rfl)
theorem dX8_readLine_104 : decode cX8_readLine 104 = .ok (.aload_n 0, 1) := dk_42 (dk_at dksX8_readLine_4 8 rfl rfl)
theorem dX8_readLine_105 : decode cX8_readLine 105 = .ok (.bipush 11, 2) := dk_16 11 (dk_at dksX8_readLine_4 9 rfl rfl)
theorem dX8_readLine_107 : decode cX8_readLine 107 = .ok (.invokevirtual 146, 3) := dk_182 0 146 (dk_at dksX8_readLine_4 11 rfl rfl)
theorem dX8_readLine_110 : decode cX8_readLine 110 = .ok (.ifCond .eq 20, 3) := dk_153 0 20 (dk_at dksX8_readLine_4 14 rfl rfl)
theorem dX8_readLine_113 : decode cX8_readLine 113 = .ok (.aload_n 0, 1) := dk_42 (dk_at dksX8_readLine_4 17 rfl rfl)
theorem dX8_readLine_114 : decode cX8_readLine 114 = .ok (.getfield 24, 3) := dk_180 0 24 (dk_at dksX8_readLine_4 18 rfl rfl)
theorem dX8_readLine_117 : decode cX8_readLine 117 = .ok (.bipush 76, 2) := dk_16 76 (dk_at dksX8_readLine_4 21 rfl rfl)
theorem dX8_readLine_119 : decode cX8_readLine 119 = .ok (.aload_n 0, 1) := dk_42 (dk_at dksX8_readLine_4 23 rfl rfl)
theorem dX8_readLine_120 : decode cX8_readLine 120 = .ok (.iconst 1, 1) := dk_4 (dk_at dksX8_readLine_5 0 rfl rfl)
theorem dX8_readLine_121 : decode cX8_readLine 121 = .ok (.bipush 8, 2) := dk_16 8 (dk_at dksX8_readLine_5 1 rfl rfl)
theorem dX8_readLine_123 : decode cX8_readLine 123 = .ok (.invokevirtual 157, 3) := dk_182 0 157 (dk_at dksX8_readLine_5 3 rfl rfl)
theorem dX8_readLine_126 : decode cX8_readLine 126 = .ok (.iastore, 1) := dk_79 (dk_at dksX8_readLine_5 6 rfl rfl)
theorem dX8_readLine_127 : decode cX8_readLine 127 = .ok (.goto 48, 3) := dk_167 0 48 (dk_at dksX8_readLine_5 7 rfl rfl)
theorem dX8_readLine_130 : decode cX8_readLine 130 = .ok (.aload_n 0, 1) := dk_42 (dk_at dksX8_readLine_5 10 rfl rfl)
theorem dX8_readLine_131 : decode cX8_readLine 131 = .ok (.bipush 12, 2) := dk_16 12 (dk_at dksX8_readLine_5 11 rfl rfl)
theorem dX8_readLine_133 : decode cX8_readLine 133 = .ok (.invokevirtual 146, 3) := dk_182 0 146 (dk_at dksX8_readLine_5 13 rfl rfl)
theorem dX8_readLine_136 : decode cX8_readLine 136 = .ok (.ifCond .eq 14, 3) := dk_153 0 14 (dk_at dksX8_readLine_5 16 rfl rfl)
theorem dX8_readLine_139 : decode cX8_readLine 139 = .ok (.aload_n 0, 1) := dk_42 (dk_at dksX8_readLine_5 19 rfl rfl)
theorem dX8_readLine_140 : decode cX8_readLine 140 = .ok (.getfield 24, 3) := dk_180 0 24 (dk_at dksX8_readLine_5 20 rfl rfl)
theorem dX8_readLine_143 : decode cX8_readLine 143 = .ok (.bipush 77, 2) := dk_16 77 (dk_at dksX8_readLine_6 0 rfl rfl)
theorem dX8_readLine_145 : decode cX8_readLine 145 = .ok (.iconst 1, 1) := dk_4 (dk_at dksX8_readLine_6 2 rfl rfl)
theorem dX8_readLine_146 : decode cX8_readLine 146 = .ok (.iastore, 1) := dk_79 (dk_at dksX8_readLine_6 3 rfl rfl)
theorem dX8_readLine_147 : decode cX8_readLine 147 = .ok (.goto 28, 3) := dk_167 0 28 (dk_at dksX8_readLine_6 4 rfl rfl)
theorem dX8_readLine_150 : decode cX8_readLine 150 = .ok (.aload_n 0, 1) := dk_42 (dk_at dksX8_readLine_6 7 rfl rfl)
theorem dX8_readLine_151 : decode cX8_readLine 151 = .ok (.bipush 13, 2) := dk_16 13 (dk_at dksX8_readLine_6 8 rfl rfl)
theorem dX8_readLine_153 : decode cX8_readLine 153 = .ok (.invokevirtual 146, 3) := dk_182 0 146 (dk_at dksX8_readLine_6 10 rfl rfl)
theorem dX8_readLine_156 : decode cX8_readLine 156 = .ok (.ifCond .eq 14, 3) := dk_153 0 14 (dk_at dksX8_readLine_6 13 rfl rfl)
theorem dX8_readLine_159 : decode cX8_readLine 159 = .ok (.aload_n 0, 1) := dk_42 (dk_at dksX8_readLine_6 16 rfl rfl)
theorem dX8_readLine_160 : decode cX8_readLine 160 = .ok (.getfield 24, 3) := dk_180 0 24 (dk_at dksX8_readLine_6 17 rfl rfl)
theorem dX8_readLine_163 : decode cX8_readLine 163 = .ok (.bipush 78, 2) := dk_16 78 (dk_at dksX8_readLine_6 20 rfl rfl)
theorem dX8_readLine_165 : decode cX8_readLine 165 = .ok (.iconst 1, 1) := dk_4 (dk_at dksX8_readLine_6 22 rfl rfl)
theorem dX8_readLine_166 : decode cX8_readLine 166 = .ok (.iastore, 1) := dk_79 (dk_at dksX8_readLine_6 23 rfl rfl)
theorem dX8_readLine_167 : decode cX8_readLine 167 = .ok (.goto 8, 3) := dk_167 0 8 (dk_at dksX8_readLine_7 0 rfl rfl)
theorem dX8_readLine_170 : decode cX8_readLine 170 = .ok (.aload_n 0, 1) := dk_42 (dk_at dksX8_readLine_7 3 rfl rfl)
theorem dX8_readLine_171 : decode cX8_readLine 171 = .ok (.iconst 2, 1) := dk_5 (dk_at dksX8_readLine_7 4 rfl rfl)
theorem dX8_readLine_172 : decode cX8_readLine 172 = .ok (.invokevirtual 149, 3) := dk_182 0 149 (dk_at dksX8_readLine_7 5 rfl rfl)
theorem dX8_readLine_175 : decode cX8_readLine 175 = .ok (.aload_n 0, 1) := dk_42 (dk_at dksX8_readLine_7 8 rfl rfl)
theorem dX8_readLine_176 : decode cX8_readLine 176 = .ok (.bipush 26, 2) := dk_16 26 (dk_at dksX8_readLine_7 9 rfl rfl)
theorem dX8_readLine_178 : decode cX8_readLine 178 = .ok (.invokevirtual 161, 3) := dk_182 0 161 (dk_at dksX8_readLine_7 11 rfl rfl)
theorem dX8_readLine_181 : decode cX8_readLine 181 = .ok (.aload_n 0, 1) := dk_42 (dk_at dksX8_readLine_7 14 rfl rfl)
theorem dX8_readLine_182 : decode cX8_readLine 182 = .ok (.getfield 24, 3) := dk_180 0 24 (dk_at dksX8_readLine_7 15 rfl rfl)
theorem dX8_readLine_185 : decode cX8_readLine 185 = .ok (.bipush 79, 2) := dk_16 79 (dk_at dksX8_readLine_7 18 rfl rfl)
theorem dX8_readLine_187 : decode cX8_readLine 187 = .ok (.dup2, 1) := dk_92 (dk_at dksX8_readLine_7 20 rfl rfl)
theorem dX8_readLine_188 : decode cX8_readLine 188 = .ok (.iaload, 1) := dk_46 (dk_at dksX8_readLine_7 21 rfl rfl)
theorem dX8_readLine_189 : decode cX8_readLine 189 = .ok (.iconst 1, 1) := dk_4 (dk_at dksX8_readLine_7 22 rfl rfl)
theorem dX8_readLine_190 : decode cX8_readLine 190 = .ok (.iadd, 1) := dk_96 (dk_at dksX8_readLine_7 23 rfl rfl)
theorem dX8_readLine_191 : decode cX8_readLine 191 = .ok (.iastore, 1) := dk_79 (dk_at dksX8_readLine_8 0 rfl rfl)
theorem dX8_readLine_192 : decode cX8_readLine 192 = .ok (.return_, 1) := dk_177 (dk_at dksX8_readLine_8 1 rfl rfl)
abbrev cX8_is : ByteArray := prog_20_method_12_code
def yX8_is : MethodName := ⟨RX8, "is", "(I)Z"⟩
def dkwX8_is_0 : List UInt8 := [42, 180, 0, 134, 154, 0, 15, 42, 180, 0, 118, 27, 160, 0, 7, 4, 167, 0, 4, 3, 172]
abbrev dktX8_is_0 : List UInt8 := dkwX8_is_0 ++ []
theorem dksX8_is_0 : cX8_is.data.toList.drop 0 = dktX8_is_0 := by decide +kernel
theorem dX8_is_0 : decode cX8_is 0 = .ok (.aload_n 0, 1) := dk_42 (dk_at dksX8_is_0 0 rfl rfl)
theorem dX8_is_1 : decode cX8_is 1 = .ok (.getfield 134, 3) := dk_180 0 134 (dk_at dksX8_is_0 1 rfl rfl)
theorem dX8_is_4 : decode cX8_is 4 = .ok (.ifCond .ne 15, 3) := dk_154 0 15 (dk_at dksX8_is_0 4 rfl rfl)
theorem dX8_is_7 : decode cX8_is 7 = .ok (.aload_n 0, 1) := dk_42 (dk_at dksX8_is_0 7 rfl rfl)
theorem dX8_is_8 : decode cX8_is 8 = .ok (.getfield 118, 3) := dk_180 0 118 (dk_at dksX8_is_0 8 rfl rfl)
theorem dX8_is_11 : decode cX8_is 11 = .ok (.iload_n 1, 1) := dk_27 (dk_at dksX8_is_0 11 rfl rfl)
theorem dX8_is_12 : decode cX8_is 12 = .ok (.if_icmp .ne 7, 3) := dk_160 0 7 (dk_at dksX8_is_0 12 rfl rfl)
theorem dX8_is_15 : decode cX8_is 15 = .ok (.iconst 1, 1) := dk_4 (dk_at dksX8_is_0 15 rfl rfl)
theorem dX8_is_16 : decode cX8_is 16 = .ok (.goto 4, 3) := dk_167 0 4 (dk_at dksX8_is_0 16 rfl rfl)
theorem dX8_is_19 : decode cX8_is 19 = .ok (.iconst 0, 1) := dk_3 (dk_at dksX8_is_0 19 rfl rfl)
theorem dX8_is_20 : decode cX8_is 20 = .ok (.ireturn, 1) := dk_172 (dk_at dksX8_is_0 20 rfl rfl)
abbrev cX8_readRow : ByteArray := prog_20_method_17_code
def yX8_readRow : MethodName := ⟨RX8, "readRow", "()V"⟩
def dkwX8_readRow_2 : List UInt8 := [180, 0, 24, 3, 46, 96, 27, 79, 42, 180, 0, 24, 3, 92, 46, 4, 96, 79, 177]
abbrev dktX8_readRow_2 : List UInt8 := dkwX8_readRow_2 ++ []
def dkwX8_readRow_1 : List UInt8 := [182, 0, 143, 42, 4, 6, 182, 0, 157, 60, 42, 180, 0, 134, 153, 0, 4, 177, 42, 180, 0, 24, 4, 42]
abbrev dktX8_readRow_1 : List UInt8 := dkwX8_readRow_1 ++ dktX8_readRow_2
def dkwX8_readRow_0 : List UInt8 := [42, 180, 0, 24, 3, 46, 8, 160, 0, 8, 42, 7, 182, 0, 149, 42, 180, 0, 134, 153, 0, 4, 177, 42]
abbrev dktX8_readRow_0 : List UInt8 := dkwX8_readRow_0 ++ dktX8_readRow_1
theorem dksX8_readRow_0 : cX8_readRow.data.toList.drop 0 = dktX8_readRow_0 := by decide +kernel
theorem dksX8_readRow_1 : cX8_readRow.data.toList.drop 24 = dktX8_readRow_1 := dk_seg dksX8_readRow_0 24 rfl rfl
theorem dksX8_readRow_2 : cX8_readRow.data.toList.drop 48 = dktX8_readRow_2 := dk_seg dksX8_readRow_1 24 rfl rfl
theorem dX8_readRow_0 : decode cX8_readRow 0 = .ok (.aload_n 0, 1) := dk_42 (dk_at dksX8_readRow_0 0 rfl rfl)
theorem dX8_readRow_1 : decode cX8_readRow 1 = .ok (.getfield 24, 3) := dk_180 0 24 (dk_at dksX8_readRow_0 1 rfl rfl)
theorem dX8_readRow_4 : decode cX8_readRow 4 = .ok (.iconst 0, 1) := dk_3 (dk_at dksX8_readRow_0 4 rfl rfl)
theorem dX8_readRow_5 : decode cX8_readRow 5 = .ok (.iaload, 1) := dk_46 (dk_at dksX8_readRow_0 5 rfl rfl)
theorem dX8_readRow_6 : decode cX8_readRow 6 = .ok (.iconst 5, 1) := dk_8 (dk_at dksX8_readRow_0 6 rfl rfl)
theorem dX8_readRow_7 : decode cX8_readRow 7 = .ok (.if_icmp .ne 8, 3) := dk_160 0 8 (dk_at dksX8_readRow_0 7 rfl rfl)
theorem dX8_readRow_10 : decode cX8_readRow 10 = .ok (.aload_n 0, 1) := dk_42 (dk_at dksX8_readRow_0 10 rfl rfl)
theorem dX8_readRow_11 : decode cX8_readRow 11 = .ok (.iconst 4, 1) := dk_7 (dk_at dksX8_readRow_0 11 rfl rfl)
theorem dX8_readRow_12 : decode cX8_readRow 12 = .ok (.invokevirtual 149, 3) := dk_182 0 149 (dk_at dksX8_readRow_0 12 rfl rfl)
theorem dX8_readRow_15 : decode cX8_readRow 15 = .ok (.aload_n 0, 1) := dk_42 (dk_at dksX8_readRow_0 15 rfl rfl)
theorem dX8_readRow_16 : decode cX8_readRow 16 = .ok (.getfield 134, 3) := dk_180 0 134 (dk_at dksX8_readRow_0 16 rfl rfl)
theorem dX8_readRow_19 : decode cX8_readRow 19 = .ok (.ifCond .eq 4, 3) := dk_153 0 4 (dk_at dksX8_readRow_0 19 rfl rfl)
theorem dX8_readRow_22 : decode cX8_readRow 22 = .ok (.return_, 1) := dk_177 (dk_at dksX8_readRow_0 22 rfl rfl)
theorem dX8_readRow_23 : decode cX8_readRow 23 = .ok (.aload_n 0, 1) := dk_42 (dk_at dksX8_readRow_0 23 rfl rfl)
theorem dX8_readRow_24 : decode cX8_readRow 24 = .ok (.invokevirtual 143, 3) := dk_182 0 143 (dk_at dksX8_readRow_1 0 rfl rfl)
theorem dX8_readRow_27 : decode cX8_readRow 27 = .ok (.aload_n 0, 1) := dk_42 (dk_at dksX8_readRow_1 3 rfl rfl)
theorem dX8_readRow_28 : decode cX8_readRow 28 = .ok (.iconst 1, 1) := dk_4 (dk_at dksX8_readRow_1 4 rfl rfl)
theorem dX8_readRow_29 : decode cX8_readRow 29 = .ok (.iconst 3, 1) := dk_6 (dk_at dksX8_readRow_1 5 rfl rfl)
theorem dX8_readRow_30 : decode cX8_readRow 30 = .ok (.invokevirtual 157, 3) := dk_182 0 157 (dk_at dksX8_readRow_1 6 rfl rfl)
theorem dX8_readRow_33 : decode cX8_readRow 33 = .ok (.istore_n 1, 1) := dk_60 (dk_at dksX8_readRow_1 9 rfl rfl)
theorem dX8_readRow_34 : decode cX8_readRow 34 = .ok (.aload_n 0, 1) := dk_42 (dk_at dksX8_readRow_1 10 rfl rfl)
theorem dX8_readRow_35 : decode cX8_readRow 35 = .ok (.getfield 134, 3) := dk_180 0 134 (dk_at dksX8_readRow_1 11 rfl rfl)
theorem dX8_readRow_38 : decode cX8_readRow 38 = .ok (.ifCond .eq 4, 3) := dk_153 0 4 (dk_at dksX8_readRow_1 14 rfl rfl)
theorem dX8_readRow_41 : decode cX8_readRow 41 = .ok (.return_, 1) := dk_177 (dk_at dksX8_readRow_1 17 rfl rfl)
theorem dX8_readRow_42 : decode cX8_readRow 42 = .ok (.aload_n 0, 1) := dk_42 (dk_at dksX8_readRow_1 18 rfl rfl)
theorem dX8_readRow_43 : decode cX8_readRow 43 = .ok (.getfield 24, 3) := dk_180 0 24 (dk_at dksX8_readRow_1 19 rfl rfl)
theorem dX8_readRow_46 : decode cX8_readRow 46 = .ok (.iconst 1, 1) := dk_4 (dk_at dksX8_readRow_1 22 rfl rfl)
theorem dX8_readRow_47 : decode cX8_readRow 47 = .ok (.aload_n 0, 1) := dk_42 (dk_at dksX8_readRow_1 23 rfl rfl)
theorem dX8_readRow_48 : decode cX8_readRow 48 = .ok (.getfield 24, 3) := dk_180 0 24 (dk_at dksX8_readRow_2 0 rfl rfl)
theorem dX8_readRow_51 : decode cX8_readRow 51 = .ok (.iconst 0, 1) := dk_3 (dk_at dksX8_readRow_2 3 rfl rfl)
theorem dX8_readRow_52 : decode cX8_readRow 52 = .ok (.iaload, 1) := dk_46 (dk_at dksX8_readRow_2 4 rfl rfl)
theorem dX8_readRow_53 : decode cX8_readRow 53 = .ok (.iadd, 1) := dk_96 (dk_at dksX8_readRow_2 5 rfl rfl)
theorem dX8_readRow_54 : decode cX8_readRow 54 = .ok (.iload_n 1, 1) := dk_27 (dk_at dksX8_readRow_2 6 rfl rfl)
theorem dX8_readRow_55 : decode cX8_readRow 55 = .ok (.iastore, 1) := dk_79 (dk_at dksX8_readRow_2 7 rfl rfl)
theorem dX8_readRow_56 : decode cX8_readRow 56 = .ok (.aload_n 0, 1) := dk_42 (dk_at dksX8_readRow_2 8 rfl rfl)
theorem dX8_readRow_57 : decode cX8_readRow 57 = .ok (.getfield 24, 3) := dk_180 0 24 (dk_at dksX8_readRow_2 9 rfl rfl)
theorem dX8_readRow_60 : decode cX8_readRow 60 = .ok (.iconst 0, 1) := dk_3 (dk_at dksX8_readRow_2 12 rfl rfl)
theorem dX8_readRow_61 : decode cX8_readRow 61 = .ok (.dup2, 1) := dk_92 (dk_at dksX8_readRow_2 13 rfl rfl)
theorem dX8_readRow_62 : decode cX8_readRow 62 = .ok (.iaload, 1) := dk_46 (dk_at dksX8_readRow_2 14 rfl rfl)
theorem dX8_readRow_63 : decode cX8_readRow 63 = .ok (.iconst 1, 1) := dk_4 (dk_at dksX8_readRow_2 15 rfl rfl)
theorem dX8_readRow_64 : decode cX8_readRow 64 = .ok (.iadd, 1) := dk_96 (dk_at dksX8_readRow_2 16 rfl rfl)
theorem dX8_readRow_65 : decode cX8_readRow 65 = .ok (.iastore, 1) := dk_79 (dk_at dksX8_readRow_2 17 rfl rfl)
theorem dX8_readRow_66 : decode cX8_readRow 66 = .ok (.return_, 1) := dk_177 (dk_at dksX8_readRow_2 18 rfl rfl)
abbrev cX8_fails : ByteArray := prog_20_method_11_code
def yX8_fails : MethodName := ⟨RX8, "fails", "(I)V"⟩
def dkwX8_fails_1 : List UInt8 := [181, 0, 134, 42, 42, 180, 0, 108, 181, 0, 137, 177]
abbrev dktX8_fails_1 : List UInt8 := dkwX8_fails_1 ++ []
def dkwX8_fails_0 : List UInt8 := [42, 180, 0, 134, 153, 0, 4, 177, 42, 42, 180, 0, 118, 16, 30, 160, 0, 7, 4, 167, 0, 4, 27]
abbrev dktX8_fails_0 : List UInt8 := dkwX8_fails_0 ++ dktX8_fails_1
theorem dksX8_fails_0 : cX8_fails.data.toList.drop 0 = dktX8_fails_0 := by decide +kernel
theorem dksX8_fails_1 : cX8_fails.data.toList.drop 23 = dktX8_fails_1 := dk_seg dksX8_fails_0 23 rfl rfl
theorem dX8_fails_0 : decode cX8_fails 0 = .ok (.aload_n 0, 1) := dk_42 (dk_at dksX8_fails_0 0 rfl rfl)
theorem dX8_fails_1 : decode cX8_fails 1 = .ok (.getfield 134, 3) := dk_180 0 134 (dk_at dksX8_fails_0 1 rfl rfl)
theorem dX8_fails_4 : decode cX8_fails 4 = .ok (.ifCond .eq 4, 3) := dk_153 0 4 (dk_at dksX8_fails_0 4 rfl rfl)
theorem dX8_fails_7 : decode cX8_fails 7 = .ok (.return_, 1) := dk_177 (dk_at dksX8_fails_0 7 rfl rfl)
theorem dX8_fails_8 : decode cX8_fails 8 = .ok (.aload_n 0, 1) := dk_42 (dk_at dksX8_fails_0 8 rfl rfl)
theorem dX8_fails_9 : decode cX8_fails 9 = .ok (.aload_n 0, 1) := dk_42 (dk_at dksX8_fails_0 9 rfl rfl)
theorem dX8_fails_10 : decode cX8_fails 10 = .ok (.getfield 118, 3) := dk_180 0 118 (dk_at dksX8_fails_0 10 rfl rfl)
theorem dX8_fails_13 : decode cX8_fails 13 = .ok (.bipush 30, 2) := dk_16 30 (dk_at dksX8_fails_0 13 rfl rfl)
theorem dX8_fails_15 : decode cX8_fails 15 = .ok (.if_icmp .ne 7, 3) := dk_160 0 7 (dk_at dksX8_fails_0 15 rfl rfl)
theorem dX8_fails_18 : decode cX8_fails 18 = .ok (.iconst 1, 1) := dk_4 (dk_at dksX8_fails_0 18 rfl rfl)
theorem dX8_fails_19 : decode cX8_fails 19 = .ok (.goto 4, 3) := dk_167 0 4 (dk_at dksX8_fails_0 19 rfl rfl)
theorem dX8_fails_22 : decode cX8_fails 22 = .ok (.iload_n 1, 1) := dk_27 (dk_at dksX8_fails_0 22 rfl rfl)
theorem dX8_fails_23 : decode cX8_fails 23 = .ok (.putfield 134, 3) := dk_181 0 134 (dk_at dksX8_fails_1 0 rfl rfl)
theorem dX8_fails_26 : decode cX8_fails 26 = .ok (.aload_n 0, 1) := dk_42 (dk_at dksX8_fails_1 3 rfl rfl)
theorem dX8_fails_27 : decode cX8_fails 27 = .ok (.aload_n 0, 1) := dk_42 (dk_at dksX8_fails_1 4 rfl rfl)
theorem dX8_fails_28 : decode cX8_fails 28 = .ok (.getfield 108, 3) := dk_180 0 108 (dk_at dksX8_fails_1 5 rfl rfl)
theorem dX8_fails_31 : decode cX8_fails 31 = .ok (.putfield 137, 3) := dk_181 0 137 (dk_at dksX8_fails_1 8 rfl rfl)
theorem dX8_fails_34 : decode cX8_fails 34 = .ok (.return_, 1) := dk_177 (dk_at dksX8_fails_1 11 rfl rfl)
abbrev cX8_reads : ByteArray := prog_20_method_15_code
def yX8_reads : MethodName := ⟨RX8, "reads", "(II)I"⟩
def dkwX8_reads_2 : List UInt8 := [154, 0, 7, 42, 182, 0, 143, 29, 172]
abbrev dktX8_reads_2 : List UInt8 := dkwX8_reads_2 ++ []
def dkwX8_reads_1 : List UInt8 := [28, 133, 184, 0, 153, 154, 0, 8, 42, 6, 182, 0, 149, 42, 180, 0, 131, 62, 42, 180, 0, 134]
abbrev dktX8_reads_1 : List UInt8 := dkwX8_reads_1 ++ dktX8_reads_2
def dkwX8_reads_0 : List UInt8 := [42, 16, 25, 182, 0, 140, 154, 0, 11, 42, 5, 182, 0, 149, 167, 0, 23, 42, 180, 0, 131, 133, 27, 133]
abbrev dktX8_reads_0 : List UInt8 := dkwX8_reads_0 ++ dktX8_reads_1
theorem dksX8_reads_0 : cX8_reads.data.toList.drop 0 = dktX8_reads_0 := by decide +kernel
theorem dksX8_reads_1 : cX8_reads.data.toList.drop 24 = dktX8_reads_1 := dk_seg dksX8_reads_0 24 rfl rfl
theorem dksX8_reads_2 : cX8_reads.data.toList.drop 46 = dktX8_reads_2 := dk_seg dksX8_reads_1 22 rfl rfl
theorem dX8_reads_0 : decode cX8_reads 0 = .ok (.aload_n 0, 1) := dk_42 (dk_at dksX8_reads_0 0 rfl rfl)
theorem dX8_reads_1 : decode cX8_reads 1 = .ok (.bipush 25, 2) := dk_16 25 (dk_at dksX8_reads_0 1 rfl rfl)
theorem dX8_reads_3 : decode cX8_reads 3 = .ok (.invokevirtual 140, 3) := dk_182 0 140 (dk_at dksX8_reads_0 3 rfl rfl)
theorem dX8_reads_6 : decode cX8_reads 6 = .ok (.ifCond .ne 11, 3) := dk_154 0 11 (dk_at dksX8_reads_0 6 rfl rfl)
theorem dX8_reads_9 : decode cX8_reads 9 = .ok (.aload_n 0, 1) := dk_42 (dk_at dksX8_reads_0 9 rfl rfl)
theorem dX8_reads_10 : decode cX8_reads 10 = .ok (.iconst 2, 1) := dk_5 (dk_at dksX8_reads_0 10 rfl rfl)
theorem dX8_reads_11 : decode cX8_reads 11 = .ok (.invokevirtual 149, 3) := dk_182 0 149 (dk_at dksX8_reads_0 11 rfl rfl)
theorem dX8_reads_14 : decode cX8_reads 14 = .ok (.goto 23, 3) := dk_167 0 23 (dk_at dksX8_reads_0 14 rfl rfl)
theorem dX8_reads_17 : decode cX8_reads 17 = .ok (.aload_n 0, 1) := dk_42 (dk_at dksX8_reads_0 17 rfl rfl)
theorem dX8_reads_18 : decode cX8_reads 18 = .ok (.getfield 131, 3) := dk_180 0 131 (dk_at dksX8_reads_0 18 rfl rfl)
theorem dX8_reads_21 : decode cX8_reads 21 = .ok (.i2l, 1) := dk_133 (dk_at dksX8_reads_0 21 rfl rfl)
theorem dX8_reads_22 : decode cX8_reads 22 = .ok (.iload_n 1, 1) := dk_27 (dk_at dksX8_reads_0 22 rfl rfl)
theorem dX8_reads_23 : decode cX8_reads 23 = .ok (.i2l, 1) := dk_133 (dk_at dksX8_reads_0 23 rfl rfl)
theorem dX8_reads_24 : decode cX8_reads 24 = .ok (.iload_n 2, 1) := dk_28 (dk_at dksX8_reads_1 0 rfl rfl)
theorem dX8_reads_25 : decode cX8_reads 25 = .ok (.i2l, 1) := dk_133 (dk_at dksX8_reads_1 1 rfl rfl)
theorem dX8_reads_26 : decode cX8_reads 26 = .ok (.invokestatic 153, 3) := dk_184 0 153 (dk_at dksX8_reads_1 2 rfl rfl)
theorem dX8_reads_29 : decode cX8_reads 29 = .ok (.ifCond .ne 8, 3) := dk_154 0 8 (dk_at dksX8_reads_1 5 rfl rfl)
theorem dX8_reads_32 : decode cX8_reads 32 = .ok (.aload_n 0, 1) := dk_42 (dk_at dksX8_reads_1 8 rfl rfl)
theorem dX8_reads_33 : decode cX8_reads 33 = .ok (.iconst 3, 1) := dk_6 (dk_at dksX8_reads_1 9 rfl rfl)
theorem dX8_reads_34 : decode cX8_reads 34 = .ok (.invokevirtual 149, 3) := dk_182 0 149 (dk_at dksX8_reads_1 10 rfl rfl)
theorem dX8_reads_37 : decode cX8_reads 37 = .ok (.aload_n 0, 1) := dk_42 (dk_at dksX8_reads_1 13 rfl rfl)
theorem dX8_reads_38 : decode cX8_reads 38 = .ok (.getfield 131, 3) := dk_180 0 131 (dk_at dksX8_reads_1 14 rfl rfl)
theorem dX8_reads_41 : decode cX8_reads 41 = .ok (.istore_n 3, 1) := dk_62 (dk_at dksX8_reads_1 17 rfl rfl)
theorem dX8_reads_42 : decode cX8_reads 42 = .ok (.aload_n 0, 1) := dk_42 (dk_at dksX8_reads_1 18 rfl rfl)
theorem dX8_reads_43 : decode cX8_reads 43 = .ok (.getfield 134, 3) := dk_180 0 134 (dk_at dksX8_reads_1 19 rfl rfl)
theorem dX8_reads_46 : decode cX8_reads 46 = .ok (.ifCond .ne 7, 3) := dk_154 0 7 (dk_at dksX8_reads_2 0 rfl rfl)
theorem dX8_reads_49 : decode cX8_reads 49 = .ok (.aload_n 0, 1) := dk_42 (dk_at dksX8_reads_2 3 rfl rfl)
theorem dX8_reads_50 : decode cX8_reads 50 = .ok (.invokevirtual 143, 3) := dk_182 0 143 (dk_at dksX8_reads_2 4 rfl rfl)
theorem dX8_reads_53 : decode cX8_reads 53 = .ok (.iload_n 3, 1) := dk_29 (dk_at dksX8_reads_2 7 rfl rfl)
theorem dX8_reads_54 : decode cX8_reads 54 = .ok (.ireturn, 1) := dk_172 (dk_at dksX8_reads_2 8 rfl rfl)
abbrev cX8_readStone : ByteArray := prog_20_method_18_code
def yX8_readStone : MethodName := ⟨RX8, "readStone", "()V"⟩
def dkwX8_readStone_9 : List UInt8 := [79, 42, 180, 0, 24, 16, 6, 92, 46, 4, 96, 79, 177]
abbrev dktX8_readStone_9 : List UInt8 := dkwX8_readStone_9 ++ []
def dkwX8_readStone_8 : List UInt8 := [21, 5, 79, 42, 180, 0, 24, 16, 80, 6, 21, 4, 104, 96, 42, 21, 4, 182, 0, 164, 96, 27, 4, 96]
abbrev dktX8_readStone_8 : List UInt8 := dkwX8_readStone_8 ++ dktX8_readStone_9
def dkwX8_readStone_7 : List UInt8 := [16, 7, 27, 96, 28, 79, 42, 180, 0, 24, 16, 15, 27, 96, 29, 79, 42, 180, 0, 24, 16, 23, 27, 96]
abbrev dktX8_readStone_7 : List UInt8 := dkwX8_readStone_7 ++ dktX8_readStone_8
def dkwX8_readStone_6 : List UInt8 := [153, 0, 12, 42, 3, 16, 99, 182, 0, 157, 54, 5, 42, 180, 0, 134, 153, 0, 4, 177, 42, 180, 0, 24]
abbrev dktX8_readStone_6 : List UInt8 := dkwX8_readStone_6 ++ dktX8_readStone_7
def dkwX8_readStone_5 : List UInt8 := [42, 180, 0, 24, 3, 46, 4, 100, 182, 0, 157, 54, 4, 16, 99, 54, 5, 42, 7, 182, 0, 146]
abbrev dktX8_readStone_5 : List UInt8 := dkwX8_readStone_5 ++ dktX8_readStone_6
def dkwX8_readStone_4 : List UInt8 := [182, 0, 164, 42, 180, 0, 24, 4, 42, 180, 0, 131, 96, 46, 160, 0, 8, 42, 6, 182, 0, 149, 42, 3]
abbrev dktX8_readStone_4 : List UInt8 := dkwX8_readStone_4 ++ dktX8_readStone_5
def dkwX8_readStone_3 : List UInt8 := [133, 9, 42, 180, 0, 24, 3, 46, 4, 100, 133, 184, 0, 153, 153, 0, 30, 42, 42, 180, 0, 131]
abbrev dktX8_readStone_3 : List UInt8 := dkwX8_readStone_3 ++ dktX8_readStone_4
def dkwX8_readStone_2 : List UInt8 := [16, 9, 182, 0, 157, 62, 42, 6, 182, 0, 161, 42, 16, 25, 182, 0, 140, 153, 0, 51, 42, 180, 0, 131]
abbrev dktX8_readStone_2 : List UInt8 := dkwX8_readStone_2 ++ dktX8_readStone_3
def dkwX8_readStone_1 : List UInt8 := [153, 0, 4, 177, 42, 182, 0, 143, 42, 3, 16, 7, 182, 0, 157, 61, 42, 5, 182, 0, 161, 42, 4]
abbrev dktX8_readStone_1 : List UInt8 := dkwX8_readStone_1 ++ dktX8_readStone_2
def dkwX8_readStone_0 : List UInt8 := [42, 180, 0, 24, 16, 6, 46, 60, 27, 16, 8, 160, 0, 8, 42, 7, 182, 0, 149, 42, 180, 0, 134]
abbrev dktX8_readStone_0 : List UInt8 := dkwX8_readStone_0 ++ dktX8_readStone_1
theorem dksX8_readStone_0 : cX8_readStone.data.toList.drop 0 = dktX8_readStone_0 := by decide +kernel
theorem dksX8_readStone_1 : cX8_readStone.data.toList.drop 23 = dktX8_readStone_1 := dk_seg dksX8_readStone_0 23 rfl rfl
theorem dksX8_readStone_2 : cX8_readStone.data.toList.drop 46 = dktX8_readStone_2 := dk_seg dksX8_readStone_1 23 rfl rfl
theorem dksX8_readStone_3 : cX8_readStone.data.toList.drop 70 = dktX8_readStone_3 := dk_seg dksX8_readStone_2 24 rfl rfl
theorem dksX8_readStone_4 : cX8_readStone.data.toList.drop 92 = dktX8_readStone_4 := dk_seg dksX8_readStone_3 22 rfl rfl
theorem dksX8_readStone_5 : cX8_readStone.data.toList.drop 116 = dktX8_readStone_5 := dk_seg dksX8_readStone_4 24 rfl rfl
theorem dksX8_readStone_6 : cX8_readStone.data.toList.drop 138 = dktX8_readStone_6 := dk_seg dksX8_readStone_5 22 rfl rfl
theorem dksX8_readStone_7 : cX8_readStone.data.toList.drop 162 = dktX8_readStone_7 := dk_seg dksX8_readStone_6 24 rfl rfl
theorem dksX8_readStone_8 : cX8_readStone.data.toList.drop 186 = dktX8_readStone_8 := dk_seg dksX8_readStone_7 24 rfl rfl
theorem dksX8_readStone_9 : cX8_readStone.data.toList.drop 210 = dktX8_readStone_9 := dk_seg dksX8_readStone_8 24 rfl rfl
theorem dX8_readStone_0 : decode cX8_readStone 0 = .ok (.aload_n 0, 1) := dk_42 (dk_at dksX8_readStone_0 0 rfl rfl)
theorem dX8_readStone_1 : decode cX8_readStone 1 = .ok (.getfield 24, 3) := dk_180 0 24 (dk_at dksX8_readStone_0 1 rfl rfl)
theorem dX8_readStone_4 : decode cX8_readStone 4 = .ok (.bipush 6, 2) := dk_16 6 (dk_at dksX8_readStone_0 4 rfl rfl)
theorem dX8_readStone_6 : decode cX8_readStone 6 = .ok (.iaload, 1) := dk_46 (dk_at dksX8_readStone_0 6 rfl rfl)
theorem dX8_readStone_7 : decode cX8_readStone 7 = .ok (.istore_n 1, 1) := dk_60 (dk_at dksX8_readStone_0 7 rfl rfl)
theorem dX8_readStone_8 : decode cX8_readStone 8 = .ok (.iload_n 1, 1) := dk_27 (dk_at dksX8_readStone_0 8 rfl rfl)
theorem dX8_readStone_9 : decode cX8_readStone 9 = .ok (.bipush 8, 2) := dk_16 8 (dk_at dksX8_readStone_0 9 rfl rfl)
theorem dX8_readStone_11 : decode cX8_readStone 11 = .ok (.if_icmp .ne 8, 3) := dk_160 0 8 (dk_at dksX8_readStone_0 11 rfl rfl)
theorem dX8_readStone_14 : decode cX8_readStone 14 = .ok (.aload_n 0, 1) := dk_42 (dk_at dksX8_readStone_0 14 rfl rfl)
theorem dX8_readStone_15 : decode cX8_readStone 15 = .ok (.iconst 4, 1) := dk_7 (dk_at dksX8_readStone_0 15 rfl rfl)
theorem dX8_readStone_16 : decode cX8_readStone 16 = .ok (.invokevirtual 149, 3) := dk_182 0 149 (dk_at dksX8_readStone_0 16 rfl rfl)
theorem dX8_readStone_19 : decode cX8_readStone 19 = .ok (.aload_n 0, 1) := dk_42 (dk_at dksX8_readStone_0 19 rfl rfl)
theorem dX8_readStone_20 : decode cX8_readStone 20 = .ok (.getfield 134, 3) := dk_180 0 134 (dk_at dksX8_readStone_0 20 rfl rfl)
theorem dX8_readStone_23 : decode cX8_readStone 23 = .ok (.ifCond .eq 4, 3) := dk_153 0 4 (dk_at dksX8_readStone_1 0 rfl rfl)
theorem dX8_readStone_26 : decode cX8_readStone 26 = .ok (.return_, 1) := dk_177 (dk_at dksX8_readStone_1 3 rfl rfl)
theorem dX8_readStone_27 : decode cX8_readStone 27 = .ok (.aload_n 0, 1) := dk_42 (dk_at dksX8_readStone_1 4 rfl rfl)
theorem dX8_readStone_28 : decode cX8_readStone 28 = .ok (.invokevirtual 143, 3) := dk_182 0 143 (dk_at dksX8_readStone_1 5 rfl rfl)
theorem dX8_readStone_31 : decode cX8_readStone 31 = .ok (.aload_n 0, 1) := dk_42 (dk_at dksX8_readStone_1 8 rfl rfl)
theorem dX8_readStone_32 : decode cX8_readStone 32 = .ok (.iconst 0, 1) := dk_3 (dk_at dksX8_readStone_1 9 rfl rfl)
theorem dX8_readStone_33 : decode cX8_readStone 33 = .ok (.bipush 7, 2) := dk_16 7 (dk_at dksX8_readStone_1 10 rfl rfl)
theorem dX8_readStone_35 : decode cX8_readStone 35 = .ok (.invokevirtual 157, 3) := dk_182 0 157 (dk_at dksX8_readStone_1 12 rfl rfl)
theorem dX8_readStone_38 : decode cX8_readStone 38 = .ok (.istore_n 2, 1) := dk_61 (dk_at dksX8_readStone_1 15 rfl rfl)
theorem dX8_readStone_39 : decode cX8_readStone 39 = .ok (.aload_n 0, 1) := dk_42 (dk_at dksX8_readStone_1 16 rfl rfl)
theorem dX8_readStone_40 : decode cX8_readStone 40 = .ok (.iconst 2, 1) := dk_5 (dk_at dksX8_readStone_1 17 rfl rfl)
theorem dX8_readStone_41 : decode cX8_readStone 41 = .ok (.invokevirtual 161, 3) := dk_182 0 161 (dk_at dksX8_readStone_1 18 rfl rfl)
theorem dX8_readStone_44 : decode cX8_readStone 44 = .ok (.aload_n 0, 1) := dk_42 (dk_at dksX8_readStone_1 21 rfl rfl)
theorem dX8_readStone_45 : decode cX8_readStone 45 = .ok (.iconst 1, 1) := dk_4 (dk_at dksX8_readStone_1 22 rfl rfl)
theorem dX8_readStone_46 : decode cX8_readStone 46 = .ok (.bipush 9, 2) := dk_16 9 (dk_at dksX8_readStone_2 0 rfl rfl)
theorem dX8_readStone_48 : decode cX8_readStone 48 = .ok (.invokevirtual 157, 3) := dk_182 0 157 (dk_at dksX8_readStone_2 2 rfl rfl)
theorem dX8_readStone_51 : decode cX8_readStone 51 = .ok (.istore_n 3, 1) := dk_62 (dk_at dksX8_readStone_2 5 rfl rfl)
theorem dX8_readStone_52 : decode cX8_readStone 52 = .ok (.aload_n 0, 1) := dk_42 (dk_at dksX8_readStone_2 6 rfl rfl)
theorem dX8_readStone_53 : decode cX8_readStone 53 = .ok (.iconst 3, 1) := dk_6 (dk_at dksX8_readStone_2 7 rfl rfl)
theorem dX8_readStone_54 : decode cX8_readStone 54 = .ok (.invokevirtual 161, 3) := dk_182 0 161 (dk_at dksX8_readStone_2 8 rfl rfl)
theorem dX8_readStone_57 : decode cX8_readStone 57 = .ok (.aload_n 0, 1) := dk_42 (dk_at dksX8_readStone_2 11 rfl rfl)
theorem dX8_readStone_58 : decode cX8_readStone 58 = .ok (.bipush 25, 2) := dk_16 25 (dk_at dksX8_readStone_2 12 rfl rfl)
theorem dX8_readStone_60 : decode cX8_readStone 60 = .ok (.invokevirtual 140, 3) := dk_182 0 140 (dk_at dksX8_readStone_2 14 rfl rfl)
theorem dX8_readStone_63 : decode cX8_readStone 63 = .ok (.ifCond .eq 51, 3) := dk_153 0 51 (dk_at dksX8_readStone_2 17 rfl rfl)
theorem dX8_readStone_66 : decode cX8_readStone 66 = .ok (.aload_n 0, 1) := dk_42 (dk_at dksX8_readStone_2 20 rfl rfl)
theorem dX8_readStone_67 : decode cX8_readStone 67 = .ok (.getfield 131, 3) := dk_180 0 131 (dk_at dksX8_readStone_2 21 rfl rfl)
theorem dX8_readStone_70 : decode cX8_readStone 70 = .ok (.i2l, 1) := dk_133 (dk_at dksX8_readStone_3 0 rfl rfl)
theorem dX8_readStone_71 : decode cX8_readStone 71 = .ok (.lconst 0, 1) := dk_9 (dk_at dksX8_readStone_3 1 rfl rfl)
theorem dX8_readStone_72 : decode cX8_readStone 72 = .ok (.aload_n 0, 1) := dk_42 (dk_at dksX8_readStone_3 2 rfl rfl)
theorem dX8_readStone_73 : decode cX8_readStone 73 = .ok (.getfield 24, 3) := dk_180 0 24 (dk_at dksX8_readStone_3 3 rfl rfl)
theorem dX8_readStone_76 : decode cX8_readStone 76 = .ok (.iconst 0, 1) := dk_3 (dk_at dksX8_readStone_3 6 rfl rfl)
theorem dX8_readStone_77 : decode cX8_readStone 77 = .ok (.iaload, 1) := dk_46 (dk_at dksX8_readStone_3 7 rfl rfl)
theorem dX8_readStone_78 : decode cX8_readStone 78 = .ok (.iconst 1, 1) := dk_4 (dk_at dksX8_readStone_3 8 rfl rfl)
theorem dX8_readStone_79 : decode cX8_readStone 79 = .ok (.isub, 1) := dk_100 (dk_at dksX8_readStone_3 9 rfl rfl)
theorem dX8_readStone_80 : decode cX8_readStone 80 = .ok (.i2l, 1) := dk_133 (dk_at dksX8_readStone_3 10 rfl rfl)
theorem dX8_readStone_81 : decode cX8_readStone 81 = .ok (.invokestatic 153, 3) := dk_184 0 153 (dk_at dksX8_readStone_3 11 rfl rfl)
theorem dX8_readStone_84 : decode cX8_readStone 84 = .ok (.ifCond .eq 30, 3) := dk_153 0 30 (dk_at dksX8_readStone_3 14 rfl rfl)
theorem dX8_readStone_87 : decode cX8_readStone 87 = .ok (.aload_n 0, 1) := dk_42 (dk_at dksX8_readStone_3 17 rfl rfl)
theorem dX8_readStone_88 : decode cX8_readStone 88 = .ok (.aload_n 0, 1) := dk_42 (dk_at dksX8_readStone_3 18 rfl rfl)
theorem dX8_readStone_89 : decode cX8_readStone 89 = .ok (.getfield 131, 3) := dk_180 0 131 (dk_at dksX8_readStone_3 19 rfl rfl)
theorem dX8_readStone_92 : decode cX8_readStone 92 = .ok (.invokevirtual 164, 3) := dk_182 0 164 (dk_at dksX8_readStone_4 0 rfl rfl)
theorem dX8_readStone_95 : decode cX8_readStone 95 = .ok (.aload_n 0, 1) := dk_42 (dk_at dksX8_readStone_4 3 rfl rfl)
theorem dX8_readStone_96 : decode cX8_readStone 96 = .ok (.getfield 24, 3) := dk_180 0 24 (dk_at dksX8_readStone_4 4 rfl rfl)
theorem dX8_readStone_99 : decode cX8_readStone 99 = .ok (.iconst 1, 1) := dk_4 (dk_at dksX8_readStone_4 7 rfl rfl)
theorem dX8_readStone_100 : decode cX8_readStone 100 = .ok (.aload_n 0, 1) := dk_42 (dk_at dksX8_readStone_4 8 rfl rfl)
theorem dX8_readStone_101 : decode cX8_readStone 101 = .ok (.getfield 131, 3) := dk_180 0 131 (dk_at dksX8_readStone_4 9 rfl rfl)
theorem dX8_readStone_104 : decode cX8_readStone 104 = .ok (.iadd, 1) := dk_96 (dk_at dksX8_readStone_4 12 rfl rfl)
theorem dX8_readStone_105 : decode cX8_readStone 105 = .ok (.iaload, 1) := dk_46 (dk_at dksX8_readStone_4 13 rfl rfl)
theorem dX8_readStone_106 : decode cX8_readStone 106 = .ok (.if_icmp .ne 8, 3) := dk_160 0 8 (dk_at dksX8_readStone_4 14 rfl rfl)
theorem dX8_readStone_109 : decode cX8_readStone 109 = .ok (.aload_n 0, 1) := dk_42 (dk_at dksX8_readStone_4 17 rfl rfl)
theorem dX8_readStone_110 : decode cX8_readStone 110 = .ok (.iconst 3, 1) := dk_6 (dk_at dksX8_readStone_4 18 rfl rfl)
theorem dX8_readStone_111 : decode cX8_readStone 111 = .ok (.invokevirtual 149, 3) := dk_182 0 149 (dk_at dksX8_readStone_4 19 rfl rfl)
theorem dX8_readStone_114 : decode cX8_readStone 114 = .ok (.aload_n 0, 1) := dk_42 (dk_at dksX8_readStone_4 22 rfl rfl)
theorem dX8_readStone_115 : decode cX8_readStone 115 = .ok (.iconst 0, 1) := dk_3 (dk_at dksX8_readStone_4 23 rfl rfl)
theorem dX8_readStone_116 : decode cX8_readStone 116 = .ok (.aload_n 0, 1) := dk_42 (dk_at dksX8_readStone_5 0 rfl rfl)
theorem dX8_readStone_117 : decode cX8_readStone 117 = .ok (.getfield 24, 3) := dk_180 0 24 (dk_at dksX8_readStone_5 1 rfl rfl)
theorem dX8_readStone_120 : decode cX8_readStone 120 = .ok (.iconst 0, 1) := dk_3 (dk_at dksX8_readStone_5 4 rfl rfl)
theorem dX8_readStone_121 : decode cX8_readStone 121 = .ok (.iaload, 1) := dk_46 (dk_at dksX8_readStone_5 5 rfl rfl)
theorem dX8_readStone_122 : decode cX8_readStone 122 = .ok (.iconst 1, 1) := dk_4 (dk_at dksX8_readStone_5 6 rfl rfl)
theorem dX8_readStone_123 : decode cX8_readStone 123 = .ok (.isub, 1) := dk_100 (dk_at dksX8_readStone_5 7 rfl rfl)
theorem dX8_readStone_124 : decode cX8_readStone 124 = .ok (.invokevirtual 157, 3) := dk_182 0 157 (dk_at dksX8_readStone_5 8 rfl rfl)
theorem dX8_readStone_127 : decode cX8_readStone 127 = .ok (.istore 4, 2) := dk_54 4 (dk_at dksX8_readStone_5 11 rfl rfl)
theorem dX8_readStone_129 : decode cX8_readStone 129 = .ok (.bipush 99, 2) := dk_16 99 (dk_at dksX8_readStone_5 13 rfl rfl)
theorem dX8_readStone_131 : decode cX8_readStone 131 = .ok (.istore 5, 2) := dk_54 5 (dk_at dksX8_readStone_5 15 rfl rfl)
theorem dX8_readStone_133 : decode cX8_readStone 133 = .ok (.aload_n 0, 1) := dk_42 (dk_at dksX8_readStone_5 17 rfl rfl)
theorem dX8_readStone_134 : decode cX8_readStone 134 = .ok (.iconst 4, 1) := dk_7 (dk_at dksX8_readStone_5 18 rfl rfl)
theorem dX8_readStone_135 : decode cX8_readStone 135 = .ok (.invokevirtual 146, 3) := dk_182 0 146 (dk_at dksX8_readStone_5 19 rfl rfl)
theorem dX8_readStone_138 : decode cX8_readStone 138 = .ok (.ifCond .eq 12, 3) := dk_153 0 12 (dk_at dksX8_readStone_6 0 rfl rfl)
theorem dX8_readStone_141 : decode cX8_readStone 141 = .ok (.aload_n 0, 1) := dk_42 (dk_at dksX8_readStone_6 3 rfl rfl)
theorem dX8_readStone_142 : decode cX8_readStone 142 = .ok (.iconst 0, 1) := dk_3 (dk_at dksX8_readStone_6 4 rfl rfl)
theorem dX8_readStone_143 : decode cX8_readStone 143 = .ok (.bipush 99, 2) := dk_16 99 (dk_at dksX8_readStone_6 5 rfl rfl)
theorem dX8_readStone_145 : decode cX8_readStone 145 = .ok (.invokevirtual 157, 3) := dk_182 0 157 (dk_at dksX8_readStone_6 7 rfl rfl)
theorem dX8_readStone_148 : decode cX8_readStone 148 = .ok (.istore 5, 2) := dk_54 5 (dk_at dksX8_readStone_6 10 rfl rfl)
theorem dX8_readStone_150 : decode cX8_readStone 150 = .ok (.aload_n 0, 1) := dk_42 (dk_at dksX8_readStone_6 12 rfl rfl)
theorem dX8_readStone_151 : decode cX8_readStone 151 = .ok (.getfield 134, 3) := dk_180 0 134 (dk_at dksX8_readStone_6 13 rfl rfl)
theorem dX8_readStone_154 : decode cX8_readStone 154 = .ok (.ifCond .eq 4, 3) := dk_153 0 4 (dk_at dksX8_readStone_6 16 rfl rfl)
theorem dX8_readStone_157 : decode cX8_readStone 157 = .ok (.return_, 1) := dk_177 (dk_at dksX8_readStone_6 19 rfl rfl)
theorem dX8_readStone_158 : decode cX8_readStone 158 = .ok (.aload_n 0, 1) := dk_42 (dk_at dksX8_readStone_6 20 rfl rfl)
theorem dX8_readStone_159 : decode cX8_readStone 159 = .ok (.getfield 24, 3) := dk_180 0 24 (dk_at dksX8_readStone_6 21 rfl rfl)
theorem dX8_readStone_162 : decode cX8_readStone 162 = .ok (.bipush 7, 2) := dk_16 7 (dk_at dksX8_readStone_7 0 rfl rfl)
theorem dX8_readStone_164 : decode cX8_readStone 164 = .ok (.iload_n 1, 1) := dk_27 (dk_at dksX8_readStone_7 2 rfl rfl)
theorem dX8_readStone_165 : decode cX8_readStone 165 = .ok (.iadd, 1) := dk_96 (dk_at dksX8_readStone_7 3 rfl rfl)
theorem dX8_readStone_166 : decode cX8_readStone 166 = .ok (.iload_n 2, 1) := dk_28 (dk_at dksX8_readStone_7 4 rfl rfl)
theorem dX8_readStone_167 : decode cX8_readStone 167 = .ok (.iastore, 1) := dk_79 (dk_at dksX8_readStone_7 5 rfl rfl)
theorem dX8_readStone_168 : decode cX8_readStone 168 = .ok (.aload_n 0, 1) := dk_42 (dk_at dksX8_readStone_7 6 rfl rfl)
theorem dX8_readStone_169 : decode cX8_readStone 169 = .ok (.getfield 24, 3) := dk_180 0 24 (dk_at dksX8_readStone_7 7 rfl rfl)
theorem dX8_readStone_172 : decode cX8_readStone 172 = .ok (.bipush 15, 2) := dk_16 15 (dk_at dksX8_readStone_7 10 rfl rfl)
theorem dX8_readStone_174 : decode cX8_readStone 174 = .ok (.iload_n 1, 1) := dk_27 (dk_at dksX8_readStone_7 12 rfl rfl)
theorem dX8_readStone_175 : decode cX8_readStone 175 = .ok (.iadd, 1) := dk_96 (dk_at dksX8_readStone_7 13 rfl rfl)
theorem dX8_readStone_176 : decode cX8_readStone 176 = .ok (.iload_n 3, 1) := dk_29 (dk_at dksX8_readStone_7 14 rfl rfl)
theorem dX8_readStone_177 : decode cX8_readStone 177 = .ok (.iastore, 1) := dk_79 (dk_at dksX8_readStone_7 15 rfl rfl)
theorem dX8_readStone_178 : decode cX8_readStone 178 = .ok (.aload_n 0, 1) := dk_42 (dk_at dksX8_readStone_7 16 rfl rfl)
theorem dX8_readStone_179 : decode cX8_readStone 179 = .ok (.getfield 24, 3) := dk_180 0 24 (dk_at dksX8_readStone_7 17 rfl rfl)
theorem dX8_readStone_182 : decode cX8_readStone 182 = .ok (.bipush 23, 2) := dk_16 23 (dk_at dksX8_readStone_7 20 rfl rfl)
theorem dX8_readStone_184 : decode cX8_readStone 184 = .ok (.iload_n 1, 1) := dk_27 (dk_at dksX8_readStone_7 22 rfl rfl)
theorem dX8_readStone_185 : decode cX8_readStone 185 = .ok (.iadd, 1) := dk_96 (dk_at dksX8_readStone_7 23 rfl rfl)
theorem dX8_readStone_186 : decode cX8_readStone 186 = .ok (.iload 5, 2) := dk_21 5 (dk_at dksX8_readStone_8 0 rfl rfl)
theorem dX8_readStone_188 : decode cX8_readStone 188 = .ok (.iastore, 1) := dk_79 (dk_at dksX8_readStone_8 2 rfl rfl)
theorem dX8_readStone_189 : decode cX8_readStone 189 = .ok (.aload_n 0, 1) := dk_42 (dk_at dksX8_readStone_8 3 rfl rfl)
theorem dX8_readStone_190 : decode cX8_readStone 190 = .ok (.getfield 24, 3) := dk_180 0 24 (dk_at dksX8_readStone_8 4 rfl rfl)
theorem dX8_readStone_193 : decode cX8_readStone 193 = .ok (.bipush 80, 2) := dk_16 80 (dk_at dksX8_readStone_8 7 rfl rfl)
theorem dX8_readStone_195 : decode cX8_readStone 195 = .ok (.iconst 3, 1) := dk_6 (dk_at dksX8_readStone_8 9 rfl rfl)
theorem dX8_readStone_196 : decode cX8_readStone 196 = .ok (.iload 4, 2) := dk_21 4 (dk_at dksX8_readStone_8 10 rfl rfl)
theorem dX8_readStone_198 : decode cX8_readStone 198 = .ok (.imul, 1) := dk_104 (dk_at dksX8_readStone_8 12 rfl rfl)
theorem dX8_readStone_199 : decode cX8_readStone 199 = .ok (.iadd, 1) := dk_96 (dk_at dksX8_readStone_8 13 rfl rfl)
theorem dX8_readStone_200 : decode cX8_readStone 200 = .ok (.aload_n 0, 1) := dk_42 (dk_at dksX8_readStone_8 14 rfl rfl)
theorem dX8_readStone_201 : decode cX8_readStone 201 = .ok (.iload 4, 2) := dk_21 4 (dk_at dksX8_readStone_8 15 rfl rfl)
theorem dX8_readStone_203 : decode cX8_readStone 203 = .ok (.invokevirtual 164, 3) := dk_182 0 164 (dk_at dksX8_readStone_8 17 rfl rfl)
theorem dX8_readStone_206 : decode cX8_readStone 206 = .ok (.iadd, 1) := dk_96 (dk_at dksX8_readStone_8 20 rfl rfl)
theorem dX8_readStone_207 : decode cX8_readStone 207 = .ok (.iload_n 1, 1) := dk_27 (dk_at dksX8_readStone_8 21 rfl rfl)
theorem dX8_readStone_208 : decode cX8_readStone 208 = .ok (.iconst 1, 1) := dk_4 (dk_at dksX8_readStone_8 22 rfl rfl)
theorem dX8_readStone_209 : decode cX8_readStone 209 = .ok (.iadd, 1) := dk_96 (dk_at dksX8_readStone_8 23 rfl rfl)
theorem dX8_readStone_210 : decode cX8_readStone 210 = .ok (.iastore, 1) := dk_79 (dk_at dksX8_readStone_9 0 rfl rfl)
theorem dX8_readStone_211 : decode cX8_readStone 211 = .ok (.aload_n 0, 1) := dk_42 (dk_at dksX8_readStone_9 1 rfl rfl)
theorem dX8_readStone_212 : decode cX8_readStone 212 = .ok (.getfield 24, 3) := dk_180 0 24 (dk_at dksX8_readStone_9 2 rfl rfl)
theorem dX8_readStone_215 : decode cX8_readStone 215 = .ok (.bipush 6, 2) := dk_16 6 (dk_at dksX8_readStone_9 5 rfl rfl)
theorem dX8_readStone_217 : decode cX8_readStone 217 = .ok (.dup2, 1) := dk_92 (dk_at dksX8_readStone_9 7 rfl rfl)
theorem dX8_readStone_218 : decode cX8_readStone 218 = .ok (.iaload, 1) := dk_46 (dk_at dksX8_readStone_9 8 rfl rfl)
theorem dX8_readStone_219 : decode cX8_readStone 219 = .ok (.iconst 1, 1) := dk_4 (dk_at dksX8_readStone_9 9 rfl rfl)
theorem dX8_readStone_220 : decode cX8_readStone 220 = .ok (.iadd, 1) := dk_96 (dk_at dksX8_readStone_9 10 rfl rfl)
theorem dX8_readStone_221 : decode cX8_readStone 221 = .ok (.iastore, 1) := dk_79 (dk_at dksX8_readStone_9 11 rfl rfl)
theorem dX8_readStone_222 : decode cX8_readStone 222 = .ok (.return_, 1) := dk_177 (dk_at dksX8_readStone_9 12 rfl rfl)
abbrev cX8_needs : ByteArray := prog_20_method_14_code
def yX8_needs : MethodName := ⟨RX8, "needs", "(I)V"⟩
def dkwX8_needs_0 : List UInt8 := [42, 27, 182, 0, 146, 154, 0, 8, 42, 5, 182, 0, 149, 177]
abbrev dktX8_needs_0 : List UInt8 := dkwX8_needs_0 ++ []
theorem dksX8_needs_0 : cX8_needs.data.toList.drop 0 = dktX8_needs_0 := by decide +kernel
theorem dX8_needs_0 : decode cX8_needs 0 = .ok (.aload_n 0, 1) := dk_42 (dk_at dksX8_needs_0 0 rfl rfl)
theorem dX8_needs_1 : decode cX8_needs 1 = .ok (.iload_n 1, 1) := dk_27 (dk_at dksX8_needs_0 1 rfl rfl)
theorem dX8_needs_2 : decode cX8_needs 2 = .ok (.invokevirtual 146, 3) := dk_182 0 146 (dk_at dksX8_needs_0 2 rfl rfl)
theorem dX8_needs_5 : decode cX8_needs 5 = .ok (.ifCond .ne 8, 3) := dk_154 0 8 (dk_at dksX8_needs_0 5 rfl rfl)
theorem dX8_needs_8 : decode cX8_needs 8 = .ok (.aload_n 0, 1) := dk_42 (dk_at dksX8_needs_0 8 rfl rfl)
theorem dX8_needs_9 : decode cX8_needs 9 = .ok (.iconst 2, 1) := dk_5 (dk_at dksX8_needs_0 9 rfl rfl)
theorem dX8_needs_10 : decode cX8_needs 10 = .ok (.invokevirtual 149, 3) := dk_182 0 149 (dk_at dksX8_needs_0 10 rfl rfl)
theorem dX8_needs_13 : decode cX8_needs 13 = .ok (.return_, 1) := dk_177 (dk_at dksX8_needs_0 13 rfl rfl)
abbrev cX8_eats : ByteArray := prog_20_method_13_code
def yX8_eats : MethodName := ⟨RX8, "eats", "(I)Z"⟩
def dkwX8_eats_0 : List UInt8 := [42, 27, 182, 0, 140, 154, 0, 5, 3, 172, 42, 182, 0, 143, 4, 172]
abbrev dktX8_eats_0 : List UInt8 := dkwX8_eats_0 ++ []
theorem dksX8_eats_0 : cX8_eats.data.toList.drop 0 = dktX8_eats_0 := by decide +kernel
theorem dX8_eats_0 : decode cX8_eats 0 = .ok (.aload_n 0, 1) := dk_42 (dk_at dksX8_eats_0 0 rfl rfl)
theorem dX8_eats_1 : decode cX8_eats 1 = .ok (.iload_n 1, 1) := dk_27 (dk_at dksX8_eats_0 1 rfl rfl)
theorem dX8_eats_2 : decode cX8_eats 2 = .ok (.invokevirtual 140, 3) := dk_182 0 140 (dk_at dksX8_eats_0 2 rfl rfl)
theorem dX8_eats_5 : decode cX8_eats 5 = .ok (.ifCond .ne 5, 3) := dk_154 0 5 (dk_at dksX8_eats_0 5 rfl rfl)
theorem dX8_eats_8 : decode cX8_eats 8 = .ok (.iconst 0, 1) := dk_3 (dk_at dksX8_eats_0 8 rfl rfl)
theorem dX8_eats_9 : decode cX8_eats 9 = .ok (.ireturn, 1) := dk_172 (dk_at dksX8_eats_0 9 rfl rfl)
theorem dX8_eats_10 : decode cX8_eats 10 = .ok (.aload_n 0, 1) := dk_42 (dk_at dksX8_eats_0 10 rfl rfl)
theorem dX8_eats_11 : decode cX8_eats 11 = .ok (.invokevirtual 143, 3) := dk_182 0 143 (dk_at dksX8_eats_0 11 rfl rfl)
theorem dX8_eats_14 : decode cX8_eats 14 = .ok (.iconst 1, 1) := dk_4 (dk_at dksX8_eats_0 14 rfl rfl)
theorem dX8_eats_15 : decode cX8_eats 15 = .ok (.ireturn, 1) := dk_172 (dk_at dksX8_eats_0 15 rfl rfl)
abbrev cX8_freshMany : ByteArray := prog_20_method_16_code
def yX8_freshMany : MethodName := ⟨RX8, "freshMany", "(I)I"⟩
def dkwX8_freshMany_1 : List UInt8 := [132, 2, 1, 167, 255, 232, 28, 172]
abbrev dktX8_freshMany_1 : List UInt8 := dkwX8_freshMany_1 ++ []
def dkwX8_freshMany_0 : List UInt8 := [3, 61, 28, 6, 162, 0, 25, 42, 180, 0, 24, 16, 80, 6, 27, 104, 96, 28, 96, 46, 158, 0, 9]
abbrev dktX8_freshMany_0 : List UInt8 := dkwX8_freshMany_0 ++ dktX8_freshMany_1
theorem dksX8_freshMany_0 : cX8_freshMany.data.toList.drop 0 = dktX8_freshMany_0 := by decide +kernel
theorem dksX8_freshMany_1 : cX8_freshMany.data.toList.drop 23 = dktX8_freshMany_1 := dk_seg dksX8_freshMany_0 23 rfl rfl
theorem dX8_freshMany_0 : decode cX8_freshMany 0 = .ok (.iconst 0, 1) := dk_3 (dk_at dksX8_freshMany_0 0 rfl rfl)
theorem dX8_freshMany_1 : decode cX8_freshMany 1 = .ok (.istore_n 2, 1) := dk_61 (dk_at dksX8_freshMany_0 1 rfl rfl)
theorem dX8_freshMany_2 : decode cX8_freshMany 2 = .ok (.iload_n 2, 1) := dk_28 (dk_at dksX8_freshMany_0 2 rfl rfl)
theorem dX8_freshMany_3 : decode cX8_freshMany 3 = .ok (.iconst 3, 1) := dk_6 (dk_at dksX8_freshMany_0 3 rfl rfl)
theorem dX8_freshMany_4 : decode cX8_freshMany 4 = .ok (.if_icmp .ge 25, 3) := dk_162 0 25 (dk_at dksX8_freshMany_0 4 rfl rfl)
theorem dX8_freshMany_7 : decode cX8_freshMany 7 = .ok (.aload_n 0, 1) := dk_42 (dk_at dksX8_freshMany_0 7 rfl rfl)
theorem dX8_freshMany_8 : decode cX8_freshMany 8 = .ok (.getfield 24, 3) := dk_180 0 24 (dk_at dksX8_freshMany_0 8 rfl rfl)
theorem dX8_freshMany_11 : decode cX8_freshMany 11 = .ok (.bipush 80, 2) := dk_16 80 (dk_at dksX8_freshMany_0 11 rfl rfl)
theorem dX8_freshMany_13 : decode cX8_freshMany 13 = .ok (.iconst 3, 1) := dk_6 (dk_at dksX8_freshMany_0 13 rfl rfl)
theorem dX8_freshMany_14 : decode cX8_freshMany 14 = .ok (.iload_n 1, 1) := dk_27 (dk_at dksX8_freshMany_0 14 rfl rfl)
theorem dX8_freshMany_15 : decode cX8_freshMany 15 = .ok (.imul, 1) := dk_104 (dk_at dksX8_freshMany_0 15 rfl rfl)
theorem dX8_freshMany_16 : decode cX8_freshMany 16 = .ok (.iadd, 1) := dk_96 (dk_at dksX8_freshMany_0 16 rfl rfl)
theorem dX8_freshMany_17 : decode cX8_freshMany 17 = .ok (.iload_n 2, 1) := dk_28 (dk_at dksX8_freshMany_0 17 rfl rfl)
theorem dX8_freshMany_18 : decode cX8_freshMany 18 = .ok (.iadd, 1) := dk_96 (dk_at dksX8_freshMany_0 18 rfl rfl)
theorem dX8_freshMany_19 : decode cX8_freshMany 19 = .ok (.iaload, 1) := dk_46 (dk_at dksX8_freshMany_0 19 rfl rfl)
theorem dX8_freshMany_20 : decode cX8_freshMany 20 = .ok (.ifCond .le 9, 3) := dk_158 0 9 (dk_at dksX8_freshMany_0 20 rfl rfl)
theorem dX8_freshMany_23 : decode cX8_freshMany 23 = .ok (.iinc 2 1, 3) := dk_132 2 1 (dk_at dksX8_freshMany_1 0 rfl rfl)
theorem dX8_freshMany_26 : decode cX8_freshMany 26 = .ok (.goto (-24), 3) := dk_167 255 232 (dk_at dksX8_freshMany_1 3 rfl rfl)
theorem dX8_freshMany_29 : decode cX8_freshMany 29 = .ok (.iload_n 2, 1) := dk_28 (dk_at dksX8_freshMany_1 6 rfl rfl)
theorem dX8_freshMany_30 : decode cX8_freshMany 30 = .ok (.ireturn, 1) := dk_172 (dk_at dksX8_freshMany_1 7 rfl rfl)
abbrev cX8_readWish : ByteArray := prog_20_method_19_code
def yX8_readWish : MethodName := ⟨RX8, "readWish", "()V"⟩
def dkwX8_readWish_7 : List UInt8 := [167, 255, 195, 42, 180, 0, 24, 16, 31, 27, 96, 29, 79, 42, 180, 0, 24, 16, 36, 27, 96, 28, 79, 177]
abbrev dktX8_readWish_7 : List UInt8 := dkwX8_readWish_7 ++ []
def dkwX8_readWish_6 : List UInt8 := [153, 0, 4, 177, 42, 180, 0, 24, 16, 41, 6, 27, 104, 96, 29, 96, 21, 4, 79, 132, 3, 1]
abbrev dktX8_readWish_6 : List UInt8 := dkwX8_readWish_6 ++ dktX8_readWish_7
def dkwX8_readWish_5 : List UInt8 := [27, 96, 46, 160, 0, 8, 42, 6, 182, 0, 149, 42, 3, 16, 7, 182, 0, 157, 54, 4, 42, 180, 0, 134]
abbrev dktX8_readWish_5 : List UInt8 := dkwX8_readWish_5 ++ dktX8_readWish_6
def dkwX8_readWish_4 : List UInt8 := [180, 0, 134, 153, 0, 4, 177, 3, 62, 42, 16, 25, 182, 0, 140, 153, 0, 58, 29, 42, 180, 0, 24, 4]
abbrev dktX8_readWish_4 : List UInt8 := dkwX8_readWish_4 ++ dktX8_readWish_5
def dkwX8_readWish_3 : List UInt8 := [42, 16, 6, 182, 0, 146, 153, 0, 10, 42, 3, 4, 182, 0, 157, 61, 42, 16, 7, 182, 0, 161, 42]
abbrev dktX8_readWish_3 : List UInt8 := dkwX8_readWish_3 ++ dktX8_readWish_4
def dkwX8_readWish_2 : List UInt8 := [159, 0, 8, 42, 6, 182, 0, 149, 42, 3, 42, 180, 0, 24, 3, 46, 4, 100, 182, 0, 157, 60, 3, 61]
abbrev dktX8_readWish_2 : List UInt8 := dkwX8_readWish_2 ++ dktX8_readWish_3
def dkwX8_readWish_1 : List UInt8 := [46, 4, 100, 133, 184, 0, 153, 153, 0, 24, 42, 180, 0, 24, 16, 31, 42, 180, 0, 131, 96, 46, 2]
abbrev dktX8_readWish_1 : List UInt8 := dkwX8_readWish_1 ++ dktX8_readWish_2
def dkwX8_readWish_0 : List UInt8 := [42, 182, 0, 143, 42, 16, 25, 182, 0, 140, 153, 0, 45, 42, 180, 0, 131, 133, 9, 42, 180, 0, 24, 3]
abbrev dktX8_readWish_0 : List UInt8 := dkwX8_readWish_0 ++ dktX8_readWish_1
theorem dksX8_readWish_0 : cX8_readWish.data.toList.drop 0 = dktX8_readWish_0 := by decide +kernel
theorem dksX8_readWish_1 : cX8_readWish.data.toList.drop 24 = dktX8_readWish_1 := dk_seg dksX8_readWish_0 24 rfl rfl
theorem dksX8_readWish_2 : cX8_readWish.data.toList.drop 47 = dktX8_readWish_2 := dk_seg dksX8_readWish_1 23 rfl rfl
theorem dksX8_readWish_3 : cX8_readWish.data.toList.drop 71 = dktX8_readWish_3 := dk_seg dksX8_readWish_2 24 rfl rfl
theorem dksX8_readWish_4 : cX8_readWish.data.toList.drop 94 = dktX8_readWish_4 := dk_seg dksX8_readWish_3 23 rfl rfl
theorem dksX8_readWish_5 : cX8_readWish.data.toList.drop 118 = dktX8_readWish_5 := dk_seg dksX8_readWish_4 24 rfl rfl
theorem dksX8_readWish_6 : cX8_readWish.data.toList.drop 142 = dktX8_readWish_6 := dk_seg dksX8_readWish_5 24 rfl rfl
theorem dksX8_readWish_7 : cX8_readWish.data.toList.drop 164 = dktX8_readWish_7 := dk_seg dksX8_readWish_6 22 rfl rfl
theorem dX8_readWish_0 : decode cX8_readWish 0 = .ok (.aload_n 0, 1) := dk_42 (dk_at dksX8_readWish_0 0 rfl rfl)
theorem dX8_readWish_1 : decode cX8_readWish 1 = .ok (.invokevirtual 143, 3) := dk_182 0 143 (dk_at dksX8_readWish_0 1 rfl rfl)
theorem dX8_readWish_4 : decode cX8_readWish 4 = .ok (.aload_n 0, 1) := dk_42 (dk_at dksX8_readWish_0 4 rfl rfl)
theorem dX8_readWish_5 : decode cX8_readWish 5 = .ok (.bipush 25, 2) := dk_16 25 (dk_at dksX8_readWish_0 5 rfl rfl)
theorem dX8_readWish_7 : decode cX8_readWish 7 = .ok (.invokevirtual 140, 3) := dk_182 0 140 (dk_at dksX8_readWish_0 7 rfl rfl)
theorem dX8_readWish_10 : decode cX8_readWish 10 = .ok (.ifCond .eq 45, 3) := dk_153 0 45 (dk_at dksX8_readWish_0 10 rfl rfl)
theorem dX8_readWish_13 : decode cX8_readWish 13 = .ok (.aload_n 0, 1) := dk_42 (dk_at dksX8_readWish_0 13 rfl rfl)
theorem dX8_readWish_14 : decode cX8_readWish 14 = .ok (.getfield 131, 3) := dk_180 0 131 (dk_at dksX8_readWish_0 14 rfl rfl)
theorem dX8_readWish_17 : decode cX8_readWish 17 = .ok (.i2l, 1) := dk_133 (dk_at dksX8_readWish_0 17 rfl rfl)
theorem dX8_readWish_18 : decode cX8_readWish 18 = .ok (.lconst 0, 1) := dk_9 (dk_at dksX8_readWish_0 18 rfl rfl)
theorem dX8_readWish_19 : decode cX8_readWish 19 = .ok (.aload_n 0, 1) := dk_42 (dk_at dksX8_readWish_0 19 rfl rfl)
theorem dX8_readWish_20 : decode cX8_readWish 20 = .ok (.getfield 24, 3) := dk_180 0 24 (dk_at dksX8_readWish_0 20 rfl rfl)
theorem dX8_readWish_23 : decode cX8_readWish 23 = .ok (.iconst 0, 1) := dk_3 (dk_at dksX8_readWish_0 23 rfl rfl)
theorem dX8_readWish_24 : decode cX8_readWish 24 = .ok (.iaload, 1) := dk_46 (dk_at dksX8_readWish_1 0 rfl rfl)
theorem dX8_readWish_25 : decode cX8_readWish 25 = .ok (.iconst 1, 1) := dk_4 (dk_at dksX8_readWish_1 1 rfl rfl)
theorem dX8_readWish_26 : decode cX8_readWish 26 = .ok (.isub, 1) := dk_100 (dk_at dksX8_readWish_1 2 rfl rfl)
theorem dX8_readWish_27 : decode cX8_readWish 27 = .ok (.i2l, 1) := dk_133 (dk_at dksX8_readWish_1 3 rfl rfl)
theorem dX8_readWish_28 : decode cX8_readWish 28 = .ok (.invokestatic 153, 3) := dk_184 0 153 (dk_at dksX8_readWish_1 4 rfl rfl)
theorem dX8_readWish_31 : decode cX8_readWish 31 = .ok (.ifCond .eq 24, 3) := dk_153 0 24 (dk_at dksX8_readWish_1 7 rfl rfl)
theorem dX8_readWish_34 : decode cX8_readWish 34 = .ok (.aload_n 0, 1) := dk_42 (dk_at dksX8_readWish_1 10 rfl rfl)
theorem dX8_readWish_35 : decode cX8_readWish 35 = .ok (.getfield 24, 3) := dk_180 0 24 (dk_at dksX8_readWish_1 11 rfl rfl)
theorem dX8_readWish_38 : decode cX8_readWish 38 = .ok (.bipush 31, 2) := dk_16 31 (dk_at dksX8_readWish_1 14 rfl rfl)
theorem dX8_readWish_40 : decode cX8_readWish 40 = .ok (.aload_n 0, 1) := dk_42 (dk_at dksX8_readWish_1 16 rfl rfl)
theorem dX8_readWish_41 : decode cX8_readWish 41 = .ok (.getfield 131, 3) := dk_180 0 131 (dk_at dksX8_readWish_1 17 rfl rfl)
theorem dX8_readWish_44 : decode cX8_readWish 44 = .ok (.iadd, 1) := dk_96 (dk_at dksX8_readWish_1 20 rfl rfl)
theorem dX8_readWish_45 : decode cX8_readWish 45 = .ok (.iaload, 1) := dk_46 (dk_at dksX8_readWish_1 21 rfl rfl)
theorem dX8_readWish_46 : decode cX8_readWish 46 = .ok (.iconst (-1), 1) := dk_2 (dk_at dksX8_readWish_1 22 rfl rfl)
theorem dX8_readWish_47 : decode cX8_readWish 47 = .ok (.if_icmp .eq 8, 3) := dk_159 0 8 (dk_at dksX8_readWish_2 0 rfl rfl)
theorem dX8_readWish_50 : decode cX8_readWish 50 = .ok (.aload_n 0, 1) := dk_42 (dk_at dksX8_readWish_2 3 rfl rfl)
theorem dX8_readWish_51 : decode cX8_readWish 51 = .ok (.iconst 3, 1) := dk_6 (dk_at dksX8_readWish_2 4 rfl rfl)
theorem dX8_readWish_52 : decode cX8_readWish 52 = .ok (.invokevirtual 149, 3) := dk_182 0 149 (dk_at dksX8_readWish_2 5 rfl rfl)
theorem dX8_readWish_55 : decode cX8_readWish 55 = .ok (.aload_n 0, 1) := dk_42 (dk_at dksX8_readWish_2 8 rfl rfl)
theorem dX8_readWish_56 : decode cX8_readWish 56 = .ok (.iconst 0, 1) := dk_3 (dk_at dksX8_readWish_2 9 rfl rfl)
theorem dX8_readWish_57 : decode cX8_readWish 57 = .ok (.aload_n 0, 1) := dk_42 (dk_at dksX8_readWish_2 10 rfl rfl)
theorem dX8_readWish_58 : decode cX8_readWish 58 = .ok (.getfield 24, 3) := dk_180 0 24 (dk_at dksX8_readWish_2 11 rfl rfl)
theorem dX8_readWish_61 : decode cX8_readWish 61 = .ok (.iconst 0, 1) := dk_3 (dk_at dksX8_readWish_2 14 rfl rfl)
theorem dX8_readWish_62 : decode cX8_readWish 62 = .ok (.iaload, 1) := dk_46 (dk_at dksX8_readWish_2 15 rfl rfl)
theorem dX8_readWish_63 : decode cX8_readWish 63 = .ok (.iconst 1, 1) := dk_4 (dk_at dksX8_readWish_2 16 rfl rfl)
theorem dX8_readWish_64 : decode cX8_readWish 64 = .ok (.isub, 1) := dk_100 (dk_at dksX8_readWish_2 17 rfl rfl)
theorem dX8_readWish_65 : decode cX8_readWish 65 = .ok (.invokevirtual 157, 3) := dk_182 0 157 (dk_at dksX8_readWish_2 18 rfl rfl)
theorem dX8_readWish_68 : decode cX8_readWish 68 = .ok (.istore_n 1, 1) := dk_60 (dk_at dksX8_readWish_2 21 rfl rfl)
theorem dX8_readWish_69 : decode cX8_readWish 69 = .ok (.iconst 0, 1) := dk_3 (dk_at dksX8_readWish_2 22 rfl rfl)
theorem dX8_readWish_70 : decode cX8_readWish 70 = .ok (.istore_n 2, 1) := dk_61 (dk_at dksX8_readWish_2 23 rfl rfl)
theorem dX8_readWish_71 : decode cX8_readWish 71 = .ok (.aload_n 0, 1) := dk_42 (dk_at dksX8_readWish_3 0 rfl rfl)
theorem dX8_readWish_72 : decode cX8_readWish 72 = .ok (.bipush 6, 2) := dk_16 6 (dk_at dksX8_readWish_3 1 rfl rfl)
theorem dX8_readWish_74 : decode cX8_readWish 74 = .ok (.invokevirtual 146, 3) := dk_182 0 146 (dk_at dksX8_readWish_3 3 rfl rfl)
theorem dX8_readWish_77 : decode cX8_readWish 77 = .ok (.ifCond .eq 10, 3) := dk_153 0 10 (dk_at dksX8_readWish_3 6 rfl rfl)
theorem dX8_readWish_80 : decode cX8_readWish 80 = .ok (.aload_n 0, 1) := dk_42 (dk_at dksX8_readWish_3 9 rfl rfl)
theorem dX8_readWish_81 : decode cX8_readWish 81 = .ok (.iconst 0, 1) := dk_3 (dk_at dksX8_readWish_3 10 rfl rfl)
theorem dX8_readWish_82 : decode cX8_readWish 82 = .ok (.iconst 1, 1) := dk_4 (dk_at dksX8_readWish_3 11 rfl rfl)
theorem dX8_readWish_83 : decode cX8_readWish 83 = .ok (.invokevirtual 157, 3) := dk_182 0 157 (dk_at dksX8_readWish_3 12 rfl rfl)
theorem dX8_readWish_86 : decode cX8_readWish 86 = .ok (.istore_n 2, 1) := dk_61 (dk_at dksX8_readWish_3 15 rfl rfl)
theorem dX8_readWish_87 : decode cX8_readWish 87 = .ok (.aload_n 0, 1) := dk_42 (dk_at dksX8_readWish_3 16 rfl rfl)
theorem dX8_readWish_88 : decode cX8_readWish 88 = .ok (.bipush 7, 2) := dk_16 7 (dk_at dksX8_readWish_3 17 rfl rfl)
theorem dX8_readWish_90 : decode cX8_readWish 90 = .ok (.invokevirtual 161, 3) := dk_182 0 161 (dk_at dksX8_readWish_3 19 rfl rfl)
theorem dX8_readWish_93 : decode cX8_readWish 93 = .ok (.aload_n 0, 1) := dk_42 (dk_at dksX8_readWish_3 22 rfl rfl)
theorem dX8_readWish_94 : decode cX8_readWish 94 = .ok (.getfield 134, 3) := dk_180 0 134 (dk_at dksX8_readWish_4 0 rfl rfl)
theorem dX8_readWish_97 : decode cX8_readWish 97 = .ok (.ifCond .eq 4, 3) := dk_153 0 4 (dk_at dksX8_readWish_4 3 rfl rfl)
theorem dX8_readWish_100 : decode cX8_readWish 100 = .ok (.return_, 1) := dk_177 (dk_at dksX8_readWish_4 6 rfl rfl)
theorem dX8_readWish_101 : decode cX8_readWish 101 = .ok (.iconst 0, 1) := dk_3 (dk_at dksX8_readWish_4 7 rfl rfl)
theorem dX8_readWish_102 : decode cX8_readWish 102 = .ok (.istore_n 3, 1) := dk_62 (dk_at dksX8_readWish_4 8 rfl rfl)
theorem dX8_readWish_103 : decode cX8_readWish 103 = .ok (.aload_n 0, 1) := dk_42 (dk_at dksX8_readWish_4 9 rfl rfl)
theorem dX8_readWish_104 : decode cX8_readWish 104 = .ok (.bipush 25, 2) := dk_16 25 (dk_at dksX8_readWish_4 10 rfl rfl)
theorem dX8_readWish_106 : decode cX8_readWish 106 = .ok (.invokevirtual 140, 3) := dk_182 0 140 (dk_at dksX8_readWish_4 12 rfl rfl)
theorem dX8_readWish_109 : decode cX8_readWish 109 = .ok (.ifCond .eq 58, 3) := dk_153 0 58 (dk_at dksX8_readWish_4 15 rfl rfl)
theorem dX8_readWish_112 : decode cX8_readWish 112 = .ok (.iload_n 3, 1) := dk_29 (dk_at dksX8_readWish_4 18 rfl rfl)
theorem dX8_readWish_113 : decode cX8_readWish 113 = .ok (.aload_n 0, 1) := dk_42 (dk_at dksX8_readWish_4 19 rfl rfl)
theorem dX8_readWish_114 : decode cX8_readWish 114 = .ok (.getfield 24, 3) := dk_180 0 24 (dk_at dksX8_readWish_4 20 rfl rfl)
theorem dX8_readWish_117 : decode cX8_readWish 117 = .ok (.iconst 1, 1) := dk_4 (dk_at dksX8_readWish_4 23 rfl rfl)
theorem dX8_readWish_118 : decode cX8_readWish 118 = .ok (.iload_n 1, 1) := dk_27 (dk_at dksX8_readWish_5 0 rfl rfl)
theorem dX8_readWish_119 : decode cX8_readWish 119 = .ok (.iadd, 1) := dk_96 (dk_at dksX8_readWish_5 1 rfl rfl)
theorem dX8_readWish_120 : decode cX8_readWish 120 = .ok (.iaload, 1) := dk_46 (dk_at dksX8_readWish_5 2 rfl rfl)
theorem dX8_readWish_121 : decode cX8_readWish 121 = .ok (.if_icmp .ne 8, 3) := dk_160 0 8 (dk_at dksX8_readWish_5 3 rfl rfl)
theorem dX8_readWish_124 : decode cX8_readWish 124 = .ok (.aload_n 0, 1) := dk_42 (dk_at dksX8_readWish_5 6 rfl rfl)
theorem dX8_readWish_125 : decode cX8_readWish 125 = .ok (.iconst 3, 1) := dk_6 (dk_at dksX8_readWish_5 7 rfl rfl)
theorem dX8_readWish_126 : decode cX8_readWish 126 = .ok (.invokevirtual 149, 3) := dk_182 0 149 (dk_at dksX8_readWish_5 8 rfl rfl)
theorem dX8_readWish_129 : decode cX8_readWish 129 = .ok (.aload_n 0, 1) := dk_42 (dk_at dksX8_readWish_5 11 rfl rfl)
theorem dX8_readWish_130 : decode cX8_readWish 130 = .ok (.iconst 0, 1) := dk_3 (dk_at dksX8_readWish_5 12 rfl rfl)
theorem dX8_readWish_131 : decode cX8_readWish 131 = .ok (.bipush 7, 2) := dk_16 7 (dk_at dksX8_readWish_5 13 rfl rfl)
theorem dX8_readWish_133 : decode cX8_readWish 133 = .ok (.invokevirtual 157, 3) := dk_182 0 157 (dk_at dksX8_readWish_5 15 rfl rfl)
theorem dX8_readWish_136 : decode cX8_readWish 136 = .ok (.istore 4, 2) := dk_54 4 (dk_at dksX8_readWish_5 18 rfl rfl)
theorem dX8_readWish_138 : decode cX8_readWish 138 = .ok (.aload_n 0, 1) := dk_42 (dk_at dksX8_readWish_5 20 rfl rfl)
theorem dX8_readWish_139 : decode cX8_readWish 139 = .ok (.getfield 134, 3) := dk_180 0 134 (dk_at dksX8_readWish_5 21 rfl rfl)
theorem dX8_readWish_142 : decode cX8_readWish 142 = .ok (.ifCond .eq 4, 3) := dk_153 0 4 (dk_at dksX8_readWish_6 0 rfl rfl)
theorem dX8_readWish_145 : decode cX8_readWish 145 = .ok (.return_, 1) := dk_177 (dk_at dksX8_readWish_6 3 rfl rfl)
theorem dX8_readWish_146 : decode cX8_readWish 146 = .ok (.aload_n 0, 1) := dk_42 (dk_at dksX8_readWish_6 4 rfl rfl)
theorem dX8_readWish_147 : decode cX8_readWish 147 = .ok (.getfield 24, 3) := dk_180 0 24 (dk_at dksX8_readWish_6 5 rfl rfl)
theorem dX8_readWish_150 : decode cX8_readWish 150 = .ok (.bipush 41, 2) := dk_16 41 (dk_at dksX8_readWish_6 8 rfl rfl)
theorem dX8_readWish_152 : decode cX8_readWish 152 = .ok (.iconst 3, 1) := dk_6 (dk_at dksX8_readWish_6 10 rfl rfl)
theorem dX8_readWish_153 : decode cX8_readWish 153 = .ok (.iload_n 1, 1) := dk_27 (dk_at dksX8_readWish_6 11 rfl rfl)
theorem dX8_readWish_154 : decode cX8_readWish 154 = .ok (.imul, 1) := dk_104 (dk_at dksX8_readWish_6 12 rfl rfl)
theorem dX8_readWish_155 : decode cX8_readWish 155 = .ok (.iadd, 1) := dk_96 (dk_at dksX8_readWish_6 13 rfl rfl)
theorem dX8_readWish_156 : decode cX8_readWish 156 = .ok (.iload_n 3, 1) := dk_29 (dk_at dksX8_readWish_6 14 rfl rfl)
theorem dX8_readWish_157 : decode cX8_readWish 157 = .ok (.iadd, 1) := dk_96 (dk_at dksX8_readWish_6 15 rfl rfl)
theorem dX8_readWish_158 : decode cX8_readWish 158 = .ok (.iload 4, 2) := dk_21 4 (dk_at dksX8_readWish_6 16 rfl rfl)
theorem dX8_readWish_160 : decode cX8_readWish 160 = .ok (.iastore, 1) := dk_79 (dk_at dksX8_readWish_6 18 rfl rfl)
theorem dX8_readWish_161 : decode cX8_readWish 161 = .ok (.iinc 3 1, 3) := dk_132 3 1 (dk_at dksX8_readWish_6 19 rfl rfl)
theorem dX8_readWish_164 : decode cX8_readWish 164 = .ok (.goto (-61), 3) := dk_167 255 195 (dk_at dksX8_readWish_7 0 rfl rfl)
theorem dX8_readWish_167 : decode cX8_readWish 167 = .ok (.aload_n 0, 1) := dk_42 (dk_at dksX8_readWish_7 3 rfl rfl)
theorem dX8_readWish_168 : decode cX8_readWish 168 = .ok (.getfield 24, 3) := dk_180 0 24 (dk_at dksX8_readWish_7 4 rfl rfl)
theorem dX8_readWish_171 : decode cX8_readWish 171 = .ok (.bipush 31, 2) := dk_16 31 (dk_at dksX8_readWish_7 7 rfl rfl)
theorem dX8_readWish_173 : decode cX8_readWish 173 = .ok (.iload_n 1, 1) := dk_27 (dk_at dksX8_readWish_7 9 rfl rfl)
theorem dX8_readWish_174 : decode cX8_readWish 174 = .ok (.iadd, 1) := dk_96 (dk_at dksX8_readWish_7 10 rfl rfl)
theorem dX8_readWish_175 : decode cX8_readWish 175 = .ok (.iload_n 3, 1) := dk_29 (dk_at dksX8_readWish_7 11 rfl rfl)
theorem dX8_readWish_176 : decode cX8_readWish 176 = .ok (.iastore, 1) := dk_79 (dk_at dksX8_readWish_7 12 rfl rfl)
theorem dX8_readWish_177 : decode cX8_readWish 177 = .ok (.aload_n 0, 1) := dk_42 (dk_at dksX8_readWish_7 13 rfl rfl)
theorem dX8_readWish_178 : decode cX8_readWish 178 = .ok (.getfield 24, 3) := dk_180 0 24 (dk_at dksX8_readWish_7 14 rfl rfl)
theorem dX8_readWish_181 : decode cX8_readWish 181 = .ok (.bipush 36, 2) := dk_16 36 (dk_at dksX8_readWish_7 17 rfl rfl)
theorem dX8_readWish_183 : decode cX8_readWish 183 = .ok (.iload_n 1, 1) := dk_27 (dk_at dksX8_readWish_7 19 rfl rfl)
theorem dX8_readWish_184 : decode cX8_readWish 184 = .ok (.iadd, 1) := dk_96 (dk_at dksX8_readWish_7 20 rfl rfl)
theorem dX8_readWish_185 : decode cX8_readWish 185 = .ok (.iload_n 2, 1) := dk_28 (dk_at dksX8_readWish_7 21 rfl rfl)
theorem dX8_readWish_186 : decode cX8_readWish 186 = .ok (.iastore, 1) := dk_79 (dk_at dksX8_readWish_7 22 rfl rfl)
theorem dX8_readWish_187 : decode cX8_readWish 187 = .ok (.return_, 1) := dk_177 (dk_at dksX8_readWish_7 23 rfl rfl)
abbrev cX8_readMust : ByteArray := prog_20_method_20_code
def yX8_readMust : MethodName := ⟨RX8, "readMust", "(I)V"⟩
def dkwX8_readMust_4 : List UInt8 := [180, 0, 24, 16, 56, 92, 46, 4, 96, 79, 177]
abbrev dktX8_readMust_4 : List UInt8 := dkwX8_readMust_4 ++ []
def dkwX8_readMust_3 : List UInt8 := [42, 180, 0, 24, 16, 63, 28, 96, 29, 79, 42, 180, 0, 24, 16, 69, 28, 96, 21, 4, 79, 42]
abbrev dktX8_readMust_3 : List UInt8 := dkwX8_readMust_3 ++ dktX8_readMust_4
def dkwX8_readMust_2 : List UInt8 := [6, 182, 0, 157, 54, 4, 42, 180, 0, 134, 153, 0, 4, 177, 42, 180, 0, 24, 16, 57, 28, 96, 27, 79]
abbrev dktX8_readMust_2 : List UInt8 := dkwX8_readMust_2 ++ dktX8_readMust_3
def dkwX8_readMust_1 : List UInt8 := [153, 0, 4, 177, 42, 182, 0, 143, 42, 3, 42, 180, 0, 24, 3, 46, 4, 100, 182, 0, 157, 62, 42, 3]
abbrev dktX8_readMust_1 : List UInt8 := dkwX8_readMust_1 ++ dktX8_readMust_2
def dkwX8_readMust_0 : List UInt8 := [42, 180, 0, 24, 16, 56, 46, 61, 28, 16, 6, 160, 0, 8, 42, 7, 182, 0, 149, 42, 180, 0, 134]
abbrev dktX8_readMust_0 : List UInt8 := dkwX8_readMust_0 ++ dktX8_readMust_1
theorem dksX8_readMust_0 : cX8_readMust.data.toList.drop 0 = dktX8_readMust_0 := by decide +kernel
theorem dksX8_readMust_1 : cX8_readMust.data.toList.drop 23 = dktX8_readMust_1 := dk_seg dksX8_readMust_0 23 rfl rfl
theorem dksX8_readMust_2 : cX8_readMust.data.toList.drop 47 = dktX8_readMust_2 := dk_seg dksX8_readMust_1 24 rfl rfl
theorem dksX8_readMust_3 : cX8_readMust.data.toList.drop 71 = dktX8_readMust_3 := dk_seg dksX8_readMust_2 24 rfl rfl
theorem dksX8_readMust_4 : cX8_readMust.data.toList.drop 93 = dktX8_readMust_4 := dk_seg dksX8_readMust_3 22 rfl rfl
theorem dX8_readMust_0 : decode cX8_readMust 0 = .ok (.aload_n 0, 1) := dk_42 (dk_at dksX8_readMust_0 0 rfl rfl)
theorem dX8_readMust_1 : decode cX8_readMust 1 = .ok (.getfield 24, 3) := dk_180 0 24 (dk_at dksX8_readMust_0 1 rfl rfl)
theorem dX8_readMust_4 : decode cX8_readMust 4 = .ok (.bipush 56, 2) := dk_16 56 (dk_at dksX8_readMust_0 4 rfl rfl)
theorem dX8_readMust_6 : decode cX8_readMust 6 = .ok (.iaload, 1) := dk_46 (dk_at dksX8_readMust_0 6 rfl rfl)
theorem dX8_readMust_7 : decode cX8_readMust 7 = .ok (.istore_n 2, 1) := dk_61 (dk_at dksX8_readMust_0 7 rfl rfl)
theorem dX8_readMust_8 : decode cX8_readMust 8 = .ok (.iload_n 2, 1) := dk_28 (dk_at dksX8_readMust_0 8 rfl rfl)
theorem dX8_readMust_9 : decode cX8_readMust 9 = .ok (.bipush 6, 2) := dk_16 6 (dk_at dksX8_readMust_0 9 rfl rfl)
theorem dX8_readMust_11 : decode cX8_readMust 11 = .ok (.if_icmp .ne 8, 3) := dk_160 0 8 (dk_at dksX8_readMust_0 11 rfl rfl)
theorem dX8_readMust_14 : decode cX8_readMust 14 = .ok (.aload_n 0, 1) := dk_42 (dk_at dksX8_readMust_0 14 rfl rfl)
theorem dX8_readMust_15 : decode cX8_readMust 15 = .ok (.iconst 4, 1) := dk_7 (dk_at dksX8_readMust_0 15 rfl rfl)
theorem dX8_readMust_16 : decode cX8_readMust 16 = .ok (.invokevirtual 149, 3) := dk_182 0 149 (dk_at dksX8_readMust_0 16 rfl rfl)
theorem dX8_readMust_19 : decode cX8_readMust 19 = .ok (.aload_n 0, 1) := dk_42 (dk_at dksX8_readMust_0 19 rfl rfl)
theorem dX8_readMust_20 : decode cX8_readMust 20 = .ok (.getfield 134, 3) := dk_180 0 134 (dk_at dksX8_readMust_0 20 rfl rfl)
theorem dX8_readMust_23 : decode cX8_readMust 23 = .ok (.ifCond .eq 4, 3) := dk_153 0 4 (dk_at dksX8_readMust_1 0 rfl rfl)
theorem dX8_readMust_26 : decode cX8_readMust 26 = .ok (.return_, 1) := dk_177 (dk_at dksX8_readMust_1 3 rfl rfl)
theorem dX8_readMust_27 : decode cX8_readMust 27 = .ok (.aload_n 0, 1) := dk_42 (dk_at dksX8_readMust_1 4 rfl rfl)
theorem dX8_readMust_28 : decode cX8_readMust 28 = .ok (.invokevirtual 143, 3) := dk_182 0 143 (dk_at dksX8_readMust_1 5 rfl rfl)
theorem dX8_readMust_31 : decode cX8_readMust 31 = .ok (.aload_n 0, 1) := dk_42 (dk_at dksX8_readMust_1 8 rfl rfl)
theorem dX8_readMust_32 : decode cX8_readMust 32 = .ok (.iconst 0, 1) := dk_3 (dk_at dksX8_readMust_1 9 rfl rfl)
theorem dX8_readMust_33 : decode cX8_readMust 33 = .ok (.aload_n 0, 1) := dk_42 (dk_at dksX8_readMust_1 10 rfl rfl)
theorem dX8_readMust_34 : decode cX8_readMust 34 = .ok (.getfield 24, 3) := dk_180 0 24 (dk_at dksX8_readMust_1 11 rfl rfl)
theorem dX8_readMust_37 : decode cX8_readMust 37 = .ok (.iconst 0, 1) := dk_3 (dk_at dksX8_readMust_1 14 rfl rfl)
theorem dX8_readMust_38 : decode cX8_readMust 38 = .ok (.iaload, 1) := dk_46 (dk_at dksX8_readMust_1 15 rfl rfl)
theorem dX8_readMust_39 : decode cX8_readMust 39 = .ok (.iconst 1, 1) := dk_4 (dk_at dksX8_readMust_1 16 rfl rfl)
theorem dX8_readMust_40 : decode cX8_readMust 40 = .ok (.isub, 1) := dk_100 (dk_at dksX8_readMust_1 17 rfl rfl)
theorem dX8_readMust_41 : decode cX8_readMust 41 = .ok (.invokevirtual 157, 3) := dk_182 0 157 (dk_at dksX8_readMust_1 18 rfl rfl)
theorem dX8_readMust_44 : decode cX8_readMust 44 = .ok (.istore_n 3, 1) := dk_62 (dk_at dksX8_readMust_1 21 rfl rfl)
theorem dX8_readMust_45 : decode cX8_readMust 45 = .ok (.aload_n 0, 1) := dk_42 (dk_at dksX8_readMust_1 22 rfl rfl)
theorem dX8_readMust_46 : decode cX8_readMust 46 = .ok (.iconst 0, 1) := dk_3 (dk_at dksX8_readMust_1 23 rfl rfl)
theorem dX8_readMust_47 : decode cX8_readMust 47 = .ok (.iconst 3, 1) := dk_6 (dk_at dksX8_readMust_2 0 rfl rfl)
theorem dX8_readMust_48 : decode cX8_readMust 48 = .ok (.invokevirtual 157, 3) := dk_182 0 157 (dk_at dksX8_readMust_2 1 rfl rfl)
theorem dX8_readMust_51 : decode cX8_readMust 51 = .ok (.istore 4, 2) := dk_54 4 (dk_at dksX8_readMust_2 4 rfl rfl)
theorem dX8_readMust_53 : decode cX8_readMust 53 = .ok (.aload_n 0, 1) := dk_42 (dk_at dksX8_readMust_2 6 rfl rfl)
theorem dX8_readMust_54 : decode cX8_readMust 54 = .ok (.getfield 134, 3) := dk_180 0 134 (dk_at dksX8_readMust_2 7 rfl rfl)
theorem dX8_readMust_57 : decode cX8_readMust 57 = .ok (.ifCond .eq 4, 3) := dk_153 0 4 (dk_at dksX8_readMust_2 10 rfl rfl)
theorem dX8_readMust_60 : decode cX8_readMust 60 = .ok (.return_, 1) := dk_177 (dk_at dksX8_readMust_2 13 rfl rfl)
theorem dX8_readMust_61 : decode cX8_readMust 61 = .ok (.aload_n 0, 1) := dk_42 (dk_at dksX8_readMust_2 14 rfl rfl)
theorem dX8_readMust_62 : decode cX8_readMust 62 = .ok (.getfield 24, 3) := dk_180 0 24 (dk_at dksX8_readMust_2 15 rfl rfl)
theorem dX8_readMust_65 : decode cX8_readMust 65 = .ok (.bipush 57, 2) := dk_16 57 (dk_at dksX8_readMust_2 18 rfl rfl)
theorem dX8_readMust_67 : decode cX8_readMust 67 = .ok (.iload_n 2, 1) := dk_28 (dk_at dksX8_readMust_2 20 rfl rfl)
theorem dX8_readMust_68 : decode cX8_readMust 68 = .ok (.iadd, 1) := dk_96 (dk_at dksX8_readMust_2 21 rfl rfl)
theorem dX8_readMust_69 : decode cX8_readMust 69 = .ok (.iload_n 1, 1) := dk_27 (dk_at dksX8_readMust_2 22 rfl rfl)
theorem dX8_readMust_70 : decode cX8_readMust 70 = .ok (.iastore, 1) := dk_79 (dk_at dksX8_readMust_2 23 rfl rfl)
theorem dX8_readMust_71 : decode cX8_readMust 71 = .ok (.aload_n 0, 1) := dk_42 (dk_at dksX8_readMust_3 0 rfl rfl)
theorem dX8_readMust_72 : decode cX8_readMust 72 = .ok (.getfield 24, 3) := dk_180 0 24 (dk_at dksX8_readMust_3 1 rfl rfl)
theorem dX8_readMust_75 : decode cX8_readMust 75 = .ok (.bipush 63, 2) := dk_16 63 (dk_at dksX8_readMust_3 4 rfl rfl)
theorem dX8_readMust_77 : decode cX8_readMust 77 = .ok (.iload_n 2, 1) := dk_28 (dk_at dksX8_readMust_3 6 rfl rfl)
theorem dX8_readMust_78 : decode cX8_readMust 78 = .ok (.iadd, 1) := dk_96 (dk_at dksX8_readMust_3 7 rfl rfl)
theorem dX8_readMust_79 : decode cX8_readMust 79 = .ok (.iload_n 3, 1) := dk_29 (dk_at dksX8_readMust_3 8 rfl rfl)
theorem dX8_readMust_80 : decode cX8_readMust 80 = .ok (.iastore, 1) := dk_79 (dk_at dksX8_readMust_3 9 rfl rfl)
theorem dX8_readMust_81 : decode cX8_readMust 81 = .ok (.aload_n 0, 1) := dk_42 (dk_at dksX8_readMust_3 10 rfl rfl)
theorem dX8_readMust_82 : decode cX8_readMust 82 = .ok (.getfield 24, 3) := dk_180 0 24 (dk_at dksX8_readMust_3 11 rfl rfl)
theorem dX8_readMust_85 : decode cX8_readMust 85 = .ok (.bipush 69, 2) := dk_16 69 (dk_at dksX8_readMust_3 14 rfl rfl)
theorem dX8_readMust_87 : decode cX8_readMust 87 = .ok (.iload_n 2, 1) := dk_28 (dk_at dksX8_readMust_3 16 rfl rfl)
theorem dX8_readMust_88 : decode cX8_readMust 88 = .ok (.iadd, 1) := dk_96 (dk_at dksX8_readMust_3 17 rfl rfl)
theorem dX8_readMust_89 : decode cX8_readMust 89 = .ok (.iload 4, 2) := dk_21 4 (dk_at dksX8_readMust_3 18 rfl rfl)
theorem dX8_readMust_91 : decode cX8_readMust 91 = .ok (.iastore, 1) := dk_79 (dk_at dksX8_readMust_3 20 rfl rfl)
theorem dX8_readMust_92 : decode cX8_readMust 92 = .ok (.aload_n 0, 1) := dk_42 (dk_at dksX8_readMust_3 21 rfl rfl)
theorem dX8_readMust_93 : decode cX8_readMust 93 = .ok (.getfield 24, 3) := dk_180 0 24 (dk_at dksX8_readMust_4 0 rfl rfl)
theorem dX8_readMust_96 : decode cX8_readMust 96 = .ok (.bipush 56, 2) := dk_16 56 (dk_at dksX8_readMust_4 3 rfl rfl)
theorem dX8_readMust_98 : decode cX8_readMust 98 = .ok (.dup2, 1) := dk_92 (dk_at dksX8_readMust_4 5 rfl rfl)
theorem dX8_readMust_99 : decode cX8_readMust 99 = .ok (.iaload, 1) := dk_46 (dk_at dksX8_readMust_4 6 rfl rfl)
theorem dX8_readMust_100 : decode cX8_readMust 100 = .ok (.iconst 1, 1) := dk_4 (dk_at dksX8_readMust_4 7 rfl rfl)
theorem dX8_readMust_101 : decode cX8_readMust 101 = .ok (.iadd, 1) := dk_96 (dk_at dksX8_readMust_4 8 rfl rfl)
theorem dX8_readMust_102 : decode cX8_readMust 102 = .ok (.iastore, 1) := dk_79 (dk_at dksX8_readMust_4 9 rfl rfl)
theorem dX8_readMust_103 : decode cX8_readMust 103 = .ok (.return_, 1) := dk_177 (dk_at dksX8_readMust_4 10 rfl rfl)
abbrev cX8_readBar : ByteArray := prog_20_method_26_code
def yX8_readBar : MethodName := ⟨RX8, "readBar", "()V"⟩
def dkwX8_readBar_4 : List UInt8 := [180, 0, 24, 16, 114, 92, 46, 4, 96, 79, 177]
abbrev dktX8_readBar_4 : List UInt8 := dkwX8_readBar_4 ++ []
def dkwX8_readBar_3 : List UInt8 := [182, 0, 195, 42, 180, 0, 24, 16, 123, 27, 96, 42, 180, 0, 179, 79, 42, 16, 26, 182, 0, 161, 42]
abbrev dktX8_readBar_3 : List UInt8 := dkwX8_readBar_3 ++ dktX8_readBar_4
def dkwX8_readBar_2 : List UInt8 := [182, 0, 143, 42, 16, 15, 182, 0, 161, 42, 180, 0, 24, 16, 115, 27, 96, 42, 180, 0, 179, 79, 42]
abbrev dktX8_readBar_2 : List UInt8 := dkwX8_readBar_2 ++ dktX8_readBar_3
def dkwX8_readBar_1 : List UInt8 := [167, 0, 14, 27, 16, 8, 160, 0, 8, 42, 7, 182, 0, 149, 42, 180, 0, 134, 153, 0, 4, 177, 42]
abbrev dktX8_readBar_1 : List UInt8 := dkwX8_readBar_1 ++ dktX8_readBar_2
def dkwX8_readBar_0 : List UInt8 := [42, 180, 0, 24, 16, 114, 46, 60, 42, 16, 14, 182, 0, 140, 154, 0, 11, 42, 5, 182, 0, 149]
abbrev dktX8_readBar_0 : List UInt8 := dkwX8_readBar_0 ++ dktX8_readBar_1
theorem dksX8_readBar_0 : cX8_readBar.data.toList.drop 0 = dktX8_readBar_0 := by decide +kernel
theorem dksX8_readBar_1 : cX8_readBar.data.toList.drop 22 = dktX8_readBar_1 := dk_seg dksX8_readBar_0 22 rfl rfl
theorem dksX8_readBar_2 : cX8_readBar.data.toList.drop 45 = dktX8_readBar_2 := dk_seg dksX8_readBar_1 23 rfl rfl
theorem dksX8_readBar_3 : cX8_readBar.data.toList.drop 68 = dktX8_readBar_3 := dk_seg dksX8_readBar_2 23 rfl rfl
theorem dksX8_readBar_4 : cX8_readBar.data.toList.drop 91 = dktX8_readBar_4 := dk_seg dksX8_readBar_3 23 rfl rfl
theorem dX8_readBar_0 : decode cX8_readBar 0 = .ok (.aload_n 0, 1) := dk_42 (dk_at dksX8_readBar_0 0 rfl rfl)
theorem dX8_readBar_1 : decode cX8_readBar 1 = .ok (.getfield 24, 3) := dk_180 0 24 (dk_at dksX8_readBar_0 1 rfl rfl)
theorem dX8_readBar_4 : decode cX8_readBar 4 = .ok (.bipush 114, 2) := dk_16 114 (dk_at dksX8_readBar_0 4 rfl rfl)
theorem dX8_readBar_6 : decode cX8_readBar 6 = .ok (.iaload, 1) := dk_46 (dk_at dksX8_readBar_0 6 rfl rfl)
theorem dX8_readBar_7 : decode cX8_readBar 7 = .ok (.istore_n 1, 1) := dk_60 (dk_at dksX8_readBar_0 7 rfl rfl)
theorem dX8_readBar_8 : decode cX8_readBar 8 = .ok (.aload_n 0, 1) := dk_42 (dk_at dksX8_readBar_0 8 rfl rfl)
theorem dX8_readBar_9 : decode cX8_readBar 9 = .ok (.bipush 14, 2) := dk_16 14 (dk_at dksX8_readBar_0 9 rfl rfl)
theorem dX8_readBar_11 : decode cX8_readBar 11 = .ok (.invokevirtual 140, 3) := dk_182 0 140 (dk_at dksX8_readBar_0 11 rfl rfl)
theorem dX8_readBar_14 : decode cX8_readBar 14 = .ok (.ifCond .ne 11, 3) := dk_154 0 11 (dk_at dksX8_readBar_0 14 rfl rfl)
theorem dX8_readBar_17 : decode cX8_readBar 17 = .ok (.aload_n 0, 1) := dk_42 (dk_at dksX8_readBar_0 17 rfl rfl)
theorem dX8_readBar_18 : decode cX8_readBar 18 = .ok (.iconst 2, 1) := dk_5 (dk_at dksX8_readBar_0 18 rfl rfl)
theorem dX8_readBar_19 : decode cX8_readBar 19 = .ok (.invokevirtual 149, 3) := dk_182 0 149 (dk_at dksX8_readBar_0 19 rfl rfl)
theorem dX8_readBar_22 : decode cX8_readBar 22 = .ok (.goto 14, 3) := dk_167 0 14 (dk_at dksX8_readBar_1 0 rfl rfl)
theorem dX8_readBar_25 : decode cX8_readBar 25 = .ok (.iload_n 1, 1) := dk_27 (dk_at dksX8_readBar_1 3 rfl rfl)
theorem dX8_readBar_26 : decode cX8_readBar 26 = .ok (.bipush 8, 2) := dk_16 8 (dk_at dksX8_readBar_1 4 rfl rfl)
theorem dX8_readBar_28 : decode cX8_readBar 28 = .ok (.if_icmp .ne 8, 3) := dk_160 0 8 (dk_at dksX8_readBar_1 6 rfl rfl)
theorem dX8_readBar_31 : decode cX8_readBar 31 = .ok (.aload_n 0, 1) := dk_42 (dk_at dksX8_readBar_1 9 rfl rfl)
theorem dX8_readBar_32 : decode cX8_readBar 32 = .ok (.iconst 4, 1) := dk_7 (dk_at dksX8_readBar_1 10 rfl rfl)
theorem dX8_readBar_33 : decode cX8_readBar 33 = .ok (.invokevirtual 149, 3) := dk_182 0 149 (dk_at dksX8_readBar_1 11 rfl rfl)
theorem dX8_readBar_36 : decode cX8_readBar 36 = .ok (.aload_n 0, 1) := dk_42 (dk_at dksX8_readBar_1 14 rfl rfl)
theorem dX8_readBar_37 : decode cX8_readBar 37 = .ok (.getfield 134, 3) := dk_180 0 134 (dk_at dksX8_readBar_1 15 rfl rfl)
theorem dX8_readBar_40 : decode cX8_readBar 40 = .ok (.ifCond .eq 4, 3) := dk_153 0 4 (dk_at dksX8_readBar_1 18 rfl rfl)
theorem dX8_readBar_43 : decode cX8_readBar 43 = .ok (.return_, 1) := dk_177 (dk_at dksX8_readBar_1 21 rfl rfl)
theorem dX8_readBar_44 : decode cX8_readBar 44 = .ok (.aload_n 0, 1) := dk_42 (dk_at dksX8_readBar_1 22 rfl rfl)
theorem dX8_readBar_45 : decode cX8_readBar 45 = .ok (.invokevirtual 143, 3) := dk_182 0 143 (dk_at dksX8_readBar_2 0 rfl rfl)
theorem dX8_readBar_48 : decode cX8_readBar 48 = .ok (.aload_n 0, 1) := dk_42 (dk_at dksX8_readBar_2 3 rfl rfl)
theorem dX8_readBar_49 : decode cX8_readBar 49 = .ok (.bipush 15, 2) := dk_16 15 (dk_at dksX8_readBar_2 4 rfl rfl)
theorem dX8_readBar_51 : decode cX8_readBar 51 = .ok (.invokevirtual 161, 3) := dk_182 0 161 (dk_at dksX8_readBar_2 6 rfl rfl)
theorem dX8_readBar_54 : decode cX8_readBar 54 = .ok (.aload_n 0, 1) := dk_42 (dk_at dksX8_readBar_2 9 rfl rfl)
theorem dX8_readBar_55 : decode cX8_readBar 55 = .ok (.getfield 24, 3) := dk_180 0 24 (dk_at dksX8_readBar_2 10 rfl rfl)
theorem dX8_readBar_58 : decode cX8_readBar 58 = .ok (.bipush 115, 2) := dk_16 115 (dk_at dksX8_readBar_2 13 rfl rfl)
theorem dX8_readBar_60 : decode cX8_readBar 60 = .ok (.iload_n 1, 1) := dk_27 (dk_at dksX8_readBar_2 15 rfl rfl)
theorem dX8_readBar_61 : decode cX8_readBar 61 = .ok (.iadd, 1) := dk_96 (dk_at dksX8_readBar_2 16 rfl rfl)
theorem dX8_readBar_62 : decode cX8_readBar 62 = .ok (.aload_n 0, 1) := dk_42 (dk_at dksX8_readBar_2 17 rfl rfl)
theorem dX8_readBar_63 : decode cX8_readBar 63 = .ok (.getfield 179, 3) := dk_180 0 179 (dk_at dksX8_readBar_2 18 rfl rfl)
theorem dX8_readBar_66 : decode cX8_readBar 66 = .ok (.iastore, 1) := dk_79 (dk_at dksX8_readBar_2 21 rfl rfl)
theorem dX8_readBar_67 : decode cX8_readBar 67 = .ok (.aload_n 0, 1) := dk_42 (dk_at dksX8_readBar_2 22 rfl rfl)
theorem dX8_readBar_68 : decode cX8_readBar 68 = .ok (.invokevirtual 195, 3) := dk_182 0 195 (dk_at dksX8_readBar_3 0 rfl rfl)
theorem dX8_readBar_71 : decode cX8_readBar 71 = .ok (.aload_n 0, 1) := dk_42 (dk_at dksX8_readBar_3 3 rfl rfl)
theorem dX8_readBar_72 : decode cX8_readBar 72 = .ok (.getfield 24, 3) := dk_180 0 24 (dk_at dksX8_readBar_3 4 rfl rfl)
theorem dX8_readBar_75 : decode cX8_readBar 75 = .ok (.bipush 123, 2) := dk_16 123 (dk_at dksX8_readBar_3 7 rfl rfl)
theorem dX8_readBar_77 : decode cX8_readBar 77 = .ok (.iload_n 1, 1) := dk_27 (dk_at dksX8_readBar_3 9 rfl rfl)
theorem dX8_readBar_78 : decode cX8_readBar 78 = .ok (.iadd, 1) := dk_96 (dk_at dksX8_readBar_3 10 rfl rfl)
theorem dX8_readBar_79 : decode cX8_readBar 79 = .ok (.aload_n 0, 1) := dk_42 (dk_at dksX8_readBar_3 11 rfl rfl)
theorem dX8_readBar_80 : decode cX8_readBar 80 = .ok (.getfield 179, 3) := dk_180 0 179 (dk_at dksX8_readBar_3 12 rfl rfl)
theorem dX8_readBar_83 : decode cX8_readBar 83 = .ok (.iastore, 1) := dk_79 (dk_at dksX8_readBar_3 15 rfl rfl)
theorem dX8_readBar_84 : decode cX8_readBar 84 = .ok (.aload_n 0, 1) := dk_42 (dk_at dksX8_readBar_3 16 rfl rfl)
theorem dX8_readBar_85 : decode cX8_readBar 85 = .ok (.bipush 26, 2) := dk_16 26 (dk_at dksX8_readBar_3 17 rfl rfl)
theorem dX8_readBar_87 : decode cX8_readBar 87 = .ok (.invokevirtual 161, 3) := dk_182 0 161 (dk_at dksX8_readBar_3 19 rfl rfl)
theorem dX8_readBar_90 : decode cX8_readBar 90 = .ok (.aload_n 0, 1) := dk_42 (dk_at dksX8_readBar_3 22 rfl rfl)
theorem dX8_readBar_91 : decode cX8_readBar 91 = .ok (.getfield 24, 3) := dk_180 0 24 (dk_at dksX8_readBar_4 0 rfl rfl)
theorem dX8_readBar_94 : decode cX8_readBar 94 = .ok (.bipush 114, 2) := dk_16 114 (dk_at dksX8_readBar_4 3 rfl rfl)
theorem dX8_readBar_96 : decode cX8_readBar 96 = .ok (.dup2, 1) := dk_92 (dk_at dksX8_readBar_4 5 rfl rfl)
theorem dX8_readBar_97 : decode cX8_readBar 97 = .ok (.iaload, 1) := dk_46 (dk_at dksX8_readBar_4 6 rfl rfl)
theorem dX8_readBar_98 : decode cX8_readBar 98 = .ok (.iconst 1, 1) := dk_4 (dk_at dksX8_readBar_4 7 rfl rfl)
theorem dX8_readBar_99 : decode cX8_readBar 99 = .ok (.iadd, 1) := dk_96 (dk_at dksX8_readBar_4 8 rfl rfl)
theorem dX8_readBar_100 : decode cX8_readBar 100 = .ok (.iastore, 1) := dk_79 (dk_at dksX8_readBar_4 9 rfl rfl)
theorem dX8_readBar_101 : decode cX8_readBar 101 = .ok (.return_, 1) := dk_177 (dk_at dksX8_readBar_4 10 rfl rfl)
abbrev cX8_readTest : ByteArray := prog_20_method_23_code
def yX8_readTest : MethodName := ⟨RX8, "readTest", "()V"⟩
def dkwX8_readTest_1 : List UInt8 := [42, 16, 16, 3, 182, 0, 185, 167, 255, 229, 177]
abbrev dktX8_readTest_1 : List UInt8 := dkwX8_readTest_1 ++ []
def dkwX8_readTest_0 : List UInt8 := [42, 182, 0, 182, 42, 16, 16, 182, 0, 146, 153, 0, 24, 42, 182, 0, 182, 42, 180, 0, 134, 154, 255, 239]
abbrev dktX8_readTest_0 : List UInt8 := dkwX8_readTest_0 ++ dktX8_readTest_1
theorem dksX8_readTest_0 : cX8_readTest.data.toList.drop 0 = dktX8_readTest_0 := by decide +kernel
theorem dksX8_readTest_1 : cX8_readTest.data.toList.drop 24 = dktX8_readTest_1 := dk_seg dksX8_readTest_0 24 rfl rfl
theorem dX8_readTest_0 : decode cX8_readTest 0 = .ok (.aload_n 0, 1) := dk_42 (dk_at dksX8_readTest_0 0 rfl rfl)
theorem dX8_readTest_1 : decode cX8_readTest 1 = .ok (.invokevirtual 182, 3) := dk_182 0 182 (dk_at dksX8_readTest_0 1 rfl rfl)
theorem dX8_readTest_4 : decode cX8_readTest 4 = .ok (.aload_n 0, 1) := dk_42 (dk_at dksX8_readTest_0 4 rfl rfl)
theorem dX8_readTest_5 : decode cX8_readTest 5 = .ok (.bipush 16, 2) := dk_16 16 (dk_at dksX8_readTest_0 5 rfl rfl)
theorem dX8_readTest_7 : decode cX8_readTest 7 = .ok (.invokevirtual 146, 3) := dk_182 0 146 (dk_at dksX8_readTest_0 7 rfl rfl)
theorem dX8_readTest_10 : decode cX8_readTest 10 = .ok (.ifCond .eq 24, 3) := dk_153 0 24 (dk_at dksX8_readTest_0 10 rfl rfl)
theorem dX8_readTest_13 : decode cX8_readTest 13 = .ok (.aload_n 0, 1) := dk_42 (dk_at dksX8_readTest_0 13 rfl rfl)
theorem dX8_readTest_14 : decode cX8_readTest 14 = .ok (.invokevirtual 182, 3) := dk_182 0 182 (dk_at dksX8_readTest_0 14 rfl rfl)
theorem dX8_readTest_17 : decode cX8_readTest 17 = .ok (.aload_n 0, 1) := dk_42 (dk_at dksX8_readTest_0 17 rfl rfl)
theorem dX8_readTest_18 : decode cX8_readTest 18 = .ok (.getfield 134, 3) := dk_180 0 134 (dk_at dksX8_readTest_0 18 rfl rfl)
theorem dX8_readTest_21 : decode cX8_readTest 21 = .ok (.ifCond .ne (-17), 3) := dk_154 255 239 (dk_at dksX8_readTest_0 21 rfl rfl)
theorem dX8_readTest_24 : decode cX8_readTest 24 = .ok (.aload_n 0, 1) := dk_42 (dk_at dksX8_readTest_1 0 rfl rfl)
theorem dX8_readTest_25 : decode cX8_readTest 25 = .ok (.bipush 16, 2) := dk_16 16 (dk_at dksX8_readTest_1 1 rfl rfl)
theorem dX8_readTest_27 : decode cX8_readTest 27 = .ok (.iconst 0, 1) := dk_3 (dk_at dksX8_readTest_1 3 rfl rfl)
theorem dX8_readTest_28 : decode cX8_readTest 28 = .ok (.invokevirtual 185, 3) := dk_182 0 185 (dk_at dksX8_readTest_1 4 rfl rfl)
theorem dX8_readTest_31 : decode cX8_readTest 31 = .ok (.goto (-27), 3) := dk_167 255 229 (dk_at dksX8_readTest_1 7 rfl rfl)
theorem dX8_readTest_34 : decode cX8_readTest 34 = .ok (.return_, 1) := dk_177 (dk_at dksX8_readTest_1 10 rfl rfl)
abbrev cX8_readPart : ByteArray := prog_20_method_24_code
def yX8_readPart : MethodName := ⟨RX8, "readPart", "()V"⟩
def dkwX8_readPart_1 : List UInt8 := [42, 16, 17, 3, 182, 0, 185, 167, 255, 229, 177]
abbrev dktX8_readPart_1 : List UInt8 := dkwX8_readPart_1 ++ []
def dkwX8_readPart_0 : List UInt8 := [42, 182, 0, 189, 42, 16, 17, 182, 0, 146, 153, 0, 24, 42, 182, 0, 189, 42, 180, 0, 134, 154, 255, 239]
abbrev dktX8_readPart_0 : List UInt8 := dkwX8_readPart_0 ++ dktX8_readPart_1
theorem dksX8_readPart_0 : cX8_readPart.data.toList.drop 0 = dktX8_readPart_0 := by decide +kernel
theorem dksX8_readPart_1 : cX8_readPart.data.toList.drop 24 = dktX8_readPart_1 := dk_seg dksX8_readPart_0 24 rfl rfl
theorem dX8_readPart_0 : decode cX8_readPart 0 = .ok (.aload_n 0, 1) := dk_42 (dk_at dksX8_readPart_0 0 rfl rfl)
theorem dX8_readPart_1 : decode cX8_readPart 1 = .ok (.invokevirtual 189, 3) := dk_182 0 189 (dk_at dksX8_readPart_0 1 rfl rfl)
theorem dX8_readPart_4 : decode cX8_readPart 4 = .ok (.aload_n 0, 1) := dk_42 (dk_at dksX8_readPart_0 4 rfl rfl)
theorem dX8_readPart_5 : decode cX8_readPart 5 = .ok (.bipush 17, 2) := dk_16 17 (dk_at dksX8_readPart_0 5 rfl rfl)
theorem dX8_readPart_7 : decode cX8_readPart 7 = .ok (.invokevirtual 146, 3) := dk_182 0 146 (dk_at dksX8_readPart_0 7 rfl rfl)
theorem dX8_readPart_10 : decode cX8_readPart 10 = .ok (.ifCond .eq 24, 3) := dk_153 0 24 (dk_at dksX8_readPart_0 10 rfl rfl)
theorem dX8_readPart_13 : decode cX8_readPart 13 = .ok (.aload_n 0, 1) := dk_42 (dk_at dksX8_readPart_0 13 rfl rfl)
theorem dX8_readPart_14 : decode cX8_readPart 14 = .ok (.invokevirtual 189, 3) := dk_182 0 189 (dk_at dksX8_readPart_0 14 rfl rfl)
theorem dX8_readPart_17 : decode cX8_readPart 17 = .ok (.aload_n 0, 1) := dk_42 (dk_at dksX8_readPart_0 17 rfl rfl)
theorem dX8_readPart_18 : decode cX8_readPart 18 = .ok (.getfield 134, 3) := dk_180 0 134 (dk_at dksX8_readPart_0 18 rfl rfl)
theorem dX8_readPart_21 : decode cX8_readPart 21 = .ok (.ifCond .ne (-17), 3) := dk_154 255 239 (dk_at dksX8_readPart_0 21 rfl rfl)
theorem dX8_readPart_24 : decode cX8_readPart 24 = .ok (.aload_n 0, 1) := dk_42 (dk_at dksX8_readPart_1 0 rfl rfl)
theorem dX8_readPart_25 : decode cX8_readPart 25 = .ok (.bipush 17, 2) := dk_16 17 (dk_at dksX8_readPart_1 1 rfl rfl)
theorem dX8_readPart_27 : decode cX8_readPart 27 = .ok (.iconst 0, 1) := dk_3 (dk_at dksX8_readPart_1 3 rfl rfl)
theorem dX8_readPart_28 : decode cX8_readPart 28 = .ok (.invokevirtual 185, 3) := dk_182 0 185 (dk_at dksX8_readPart_1 4 rfl rfl)
theorem dX8_readPart_31 : decode cX8_readPart 31 = .ok (.goto (-27), 3) := dk_167 255 229 (dk_at dksX8_readPart_1 7 rfl rfl)
theorem dX8_readPart_34 : decode cX8_readPart 34 = .ok (.return_, 1) := dk_177 (dk_at dksX8_readPart_1 10 rfl rfl)
abbrev cX8_readFact : ByteArray := prog_20_method_25_code
def yX8_readFact : MethodName := ⟨RX8, "readFact", "()V"⟩
def dkwX8_readFact_10 : List UInt8 := [182, 0, 185, 177]
abbrev dktX8_readFact_10 : List UInt8 := dkwX8_readFact_10 ++ []
def dkwX8_readFact_9 : List UInt8 := [182, 0, 157, 167, 0, 9, 42, 3, 7, 182, 0, 157, 61, 42, 180, 0, 134, 154, 0, 9, 42, 27, 28]
abbrev dktX8_readFact_9 : List UInt8 := dkwX8_readFact_9 ++ dktX8_readFact_10
def dkwX8_readFact_8 : List UInt8 := [16, 22, 160, 0, 12, 42, 3, 5, 182, 0, 157, 167, 0, 24, 27, 16, 23, 160, 0, 12, 42, 3, 6]
abbrev dktX8_readFact_8 : List UInt8 := dkwX8_readFact_8 ++ dktX8_readFact_9
def dkwX8_readFact_7 : List UInt8 := [16, 7, 182, 0, 157, 167, 0, 54, 27, 5, 160, 0, 13, 42, 4, 16, 9, 182, 0, 157, 167, 0, 39, 27]
abbrev dktX8_readFact_7 : List UInt8 := dkwX8_readFact_7 ++ dktX8_readFact_8
def dkwX8_readFact_6 : List UInt8 := [5, 182, 0, 149, 42, 180, 0, 134, 153, 0, 4, 177, 42, 182, 0, 143, 27, 16, 19, 160, 0, 13, 42, 3]
abbrev dktX8_readFact_6 : List UInt8 := dkwX8_readFact_6 ++ dktX8_readFact_7
def dkwX8_readFact_5 : List UInt8 := [182, 0, 185, 177, 27, 5, 159, 0, 22, 27, 133, 20, 0, 198, 20, 0, 200, 184, 0, 153, 154, 0, 8, 42]
abbrev dktX8_readFact_5 : List UInt8 := dkwX8_readFact_5 ++ dktX8_readFact_6
def dkwX8_readFact_4 : List UInt8 := [160, 0, 12, 42, 16, 28, 182, 0, 161, 167, 0, 17, 42, 180, 0, 134, 154, 0, 10, 42, 16, 18, 3]
abbrev dktX8_readFact_4 : List UInt8 := dkwX8_readFact_4 ++ dktX8_readFact_5
def dkwX8_readFact_3 : List UInt8 := [182, 0, 189, 167, 0, 7, 42, 182, 0, 195, 42, 89, 180, 0, 192, 4, 100, 181, 0, 192, 27, 16, 27]
abbrev dktX8_readFact_3 : List UInt8 := dkwX8_readFact_3 ++ dktX8_readFact_4
def dkwX8_readFact_2 : List UInt8 := [177, 42, 182, 0, 143, 42, 89, 180, 0, 192, 4, 96, 181, 0, 192, 27, 16, 18, 160, 0, 10, 42]
abbrev dktX8_readFact_2 : List UInt8 := dkwX8_readFact_2 ++ dktX8_readFact_3
def dkwX8_readFact_1 : List UInt8 := [160, 0, 96, 42, 180, 0, 192, 16, 8, 160, 0, 8, 42, 8, 182, 0, 149, 42, 180, 0, 134, 153, 0, 4]
abbrev dktX8_readFact_1 : List UInt8 := dkwX8_readFact_1 ++ dktX8_readFact_2
def dkwX8_readFact_0 : List UInt8 := [42, 180, 0, 134, 153, 0, 4, 177, 42, 180, 0, 118, 60, 27, 16, 18, 159, 0, 9, 27, 16, 27]
abbrev dktX8_readFact_0 : List UInt8 := dkwX8_readFact_0 ++ dktX8_readFact_1
theorem dksX8_readFact_0 : cX8_readFact.data.toList.drop 0 = dktX8_readFact_0 := by decide +kernel
theorem dksX8_readFact_1 : cX8_readFact.data.toList.drop 22 = dktX8_readFact_1 := dk_seg dksX8_readFact_0 22 rfl rfl
theorem dksX8_readFact_2 : cX8_readFact.data.toList.drop 46 = dktX8_readFact_2 := dk_seg dksX8_readFact_1 24 rfl rfl
theorem dksX8_readFact_3 : cX8_readFact.data.toList.drop 68 = dktX8_readFact_3 := dk_seg dksX8_readFact_2 22 rfl rfl
theorem dksX8_readFact_4 : cX8_readFact.data.toList.drop 91 = dktX8_readFact_4 := dk_seg dksX8_readFact_3 23 rfl rfl
theorem dksX8_readFact_5 : cX8_readFact.data.toList.drop 114 = dktX8_readFact_5 := dk_seg dksX8_readFact_4 23 rfl rfl
theorem dksX8_readFact_6 : cX8_readFact.data.toList.drop 138 = dktX8_readFact_6 := dk_seg dksX8_readFact_5 24 rfl rfl
theorem dksX8_readFact_7 : cX8_readFact.data.toList.drop 162 = dktX8_readFact_7 := dk_seg dksX8_readFact_6 24 rfl rfl
theorem dksX8_readFact_8 : cX8_readFact.data.toList.drop 186 = dktX8_readFact_8 := dk_seg dksX8_readFact_7 24 rfl rfl
theorem dksX8_readFact_9 : cX8_readFact.data.toList.drop 209 = dktX8_readFact_9 := dk_seg dksX8_readFact_8 23 rfl rfl
theorem dksX8_readFact_10 : cX8_readFact.data.toList.drop 232 = dktX8_readFact_10 := dk_seg dksX8_readFact_9 23 rfl rfl
theorem dX8_readFact_0 : decode cX8_readFact 0 = .ok (.aload_n 0, 1) := dk_42 (dk_at dksX8_readFact_0 0 rfl rfl)
theorem dX8_readFact_1 : decode cX8_readFact 1 = .ok (.getfield 134, 3) := dk_180 0 134 (dk_at dksX8_readFact_0 1 rfl rfl)
theorem dX8_readFact_4 : decode cX8_readFact 4 = .ok (.ifCond .eq 4, 3) := dk_153 0 4 (dk_at dksX8_readFact_0 4 rfl rfl)
theorem dX8_readFact_7 : decode cX8_readFact 7 = .ok (.return_, 1) := dk_177 (dk_at dksX8_readFact_0 7 rfl rfl)
theorem dX8_readFact_8 : decode cX8_readFact 8 = .ok (.aload_n 0, 1) := dk_42 (dk_at dksX8_readFact_0 8 rfl rfl)
theorem dX8_readFact_9 : decode cX8_readFact 9 = .ok (.getfield 118, 3) := dk_180 0 118 (dk_at dksX8_readFact_0 9 rfl rfl)
theorem dX8_readFact_12 : decode cX8_readFact 12 = .ok (.istore_n 1, 1) := dk_60 (dk_at dksX8_readFact_0 12 rfl rfl)
theorem dX8_readFact_13 : decode cX8_readFact 13 = .ok (.iload_n 1, 1) := dk_27 (dk_at dksX8_readFact_0 13 rfl rfl)
theorem dX8_readFact_14 : decode cX8_readFact 14 = .ok (.bipush 18, 2) := dk_16 18 (dk_at dksX8_readFact_0 14 rfl rfl)
theorem dX8_readFact_16 : decode cX8_readFact 16 = .ok (.if_icmp .eq 9, 3) := dk_159 0 9 (dk_at dksX8_readFact_0 16 rfl rfl)
theorem dX8_readFact_19 : decode cX8_readFact 19 = .ok (.iload_n 1, 1) := dk_27 (dk_at dksX8_readFact_0 19 rfl rfl)
theorem dX8_readFact_20 : decode cX8_readFact 20 = .ok (.bipush 27, 2) := dk_16 27 (dk_at dksX8_readFact_0 20 rfl rfl)
theorem dX8_readFact_22 : decode cX8_readFact 22 = .ok (.if_icmp .ne 96, 3) := dk_160 0 96 (dk_at dksX8_readFact_1 0 rfl rfl)
theorem dX8_readFact_25 : decode cX8_readFact 25 = .ok (.aload_n 0, 1) := dk_42 (dk_at dksX8_readFact_1 3 rfl rfl)
theorem dX8_readFact_26 : decode cX8_readFact 26 = .ok (.getfield 192, 3) := dk_180 0 192 (dk_at dksX8_readFact_1 4 rfl rfl)
theorem dX8_readFact_29 : decode cX8_readFact 29 = .ok (.bipush 8, 2) := dk_16 8 (dk_at dksX8_readFact_1 7 rfl rfl)
theorem dX8_readFact_31 : decode cX8_readFact 31 = .ok (.if_icmp .ne 8, 3) := dk_160 0 8 (dk_at dksX8_readFact_1 9 rfl rfl)
theorem dX8_readFact_34 : decode cX8_readFact 34 = .ok (.aload_n 0, 1) := dk_42 (dk_at dksX8_readFact_1 12 rfl rfl)
theorem dX8_readFact_35 : decode cX8_readFact 35 = .ok (.iconst 5, 1) := dk_8 (dk_at dksX8_readFact_1 13 rfl rfl)
theorem dX8_readFact_36 : decode cX8_readFact 36 = .ok (.invokevirtual 149, 3) := dk_182 0 149 (dk_at dksX8_readFact_1 14 rfl rfl)
theorem dX8_readFact_39 : decode cX8_readFact 39 = .ok (.aload_n 0, 1) := dk_42 (dk_at dksX8_readFact_1 17 rfl rfl)
theorem dX8_readFact_40 : decode cX8_readFact 40 = .ok (.getfield 134, 3) := dk_180 0 134 (dk_at dksX8_readFact_1 18 rfl rfl)
theorem dX8_readFact_43 : decode cX8_readFact 43 = .ok (.ifCond .eq 4, 3) := dk_153 0 4 (dk_at dksX8_readFact_1 21 rfl rfl)
theorem dX8_readFact_46 : decode cX8_readFact 46 = .ok (.return_, 1) := dk_177 (dk_at dksX8_readFact_2 0 rfl rfl)
theorem dX8_readFact_47 : decode cX8_readFact 47 = .ok (.aload_n 0, 1) := dk_42 (dk_at dksX8_readFact_2 1 rfl rfl)
theorem dX8_readFact_48 : decode cX8_readFact 48 = .ok (.invokevirtual 143, 3) := dk_182 0 143 (dk_at dksX8_readFact_2 2 rfl rfl)
theorem dX8_readFact_51 : decode cX8_readFact 51 = .ok (.aload_n 0, 1) := dk_42 (dk_at dksX8_readFact_2 5 rfl rfl)
theorem dX8_readFact_52 : decode cX8_readFact 52 = .ok (.dup, 1) := dk_89 (dk_at dksX8_readFact_2 6 rfl rfl)
theorem dX8_readFact_53 : decode cX8_readFact 53 = .ok (.getfield 192, 3) := dk_180 0 192 (dk_at dksX8_readFact_2 7 rfl rfl)
theorem dX8_readFact_56 : decode cX8_readFact 56 = .ok (.iconst 1, 1) := dk_4 (dk_at dksX8_readFact_2 10 rfl rfl)
theorem dX8_readFact_57 : decode cX8_readFact 57 = .ok (.iadd, 1) := dk_96 (dk_at dksX8_readFact_2 11 rfl rfl)
theorem dX8_readFact_58 : decode cX8_readFact 58 = .ok (.putfield 192, 3) := dk_181 0 192 (dk_at dksX8_readFact_2 12 rfl rfl)
theorem dX8_readFact_61 : decode cX8_readFact 61 = .ok (.iload_n 1, 1) := dk_27 (dk_at dksX8_readFact_2 15 rfl rfl)
theorem dX8_readFact_62 : decode cX8_readFact 62 = .ok (.bipush 18, 2) := dk_16 18 (dk_at dksX8_readFact_2 16 rfl rfl)
theorem dX8_readFact_64 : decode cX8_readFact 64 = .ok (.if_icmp .ne 10, 3) := dk_160 0 10 (dk_at dksX8_readFact_2 18 rfl rfl)
theorem dX8_readFact_67 : decode cX8_readFact 67 = .ok (.aload_n 0, 1) := dk_42 (dk_at dksX8_readFact_2 21 rfl rfl)
theorem dX8_readFact_68 : decode cX8_readFact 68 = .ok (.invokevirtual 189, 3) := dk_182 0 189 (dk_at dksX8_readFact_3 0 rfl rfl)
theorem dX8_readFact_71 : decode cX8_readFact 71 = .ok (.goto 7, 3) := dk_167 0 7 (dk_at dksX8_readFact_3 3 rfl rfl)
theorem dX8_readFact_74 : decode cX8_readFact 74 = .ok (.aload_n 0, 1) := dk_42 (dk_at dksX8_readFact_3 6 rfl rfl)
theorem dX8_readFact_75 : decode cX8_readFact 75 = .ok (.invokevirtual 195, 3) := dk_182 0 195 (dk_at dksX8_readFact_3 7 rfl rfl)
theorem dX8_readFact_78 : decode cX8_readFact 78 = .ok (.aload_n 0, 1) := dk_42 (dk_at dksX8_readFact_3 10 rfl rfl)
theorem dX8_readFact_79 : decode cX8_readFact 79 = .ok (.dup, 1) := dk_89 (dk_at dksX8_readFact_3 11 rfl rfl)
theorem dX8_readFact_80 : decode cX8_readFact 80 = .ok (.getfield 192, 3) := dk_180 0 192 (dk_at dksX8_readFact_3 12 rfl rfl)
theorem dX8_readFact_83 : decode cX8_readFact 83 = .ok (.iconst 1, 1) := dk_4 (dk_at dksX8_readFact_3 15 rfl rfl)
theorem dX8_readFact_84 : decode cX8_readFact 84 = .ok (.isub, 1) := dk_100 (dk_at dksX8_readFact_3 16 rfl rfl)
theorem dX8_readFact_85 : decode cX8_readFact 85 = .ok (.putfield 192, 3) := dk_181 0 192 (dk_at dksX8_readFact_3 17 rfl rfl)
theorem dX8_readFact_88 : decode cX8_readFact 88 = .ok (.iload_n 1, 1) := dk_27 (dk_at dksX8_readFact_3 20 rfl rfl)
theorem dX8_readFact_89 : decode cX8_readFact 89 = .ok (.bipush 27, 2) := dk_16 27 (dk_at dksX8_readFact_3 21 rfl rfl)
theorem dX8_readFact_91 : decode cX8_readFact 91 = .ok (.if_icmp .ne 12, 3) := dk_160 0 12 (dk_at dksX8_readFact_4 0 rfl rfl)
theorem dX8_readFact_94 : decode cX8_readFact 94 = .ok (.aload_n 0, 1) := dk_42 (dk_at dksX8_readFact_4 3 rfl rfl)
theorem dX8_readFact_95 : decode cX8_readFact 95 = .ok (.bipush 28, 2) := dk_16 28 (dk_at dksX8_readFact_4 4 rfl rfl)
theorem dX8_readFact_97 : decode cX8_readFact 97 = .ok (.invokevirtual 161, 3) := dk_182 0 161 (dk_at dksX8_readFact_4 6 rfl rfl)
theorem dX8_readFact_100 : decode cX8_readFact 100 = .ok (.goto 17, 3) := dk_167 0 17 (dk_at dksX8_readFact_4 9 rfl rfl)
theorem dX8_readFact_103 : decode cX8_readFact 103 = .ok (.aload_n 0, 1) := dk_42 (dk_at dksX8_readFact_4 12 rfl rfl)
theorem dX8_readFact_104 : decode cX8_readFact 104 = .ok (.getfield 134, 3) := dk_180 0 134 (dk_at dksX8_readFact_4 13 rfl rfl)
theorem dX8_readFact_107 : decode cX8_readFact 107 = .ok (.ifCond .ne 10, 3) := dk_154 0 10 (dk_at dksX8_readFact_4 16 rfl rfl)
theorem dX8_readFact_110 : decode cX8_readFact 110 = .ok (.aload_n 0, 1) := dk_42 (dk_at dksX8_readFact_4 19 rfl rfl)
theorem dX8_readFact_111 : decode cX8_readFact 111 = .ok (.bipush 18, 2) := dk_16 18 (dk_at dksX8_readFact_4 20 rfl rfl)
theorem dX8_readFact_113 : decode cX8_readFact 113 = .ok (.iconst 0, 1) := dk_3 (dk_at dksX8_readFact_4 22 rfl rfl)
theorem dX8_readFact_114 : decode cX8_readFact 114 = .ok (.invokevirtual 185, 3) := dk_182 0 185 (dk_at dksX8_readFact_5 0 rfl rfl)
theorem dX8_readFact_117 : decode cX8_readFact 117 = .ok (.return_, 1) := dk_177 (dk_at dksX8_readFact_5 3 rfl rfl)
theorem dX8_readFact_118 : decode cX8_readFact 118 = .ok (.iload_n 1, 1) := dk_27 (dk_at dksX8_readFact_5 4 rfl rfl)
theorem dX8_readFact_119 : decode cX8_readFact 119 = .ok (.iconst 2, 1) := dk_5 (dk_at dksX8_readFact_5 5 rfl rfl)
theorem dX8_readFact_120 : decode cX8_readFact 120 = .ok (.if_icmp .eq 22, 3) := dk_159 0 22 (dk_at dksX8_readFact_5 6 rfl rfl)
theorem dX8_readFact_123 : decode cX8_readFact 123 = .ok (.iload_n 1, 1) := dk_27 (dk_at dksX8_readFact_5 9 rfl rfl)
theorem dX8_readFact_124 : decode cX8_readFact 124 = .ok (.i2l, 1) := dk_133 (dk_at dksX8_readFact_5 10 rfl rfl)
theorem dX8_readFact_125 : decode cX8_readFact 125 = .ok (.ldc2_w 198, 3) := dk_20 0 198 (dk_at dksX8_readFact_5 11 rfl rfl)
theorem dX8_readFact_128 : decode cX8_readFact 128 = .ok (.ldc2_w 200, 3) := dk_20 0 200 (dk_at dksX8_readFact_5 14 rfl rfl)
theorem dX8_readFact_131 : decode cX8_readFact 131 = .ok (.invokestatic 153, 3) := dk_184 0 153 (dk_at dksX8_readFact_5 17 rfl rfl)
theorem dX8_readFact_134 : decode cX8_readFact 134 = .ok (.ifCond .ne 8, 3) := dk_154 0 8 (dk_at dksX8_readFact_5 20 rfl rfl)
theorem dX8_readFact_137 : decode cX8_readFact 137 = .ok (.aload_n 0, 1) := dk_42 (dk_at dksX8_readFact_5 23 rfl rfl)
theorem dX8_readFact_138 : decode cX8_readFact 138 = .ok (.iconst 2, 1) := dk_5 (dk_at dksX8_readFact_6 0 rfl rfl)
theorem dX8_readFact_139 : decode cX8_readFact 139 = .ok (.invokevirtual 149, 3) := dk_182 0 149 (dk_at dksX8_readFact_6 1 rfl rfl)
theorem dX8_readFact_142 : decode cX8_readFact 142 = .ok (.aload_n 0, 1) := dk_42 (dk_at dksX8_readFact_6 4 rfl rfl)
theorem dX8_readFact_143 : decode cX8_readFact 143 = .ok (.getfield 134, 3) := dk_180 0 134 (dk_at dksX8_readFact_6 5 rfl rfl)
theorem dX8_readFact_146 : decode cX8_readFact 146 = .ok (.ifCond .eq 4, 3) := dk_153 0 4 (dk_at dksX8_readFact_6 8 rfl rfl)
theorem dX8_readFact_149 : decode cX8_readFact 149 = .ok (.return_, 1) := dk_177 (dk_at dksX8_readFact_6 11 rfl rfl)
theorem dX8_readFact_150 : decode cX8_readFact 150 = .ok (.aload_n 0, 1) := dk_42 (dk_at dksX8_readFact_6 12 rfl rfl)
theorem dX8_readFact_151 : decode cX8_readFact 151 = .ok (.invokevirtual 143, 3) := dk_182 0 143 (dk_at dksX8_readFact_6 13 rfl rfl)
theorem dX8_readFact_154 : decode cX8_readFact 154 = .ok (.iload_n 1, 1) := dk_27 (dk_at dksX8_readFact_6 16 rfl rfl)
theorem dX8_readFact_155 : decode cX8_readFact 155 = .ok (.bipush 19, 2) := dk_16 19 (dk_at dksX8_readFact_6 17 rfl rfl)
theorem dX8_readFact_157 : decode cX8_readFact 157 = .ok (.if_icmp .ne 13, 3) := dk_160 0 13 (dk_at dksX8_readFact_6 19 rfl rfl)
theorem dX8_readFact_160 : decode cX8_readFact 160 = .ok (.aload_n 0, 1) := dk_42 (dk_at dksX8_readFact_6 22 rfl rfl)
theorem dX8_readFact_161 : decode cX8_readFact 161 = .ok (.iconst 0, 1) := dk_3 (dk_at dksX8_readFact_6 23 rfl rfl)
theorem dX8_readFact_162 : decode cX8_readFact 162 = .ok (.bipush 7, 2) := dk_16 7 (dk_at dksX8_readFact_7 0 rfl rfl)
theorem dX8_readFact_164 : decode cX8_readFact 164 = .ok (.invokevirtual 157, 3) := dk_182 0 157 (dk_at dksX8_readFact_7 2 rfl rfl)
theorem dX8_readFact_167 : decode cX8_readFact 167 = .ok (.goto 54, 3) := dk_167 0 54 (dk_at dksX8_readFact_7 5 rfl rfl)
theorem dX8_readFact_170 : decode cX8_readFact 170 = .ok (.iload_n 1, 1) := dk_27 (dk_at dksX8_readFact_7 8 rfl rfl)
theorem dX8_readFact_171 : decode cX8_readFact 171 = .ok (.iconst 2, 1) := dk_5 (dk_at dksX8_readFact_7 9 rfl rfl)
theorem dX8_readFact_172 : decode cX8_readFact 172 = .ok (.if_icmp .ne 13, 3) := dk_160 0 13 (dk_at dksX8_readFact_7 10 rfl rfl)
theorem dX8_readFact_175 : decode cX8_readFact 175 = .ok (.aload_n 0, 1) := dk_42 (dk_at dksX8_readFact_7 13 rfl rfl)
theorem dX8_readFact_176 : decode cX8_readFact 176 = .ok (.iconst 1, 1) := dk_4 (dk_at dksX8_readFact_7 14 rfl rfl)
theorem dX8_readFact_177 : decode cX8_readFact 177 = .ok (.bipush 9, 2) := dk_16 9 (dk_at dksX8_readFact_7 15 rfl rfl)
theorem dX8_readFact_179 : decode cX8_readFact 179 = .ok (.invokevirtual 157, 3) := dk_182 0 157 (dk_at dksX8_readFact_7 17 rfl rfl)
theorem dX8_readFact_182 : decode cX8_readFact 182 = .ok (.goto 39, 3) := dk_167 0 39 (dk_at dksX8_readFact_7 20 rfl rfl)
theorem dX8_readFact_185 : decode cX8_readFact 185 = .ok (.iload_n 1, 1) := dk_27 (dk_at dksX8_readFact_7 23 rfl rfl)
theorem dX8_readFact_186 : decode cX8_readFact 186 = .ok (.bipush 22, 2) := dk_16 22 (dk_at dksX8_readFact_8 0 rfl rfl)
theorem dX8_readFact_188 : decode cX8_readFact 188 = .ok (.if_icmp .ne 12, 3) := dk_160 0 12 (dk_at dksX8_readFact_8 2 rfl rfl)
theorem dX8_readFact_191 : decode cX8_readFact 191 = .ok (.aload_n 0, 1) := dk_42 (dk_at dksX8_readFact_8 5 rfl rfl)
theorem dX8_readFact_192 : decode cX8_readFact 192 = .ok (.iconst 0, 1) := dk_3 (dk_at dksX8_readFact_8 6 rfl rfl)
theorem dX8_readFact_193 : decode cX8_readFact 193 = .ok (.iconst 2, 1) := dk_5 (dk_at dksX8_readFact_8 7 rfl rfl)
theorem dX8_readFact_194 : decode cX8_readFact 194 = .ok (.invokevirtual 157, 3) := dk_182 0 157 (dk_at dksX8_readFact_8 8 rfl rfl)
theorem dX8_readFact_197 : decode cX8_readFact 197 = .ok (.goto 24, 3) := dk_167 0 24 (dk_at dksX8_readFact_8 11 rfl rfl)
theorem dX8_readFact_200 : decode cX8_readFact 200 = .ok (.iload_n 1, 1) := dk_27 (dk_at dksX8_readFact_8 14 rfl rfl)
theorem dX8_readFact_201 : decode cX8_readFact 201 = .ok (.bipush 23, 2) := dk_16 23 (dk_at dksX8_readFact_8 15 rfl rfl)
theorem dX8_readFact_203 : decode cX8_readFact 203 = .ok (.if_icmp .ne 12, 3) := dk_160 0 12 (dk_at dksX8_readFact_8 17 rfl rfl)
theorem dX8_readFact_206 : decode cX8_readFact 206 = .ok (.aload_n 0, 1) := dk_42 (dk_at dksX8_readFact_8 20 rfl rfl)
theorem dX8_readFact_207 : decode cX8_readFact 207 = .ok (.iconst 0, 1) := dk_3 (dk_at dksX8_readFact_8 21 rfl rfl)
theorem dX8_readFact_208 : decode cX8_readFact 208 = .ok (.iconst 3, 1) := dk_6 (dk_at dksX8_readFact_8 22 rfl rfl)
theorem dX8_readFact_209 : decode cX8_readFact 209 = .ok (.invokevirtual 157, 3) := dk_182 0 157 (dk_at dksX8_readFact_9 0 rfl rfl)
theorem dX8_readFact_212 : decode cX8_readFact 212 = .ok (.goto 9, 3) := dk_167 0 9 (dk_at dksX8_readFact_9 3 rfl rfl)
theorem dX8_readFact_215 : decode cX8_readFact 215 = .ok (.aload_n 0, 1) := dk_42 (dk_at dksX8_readFact_9 6 rfl rfl)
theorem dX8_readFact_216 : decode cX8_readFact 216 = .ok (.iconst 0, 1) := dk_3 (dk_at dksX8_readFact_9 7 rfl rfl)
theorem dX8_readFact_217 : decode cX8_readFact 217 = .ok (.iconst 4, 1) := dk_7 (dk_at dksX8_readFact_9 8 rfl rfl)
theorem dX8_readFact_218 : decode cX8_readFact 218 = .ok (.invokevirtual 157, 3) := dk_182 0 157 (dk_at dksX8_readFact_9 9 rfl rfl)
theorem dX8_readFact_221 : decode cX8_readFact 221 = .ok (.istore_n 2, 1) := dk_61 (dk_at dksX8_readFact_9 12 rfl rfl)
theorem dX8_readFact_222 : decode cX8_readFact 222 = .ok (.aload_n 0, 1) := dk_42 (dk_at dksX8_readFact_9 13 rfl rfl)
theorem dX8_readFact_223 : decode cX8_readFact 223 = .ok (.getfield 134, 3) := dk_180 0 134 (dk_at dksX8_readFact_9 14 rfl rfl)
theorem dX8_readFact_226 : decode cX8_readFact 226 = .ok (.ifCond .ne 9, 3) := dk_154 0 9 (dk_at dksX8_readFact_9 17 rfl rfl)
theorem dX8_readFact_229 : decode cX8_readFact 229 = .ok (.aload_n 0, 1) := dk_42 (dk_at dksX8_readFact_9 20 rfl rfl)
theorem dX8_readFact_230 : decode cX8_readFact 230 = .ok (.iload_n 1, 1) := dk_27 (dk_at dksX8_readFact_9 21 rfl rfl)
theorem dX8_readFact_231 : decode cX8_readFact 231 = .ok (.iload_n 2, 1) := dk_28 (dk_at dksX8_readFact_9 22 rfl rfl)
theorem dX8_readFact_232 : decode cX8_readFact 232 = .ok (.invokevirtual 185, 3) := dk_182 0 185 (dk_at dksX8_readFact_10 0 rfl rfl)
theorem dX8_readFact_235 : decode cX8_readFact 235 = .ok (.return_, 1) := dk_177 (dk_at dksX8_readFact_10 3 rfl rfl)
abbrev cX8_emit : ByteArray := prog_20_method_22_code
def yX8_emit : MethodName := ⟨RX8, "emit", "(II)V"⟩
def dkwX8_emit_1 : List UInt8 := [42, 180, 0, 179, 104, 96, 4, 96, 28, 79, 42, 89, 180, 0, 179, 4, 96, 181, 0, 179, 177]
abbrev dktX8_emit_1 : List UInt8 := dkwX8_emit_1 ++ []
def dkwX8_emit_0 : List UInt8 := [42, 180, 0, 24, 17, 0, 131, 5, 42, 180, 0, 179, 104, 96, 27, 79, 42, 180, 0, 24, 17, 0, 131, 5]
abbrev dktX8_emit_0 : List UInt8 := dkwX8_emit_0 ++ dktX8_emit_1
theorem dksX8_emit_0 : cX8_emit.data.toList.drop 0 = dktX8_emit_0 := by decide +kernel
theorem dksX8_emit_1 : cX8_emit.data.toList.drop 24 = dktX8_emit_1 := dk_seg dksX8_emit_0 24 rfl rfl
theorem dX8_emit_0 : decode cX8_emit 0 = .ok (.aload_n 0, 1) := dk_42 (dk_at dksX8_emit_0 0 rfl rfl)
theorem dX8_emit_1 : decode cX8_emit 1 = .ok (.getfield 24, 3) := dk_180 0 24 (dk_at dksX8_emit_0 1 rfl rfl)
theorem dX8_emit_4 : decode cX8_emit 4 = .ok (.sipush 131, 3) := dk_17 0 131 (dk_at dksX8_emit_0 4 rfl rfl)
theorem dX8_emit_7 : decode cX8_emit 7 = .ok (.iconst 2, 1) := dk_5 (dk_at dksX8_emit_0 7 rfl rfl)
theorem dX8_emit_8 : decode cX8_emit 8 = .ok (.aload_n 0, 1) := dk_42 (dk_at dksX8_emit_0 8 rfl rfl)
theorem dX8_emit_9 : decode cX8_emit 9 = .ok (.getfield 179, 3) := dk_180 0 179 (dk_at dksX8_emit_0 9 rfl rfl)
theorem dX8_emit_12 : decode cX8_emit 12 = .ok (.imul, 1) := dk_104 (dk_at dksX8_emit_0 12 rfl rfl)
theorem dX8_emit_13 : decode cX8_emit 13 = .ok (.iadd, 1) := dk_96 (dk_at dksX8_emit_0 13 rfl rfl)
theorem dX8_emit_14 : decode cX8_emit 14 = .ok (.iload_n 1, 1) := dk_27 (dk_at dksX8_emit_0 14 rfl rfl)
theorem dX8_emit_15 : decode cX8_emit 15 = .ok (.iastore, 1) := dk_79 (dk_at dksX8_emit_0 15 rfl rfl)
theorem dX8_emit_16 : decode cX8_emit 16 = .ok (.aload_n 0, 1) := dk_42 (dk_at dksX8_emit_0 16 rfl rfl)
theorem dX8_emit_17 : decode cX8_emit 17 = .ok (.getfield 24, 3) := dk_180 0 24 (dk_at dksX8_emit_0 17 rfl rfl)
theorem dX8_emit_20 : decode cX8_emit 20 = .ok (.sipush 131, 3) := dk_17 0 131 (dk_at dksX8_emit_0 20 rfl rfl)
theorem dX8_emit_23 : decode cX8_emit 23 = .ok (.iconst 2, 1) := dk_5 (dk_at dksX8_emit_0 23 rfl rfl)
theorem dX8_emit_24 : decode cX8_emit 24 = .ok (.aload_n 0, 1) := dk_42 (dk_at dksX8_emit_1 0 rfl rfl)
theorem dX8_emit_25 : decode cX8_emit 25 = .ok (.getfield 179, 3) := dk_180 0 179 (dk_at dksX8_emit_1 1 rfl rfl)
theorem dX8_emit_28 : decode cX8_emit 28 = .ok (.imul, 1) := dk_104 (dk_at dksX8_emit_1 4 rfl rfl)
theorem dX8_emit_29 : decode cX8_emit 29 = .ok (.iadd, 1) := dk_96 (dk_at dksX8_emit_1 5 rfl rfl)
theorem dX8_emit_30 : decode cX8_emit 30 = .ok (.iconst 1, 1) := dk_4 (dk_at dksX8_emit_1 6 rfl rfl)
theorem dX8_emit_31 : decode cX8_emit 31 = .ok (.iadd, 1) := dk_96 (dk_at dksX8_emit_1 7 rfl rfl)
theorem dX8_emit_32 : decode cX8_emit 32 = .ok (.iload_n 2, 1) := dk_28 (dk_at dksX8_emit_1 8 rfl rfl)
theorem dX8_emit_33 : decode cX8_emit 33 = .ok (.iastore, 1) := dk_79 (dk_at dksX8_emit_1 9 rfl rfl)
theorem dX8_emit_34 : decode cX8_emit 34 = .ok (.aload_n 0, 1) := dk_42 (dk_at dksX8_emit_1 10 rfl rfl)
theorem dX8_emit_35 : decode cX8_emit 35 = .ok (.dup, 1) := dk_89 (dk_at dksX8_emit_1 11 rfl rfl)
theorem dX8_emit_36 : decode cX8_emit 36 = .ok (.getfield 179, 3) := dk_180 0 179 (dk_at dksX8_emit_1 12 rfl rfl)
theorem dX8_emit_39 : decode cX8_emit 39 = .ok (.iconst 1, 1) := dk_4 (dk_at dksX8_emit_1 15 rfl rfl)
theorem dX8_emit_40 : decode cX8_emit 40 = .ok (.iadd, 1) := dk_96 (dk_at dksX8_emit_1 16 rfl rfl)
theorem dX8_emit_41 : decode cX8_emit 41 = .ok (.putfield 179, 3) := dk_181 0 179 (dk_at dksX8_emit_1 17 rfl rfl)
theorem dX8_emit_44 : decode cX8_emit 44 = .ok (.return_, 1) := dk_177 (dk_at dksX8_emit_1 20 rfl rfl)
abbrev cX8_fault : ByteArray := prog_20_method_28_code
def yX8_fault : MethodName := ⟨RX8, "fault", "(I)I"⟩
def dkwX8_fault_1 : List UInt8 := [180, 0, 27, 167, 0, 4, 2, 172]
abbrev dktX8_fault_1 : List UInt8 := dkwX8_fault_1 ++ []
def dkwX8_fault_0 : List UInt8 := [42, 3, 181, 0, 1, 27, 154, 0, 10, 42, 180, 0, 208, 167, 0, 16, 27, 4, 160, 0, 10, 42]
abbrev dktX8_fault_0 : List UInt8 := dkwX8_fault_0 ++ dktX8_fault_1
theorem dksX8_fault_0 : cX8_fault.data.toList.drop 0 = dktX8_fault_0 := by decide +kernel
theorem dksX8_fault_1 : cX8_fault.data.toList.drop 22 = dktX8_fault_1 := dk_seg dksX8_fault_0 22 rfl rfl
theorem dX8_fault_0 : decode cX8_fault 0 = .ok (.aload_n 0, 1) := dk_42 (dk_at dksX8_fault_0 0 rfl rfl)
theorem dX8_fault_1 : decode cX8_fault 1 = .ok (.iconst 0, 1) := dk_3 (dk_at dksX8_fault_0 1 rfl rfl)
theorem dX8_fault_2 : decode cX8_fault 2 = .ok (.putfield 1, 3) := dk_181 0 1 (dk_at dksX8_fault_0 2 rfl rfl)
theorem dX8_fault_5 : decode cX8_fault 5 = .ok (.iload_n 1, 1) := dk_27 (dk_at dksX8_fault_0 5 rfl rfl)
theorem dX8_fault_6 : decode cX8_fault 6 = .ok (.ifCond .ne 10, 3) := dk_154 0 10 (dk_at dksX8_fault_0 6 rfl rfl)
theorem dX8_fault_9 : decode cX8_fault 9 = .ok (.aload_n 0, 1) := dk_42 (dk_at dksX8_fault_0 9 rfl rfl)
theorem dX8_fault_10 : decode cX8_fault 10 = .ok (.getfield 208, 3) := dk_180 0 208 (dk_at dksX8_fault_0 10 rfl rfl)
theorem dX8_fault_13 : decode cX8_fault 13 = .ok (.goto 16, 3) := dk_167 0 16 (dk_at dksX8_fault_0 13 rfl rfl)
theorem dX8_fault_16 : decode cX8_fault 16 = .ok (.iload_n 1, 1) := dk_27 (dk_at dksX8_fault_0 16 rfl rfl)
theorem dX8_fault_17 : decode cX8_fault 17 = .ok (.iconst 1, 1) := dk_4 (dk_at dksX8_fault_0 17 rfl rfl)
theorem dX8_fault_18 : decode cX8_fault 18 = .ok (.if_icmp .ne 10, 3) := dk_160 0 10 (dk_at dksX8_fault_0 18 rfl rfl)
theorem dX8_fault_21 : decode cX8_fault 21 = .ok (.aload_n 0, 1) := dk_42 (dk_at dksX8_fault_0 21 rfl rfl)
theorem dX8_fault_22 : decode cX8_fault 22 = .ok (.getfield 27, 3) := dk_180 0 27 (dk_at dksX8_fault_1 0 rfl rfl)
theorem dX8_fault_25 : decode cX8_fault 25 = .ok (.goto 4, 3) := dk_167 0 4 (dk_at dksX8_fault_1 3 rfl rfl)
theorem dX8_fault_28 : decode cX8_fault 28 = .ok (.iconst (-1), 1) := dk_2 (dk_at dksX8_fault_1 6 rfl rfl)
theorem dX8_fault_29 : decode cX8_fault 29 = .ok (.ireturn, 1) := dk_172 (dk_at dksX8_fault_1 7 rfl rfl)
abbrev cX8_stone : ByteArray := prog_20_method_50_code
def yX8_stone : MethodName := ⟨RX8, "stone", "(II)I"⟩
def dkwX8_stone_5 : List UInt8 := [42, 180, 0, 13, 16, 96, 27, 96, 46, 172, 42, 180, 0, 13, 16, 104, 27, 96, 46, 172]
abbrev dktX8_stone_5 : List UInt8 := dkwX8_stone_5 ++ []
def dkwX8_stone_4 : List UInt8 := [16, 23, 27, 96, 46, 172, 42, 27, 182, 0, 255, 172, 42, 180, 0, 13, 16, 95, 46, 27, 122, 4, 126, 172]
abbrev dktX8_stone_4 : List UInt8 := dkwX8_stone_4 ++ dktX8_stone_5
def dkwX8_stone_3 : List UInt8 := [42, 180, 0, 13, 16, 7, 27, 96, 46, 172, 42, 180, 0, 13, 16, 15, 27, 96, 46, 172, 42, 180, 0, 13]
abbrev dktX8_stone_3 : List UInt8 := dkwX8_stone_3 ++ dktX8_stone_4
def dkwX8_stone_2 : List UInt8 := [170, 0, 0, 0, 0, 0, 97, 0, 0, 0, 0, 0, 0, 0, 5, 0, 0, 0, 39, 0, 0, 0, 49, 0, 0, 0, 59, 0, 0, 0, 69, 0, 0, 0, 75, 0, 0, 0, 87]
abbrev dktX8_stone_2 : List UInt8 := dkwX8_stone_2 ++ dktX8_stone_3
def dkwX8_stone_1 : List UInt8 := [154, 0, 6, 16, 254, 172, 28]
abbrev dktX8_stone_1 : List UInt8 := dkwX8_stone_1 ++ dktX8_stone_2
def dkwX8_stone_0 : List UInt8 := [42, 3, 181, 0, 1, 42, 27, 182, 0, 250, 153, 0, 15, 28, 133, 9, 20, 0, 253, 184, 0, 153]
abbrev dktX8_stone_0 : List UInt8 := dkwX8_stone_0 ++ dktX8_stone_1
theorem dksX8_stone_0 : cX8_stone.data.toList.drop 0 = dktX8_stone_0 := by decide +kernel
theorem dksX8_stone_1 : cX8_stone.data.toList.drop 22 = dktX8_stone_1 := dk_seg dksX8_stone_0 22 rfl rfl
theorem dksX8_stone_2 : cX8_stone.data.toList.drop 29 = dktX8_stone_2 := dk_seg dksX8_stone_1 7 rfl rfl
theorem dksX8_stone_3 : cX8_stone.data.toList.drop 68 = dktX8_stone_3 := dk_seg dksX8_stone_2 39 rfl rfl
theorem dksX8_stone_4 : cX8_stone.data.toList.drop 92 = dktX8_stone_4 := dk_seg dksX8_stone_3 24 rfl rfl
theorem dksX8_stone_5 : cX8_stone.data.toList.drop 116 = dktX8_stone_5 := dk_seg dksX8_stone_4 24 rfl rfl
theorem dX8_stone_0 : decode cX8_stone 0 = .ok (.aload_n 0, 1) := dk_42 (dk_at dksX8_stone_0 0 rfl rfl)
theorem dX8_stone_1 : decode cX8_stone 1 = .ok (.iconst 0, 1) := dk_3 (dk_at dksX8_stone_0 1 rfl rfl)
theorem dX8_stone_2 : decode cX8_stone 2 = .ok (.putfield 1, 3) := dk_181 0 1 (dk_at dksX8_stone_0 2 rfl rfl)
theorem dX8_stone_5 : decode cX8_stone 5 = .ok (.aload_n 0, 1) := dk_42 (dk_at dksX8_stone_0 5 rfl rfl)
theorem dX8_stone_6 : decode cX8_stone 6 = .ok (.iload_n 1, 1) := dk_27 (dk_at dksX8_stone_0 6 rfl rfl)
theorem dX8_stone_7 : decode cX8_stone 7 = .ok (.invokevirtual 250, 3) := dk_182 0 250 (dk_at dksX8_stone_0 7 rfl rfl)
theorem dX8_stone_10 : decode cX8_stone 10 = .ok (.ifCond .eq 15, 3) := dk_153 0 15 (dk_at dksX8_stone_0 10 rfl rfl)
theorem dX8_stone_13 : decode cX8_stone 13 = .ok (.iload_n 2, 1) := dk_28 (dk_at dksX8_stone_0 13 rfl rfl)
theorem dX8_stone_14 : decode cX8_stone 14 = .ok (.i2l, 1) := dk_133 (dk_at dksX8_stone_0 14 rfl rfl)
theorem dX8_stone_15 : decode cX8_stone 15 = .ok (.lconst 0, 1) := dk_9 (dk_at dksX8_stone_0 15 rfl rfl)
theorem dX8_stone_16 : decode cX8_stone 16 = .ok (.ldc2_w 253, 3) := dk_20 0 253 (dk_at dksX8_stone_0 16 rfl rfl)
theorem dX8_stone_19 : decode cX8_stone 19 = .ok (.invokestatic 153, 3) := dk_184 0 153 (dk_at dksX8_stone_0 19 rfl rfl)
theorem dX8_stone_22 : decode cX8_stone 22 = .ok (.ifCond .ne 6, 3) := dk_154 0 6 (dk_at dksX8_stone_1 0 rfl rfl)
theorem dX8_stone_25 : decode cX8_stone 25 = .ok (.bipush (-2), 2) := dk_16 254 (dk_at dksX8_stone_1 3 rfl rfl)
theorem dX8_stone_27 : decode cX8_stone 27 = .ok (.ireturn, 1) := dk_172 (dk_at dksX8_stone_1 5 rfl rfl)
theorem dX8_stone_28 : decode cX8_stone 28 = .ok (.iload_n 2, 1) := dk_28 (dk_at dksX8_stone_1 6 rfl rfl)
theorem dX8_stone_29 : decode cX8_stone 29 = .ok (.tableswitch 97 0 5 #[39, 49, 59, 69, 75, 87], 39) := by decide +kernel
theorem dX8_stone_68 : decode cX8_stone 68 = .ok (.aload_n 0, 1) := dk_42 (dk_at dksX8_stone_3 0 rfl rfl)
theorem dX8_stone_69 : decode cX8_stone 69 = .ok (.getfield 13, 3) := dk_180 0 13 (dk_at dksX8_stone_3 1 rfl rfl)
theorem dX8_stone_72 : decode cX8_stone 72 = .ok (.bipush 7, 2) := dk_16 7 (dk_at dksX8_stone_3 4 rfl rfl)
theorem dX8_stone_74 : decode cX8_stone 74 = .ok (.iload_n 1, 1) := dk_27 (dk_at dksX8_stone_3 6 rfl rfl)
theorem dX8_stone_75 : decode cX8_stone 75 = .ok (.iadd, 1) := dk_96 (dk_at dksX8_stone_3 7 rfl rfl)
theorem dX8_stone_76 : decode cX8_stone 76 = .ok (.iaload, 1) := dk_46 (dk_at dksX8_stone_3 8 rfl rfl)
theorem dX8_stone_77 : decode cX8_stone 77 = .ok (.ireturn, 1) := dk_172 (dk_at dksX8_stone_3 9 rfl rfl)
theorem dX8_stone_78 : decode cX8_stone 78 = .ok (.aload_n 0, 1) := dk_42 (dk_at dksX8_stone_3 10 rfl rfl)
theorem dX8_stone_79 : decode cX8_stone 79 = .ok (.getfield 13, 3) := dk_180 0 13 (dk_at dksX8_stone_3 11 rfl rfl)
theorem dX8_stone_82 : decode cX8_stone 82 = .ok (.bipush 15, 2) := dk_16 15 (dk_at dksX8_stone_3 14 rfl rfl)
theorem dX8_stone_84 : decode cX8_stone 84 = .ok (.iload_n 1, 1) := dk_27 (dk_at dksX8_stone_3 16 rfl rfl)
theorem dX8_stone_85 : decode cX8_stone 85 = .ok (.iadd, 1) := dk_96 (dk_at dksX8_stone_3 17 rfl rfl)
theorem dX8_stone_86 : decode cX8_stone 86 = .ok (.iaload, 1) := dk_46 (dk_at dksX8_stone_3 18 rfl rfl)
theorem dX8_stone_87 : decode cX8_stone 87 = .ok (.ireturn, 1) := dk_172 (dk_at dksX8_stone_3 19 rfl rfl)
theorem dX8_stone_88 : decode cX8_stone 88 = .ok (.aload_n 0, 1) := dk_42 (dk_at dksX8_stone_3 20 rfl rfl)
theorem dX8_stone_89 : decode cX8_stone 89 = .ok (.getfield 13, 3) := dk_180 0 13 (dk_at dksX8_stone_3 21 rfl rfl)
theorem dX8_stone_92 : decode cX8_stone 92 = .ok (.bipush 23, 2) := dk_16 23 (dk_at dksX8_stone_4 0 rfl rfl)
theorem dX8_stone_94 : decode cX8_stone 94 = .ok (.iload_n 1, 1) := dk_27 (dk_at dksX8_stone_4 2 rfl rfl)
theorem dX8_stone_95 : decode cX8_stone 95 = .ok (.iadd, 1) := dk_96 (dk_at dksX8_stone_4 3 rfl rfl)
theorem dX8_stone_96 : decode cX8_stone 96 = .ok (.iaload, 1) := dk_46 (dk_at dksX8_stone_4 4 rfl rfl)
theorem dX8_stone_97 : decode cX8_stone 97 = .ok (.ireturn, 1) := dk_172 (dk_at dksX8_stone_4 5 rfl rfl)
theorem dX8_stone_98 : decode cX8_stone 98 = .ok (.aload_n 0, 1) := dk_42 (dk_at dksX8_stone_4 6 rfl rfl)
theorem dX8_stone_99 : decode cX8_stone 99 = .ok (.iload_n 1, 1) := dk_27 (dk_at dksX8_stone_4 7 rfl rfl)
theorem dX8_stone_100 : decode cX8_stone 100 = .ok (.invokevirtual 255, 3) := dk_182 0 255 (dk_at dksX8_stone_4 8 rfl rfl)
theorem dX8_stone_103 : decode cX8_stone 103 = .ok (.ireturn, 1) := dk_172 (dk_at dksX8_stone_4 11 rfl rfl)
theorem dX8_stone_104 : decode cX8_stone 104 = .ok (.aload_n 0, 1) := dk_42 (dk_at dksX8_stone_4 12 rfl rfl)
theorem dX8_stone_105 : decode cX8_stone 105 = .ok (.getfield 13, 3) := dk_180 0 13 (dk_at dksX8_stone_4 13 rfl rfl)
theorem dX8_stone_108 : decode cX8_stone 108 = .ok (.bipush 95, 2) := dk_16 95 (dk_at dksX8_stone_4 16 rfl rfl)
theorem dX8_stone_110 : decode cX8_stone 110 = .ok (.iaload, 1) := dk_46 (dk_at dksX8_stone_4 18 rfl rfl)
theorem dX8_stone_111 : decode cX8_stone 111 = .ok (.iload_n 1, 1) := dk_27 (dk_at dksX8_stone_4 19 rfl rfl)
theorem dX8_stone_112 : decode cX8_stone 112 = .ok (.ishr, 1) := dk_122 (dk_at dksX8_stone_4 20 rfl rfl)
theorem dX8_stone_113 : decode cX8_stone 113 = .ok (.iconst 1, 1) := dk_4 (dk_at dksX8_stone_4 21 rfl rfl)
theorem dX8_stone_114 : decode cX8_stone 114 = .ok (.iand, 1) := dk_126 (dk_at dksX8_stone_4 22 rfl rfl)
theorem dX8_stone_115 : decode cX8_stone 115 = .ok (.ireturn, 1) := dk_172 (dk_at dksX8_stone_4 23 rfl rfl)
theorem dX8_stone_116 : decode cX8_stone 116 = .ok (.aload_n 0, 1) := dk_42 (dk_at dksX8_stone_5 0 rfl rfl)
theorem dX8_stone_117 : decode cX8_stone 117 = .ok (.getfield 13, 3) := dk_180 0 13 (dk_at dksX8_stone_5 1 rfl rfl)
theorem dX8_stone_120 : decode cX8_stone 120 = .ok (.bipush 96, 2) := dk_16 96 (dk_at dksX8_stone_5 4 rfl rfl)
theorem dX8_stone_122 : decode cX8_stone 122 = .ok (.iload_n 1, 1) := dk_27 (dk_at dksX8_stone_5 6 rfl rfl)
theorem dX8_stone_123 : decode cX8_stone 123 = .ok (.iadd, 1) := dk_96 (dk_at dksX8_stone_5 7 rfl rfl)
theorem dX8_stone_124 : decode cX8_stone 124 = .ok (.iaload, 1) := dk_46 (dk_at dksX8_stone_5 8 rfl rfl)
theorem dX8_stone_125 : decode cX8_stone 125 = .ok (.ireturn, 1) := dk_172 (dk_at dksX8_stone_5 9 rfl rfl)
theorem dX8_stone_126 : decode cX8_stone 126 = .ok (.aload_n 0, 1) := dk_42 (dk_at dksX8_stone_5 10 rfl rfl)
theorem dX8_stone_127 : decode cX8_stone 127 = .ok (.getfield 13, 3) := dk_180 0 13 (dk_at dksX8_stone_5 11 rfl rfl)
theorem dX8_stone_130 : decode cX8_stone 130 = .ok (.bipush 104, 2) := dk_16 104 (dk_at dksX8_stone_5 14 rfl rfl)
theorem dX8_stone_132 : decode cX8_stone 132 = .ok (.iload_n 1, 1) := dk_27 (dk_at dksX8_stone_5 16 rfl rfl)
theorem dX8_stone_133 : decode cX8_stone 133 = .ok (.iadd, 1) := dk_96 (dk_at dksX8_stone_5 17 rfl rfl)
theorem dX8_stone_134 : decode cX8_stone 134 = .ok (.iaload, 1) := dk_46 (dk_at dksX8_stone_5 18 rfl rfl)
theorem dX8_stone_135 : decode cX8_stone 135 = .ok (.ireturn, 1) := dk_172 (dk_at dksX8_stone_5 19 rfl rfl)
abbrev cX8_isStone : ByteArray := prog_20_method_49_code
def yX8_isStone : MethodName := ⟨RX8, "isStone", "(I)Z"⟩
def dkwX8_isStone_0 : List UInt8 := [27, 133, 9, 42, 180, 0, 13, 16, 6, 46, 4, 100, 133, 184, 0, 153, 172]
abbrev dktX8_isStone_0 : List UInt8 := dkwX8_isStone_0 ++ []
theorem dksX8_isStone_0 : cX8_isStone.data.toList.drop 0 = dktX8_isStone_0 := by decide +kernel
theorem dX8_isStone_0 : decode cX8_isStone 0 = .ok (.iload_n 1, 1) := dk_27 (dk_at dksX8_isStone_0 0 rfl rfl)
theorem dX8_isStone_1 : decode cX8_isStone 1 = .ok (.i2l, 1) := dk_133 (dk_at dksX8_isStone_0 1 rfl rfl)
theorem dX8_isStone_2 : decode cX8_isStone 2 = .ok (.lconst 0, 1) := dk_9 (dk_at dksX8_isStone_0 2 rfl rfl)
theorem dX8_isStone_3 : decode cX8_isStone 3 = .ok (.aload_n 0, 1) := dk_42 (dk_at dksX8_isStone_0 3 rfl rfl)
theorem dX8_isStone_4 : decode cX8_isStone 4 = .ok (.getfield 13, 3) := dk_180 0 13 (dk_at dksX8_isStone_0 4 rfl rfl)
theorem dX8_isStone_7 : decode cX8_isStone 7 = .ok (.bipush 6, 2) := dk_16 6 (dk_at dksX8_isStone_0 7 rfl rfl)
theorem dX8_isStone_9 : decode cX8_isStone 9 = .ok (.iaload, 1) := dk_46 (dk_at dksX8_isStone_0 9 rfl rfl)
theorem dX8_isStone_10 : decode cX8_isStone 10 = .ok (.iconst 1, 1) := dk_4 (dk_at dksX8_isStone_0 10 rfl rfl)
theorem dX8_isStone_11 : decode cX8_isStone 11 = .ok (.isub, 1) := dk_100 (dk_at dksX8_isStone_0 11 rfl rfl)
theorem dX8_isStone_12 : decode cX8_isStone 12 = .ok (.i2l, 1) := dk_133 (dk_at dksX8_isStone_0 12 rfl rfl)
theorem dX8_isStone_13 : decode cX8_isStone 13 = .ok (.invokestatic 153, 3) := dk_184 0 153 (dk_at dksX8_isStone_0 13 rfl rfl)
theorem dX8_isStone_16 : decode cX8_isStone 16 = .ok (.ireturn, 1) := dk_172 (dk_at dksX8_isStone_0 16 rfl rfl)
abbrev cX8_placeOf : ByteArray := prog_20_method_48_code
def yX8_placeOf : MethodName := ⟨RX8, "placeOf", "(I)I"⟩
def dkwX8_placeOf_1 : List UInt8 := [172, 132, 2, 1, 167, 255, 230, 2, 172]
abbrev dktX8_placeOf_1 : List UInt8 := dkwX8_placeOf_1 ++ []
def dkwX8_placeOf_0 : List UInt8 := [3, 61, 28, 16, 15, 162, 0, 26, 42, 180, 0, 13, 16, 80, 28, 96, 46, 27, 4, 96, 160, 0, 5, 28]
abbrev dktX8_placeOf_0 : List UInt8 := dkwX8_placeOf_0 ++ dktX8_placeOf_1
theorem dksX8_placeOf_0 : cX8_placeOf.data.toList.drop 0 = dktX8_placeOf_0 := by decide +kernel
theorem dksX8_placeOf_1 : cX8_placeOf.data.toList.drop 24 = dktX8_placeOf_1 := dk_seg dksX8_placeOf_0 24 rfl rfl
theorem dX8_placeOf_0 : decode cX8_placeOf 0 = .ok (.iconst 0, 1) := dk_3 (dk_at dksX8_placeOf_0 0 rfl rfl)
theorem dX8_placeOf_1 : decode cX8_placeOf 1 = .ok (.istore_n 2, 1) := dk_61 (dk_at dksX8_placeOf_0 1 rfl rfl)
theorem dX8_placeOf_2 : decode cX8_placeOf 2 = .ok (.iload_n 2, 1) := dk_28 (dk_at dksX8_placeOf_0 2 rfl rfl)
theorem dX8_placeOf_3 : decode cX8_placeOf 3 = .ok (.bipush 15, 2) := dk_16 15 (dk_at dksX8_placeOf_0 3 rfl rfl)
theorem dX8_placeOf_5 : decode cX8_placeOf 5 = .ok (.if_icmp .ge 26, 3) := dk_162 0 26 (dk_at dksX8_placeOf_0 5 rfl rfl)
theorem dX8_placeOf_8 : decode cX8_placeOf 8 = .ok (.aload_n 0, 1) := dk_42 (dk_at dksX8_placeOf_0 8 rfl rfl)
theorem dX8_placeOf_9 : decode cX8_placeOf 9 = .ok (.getfield 13, 3) := dk_180 0 13 (dk_at dksX8_placeOf_0 9 rfl rfl)
theorem dX8_placeOf_12 : decode cX8_placeOf 12 = .ok (.bipush 80, 2) := dk_16 80 (dk_at dksX8_placeOf_0 12 rfl rfl)
theorem dX8_placeOf_14 : decode cX8_placeOf 14 = .ok (.iload_n 2, 1) := dk_28 (dk_at dksX8_placeOf_0 14 rfl rfl)
theorem dX8_placeOf_15 : decode cX8_placeOf 15 = .ok (.iadd, 1) := dk_96 (dk_at dksX8_placeOf_0 15 rfl rfl)
theorem dX8_placeOf_16 : decode cX8_placeOf 16 = .ok (.iaload, 1) := dk_46 (dk_at dksX8_placeOf_0 16 rfl rfl)
theorem dX8_placeOf_17 : decode cX8_placeOf 17 = .ok (.iload_n 1, 1) := dk_27 (dk_at dksX8_placeOf_0 17 rfl rfl)
theorem dX8_placeOf_18 : decode cX8_placeOf 18 = .ok (.iconst 1, 1) := dk_4 (dk_at dksX8_placeOf_0 18 rfl rfl)
theorem dX8_placeOf_19 : decode cX8_placeOf 19 = .ok (.iadd, 1) := dk_96 (dk_at dksX8_placeOf_0 19 rfl rfl)
theorem dX8_placeOf_20 : decode cX8_placeOf 20 = .ok (.if_icmp .ne 5, 3) := dk_160 0 5 (dk_at dksX8_placeOf_0 20 rfl rfl)
theorem dX8_placeOf_23 : decode cX8_placeOf 23 = .ok (.iload_n 2, 1) := dk_28 (dk_at dksX8_placeOf_0 23 rfl rfl)
theorem dX8_placeOf_24 : decode cX8_placeOf 24 = .ok (.ireturn, 1) := dk_172 (dk_at dksX8_placeOf_1 0 rfl rfl)
theorem dX8_placeOf_25 : decode cX8_placeOf 25 = .ok (.iinc 2 1, 3) := dk_132 2 1 (dk_at dksX8_placeOf_1 1 rfl rfl)
theorem dX8_placeOf_28 : decode cX8_placeOf 28 = .ok (.goto (-26), 3) := dk_167 255 230 (dk_at dksX8_placeOf_1 4 rfl rfl)
theorem dX8_placeOf_31 : decode cX8_placeOf 31 = .ok (.iconst (-1), 1) := dk_2 (dk_at dksX8_placeOf_1 7 rfl rfl)
theorem dX8_placeOf_32 : decode cX8_placeOf 32 = .ok (.ireturn, 1) := dk_172 (dk_at dksX8_placeOf_1 8 rfl rfl)
abbrev cX8_lies : ByteArray := prog_20_method_51_code
def yX8_lies : MethodName := ⟨RX8, "lies", "(I)I"⟩
def dkwX8_lies_1 : List UInt8 := [96, 46, 4, 100, 167, 0, 5, 16, 253, 172]
abbrev dktX8_lies_1 : List UInt8 := dkwX8_lies_1 ++ []
def dkwX8_lies_0 : List UInt8 := [42, 3, 181, 0, 1, 27, 133, 9, 20, 1, 2, 184, 0, 153, 153, 0, 17, 42, 180, 0, 13, 16, 80, 27]
abbrev dktX8_lies_0 : List UInt8 := dkwX8_lies_0 ++ dktX8_lies_1
theorem dksX8_lies_0 : cX8_lies.data.toList.drop 0 = dktX8_lies_0 := by decide +kernel
theorem dksX8_lies_1 : cX8_lies.data.toList.drop 24 = dktX8_lies_1 := dk_seg dksX8_lies_0 24 rfl rfl
theorem dX8_lies_0 : decode cX8_lies 0 = .ok (.aload_n 0, 1) := dk_42 (dk_at dksX8_lies_0 0 rfl rfl)
theorem dX8_lies_1 : decode cX8_lies 1 = .ok (.iconst 0, 1) := dk_3 (dk_at dksX8_lies_0 1 rfl rfl)
theorem dX8_lies_2 : decode cX8_lies 2 = .ok (.putfield 1, 3) := dk_181 0 1 (dk_at dksX8_lies_0 2 rfl rfl)
theorem dX8_lies_5 : decode cX8_lies 5 = .ok (.iload_n 1, 1) := dk_27 (dk_at dksX8_lies_0 5 rfl rfl)
theorem dX8_lies_6 : decode cX8_lies 6 = .ok (.i2l, 1) := dk_133 (dk_at dksX8_lies_0 6 rfl rfl)
theorem dX8_lies_7 : decode cX8_lies 7 = .ok (.lconst 0, 1) := dk_9 (dk_at dksX8_lies_0 7 rfl rfl)
theorem dX8_lies_8 : decode cX8_lies 8 = .ok (.ldc2_w 258, 3) := dk_20 1 2 (dk_at dksX8_lies_0 8 rfl rfl)
theorem dX8_lies_11 : decode cX8_lies 11 = .ok (.invokestatic 153, 3) := dk_184 0 153 (dk_at dksX8_lies_0 11 rfl rfl)
theorem dX8_lies_14 : decode cX8_lies 14 = .ok (.ifCond .eq 17, 3) := dk_153 0 17 (dk_at dksX8_lies_0 14 rfl rfl)
theorem dX8_lies_17 : decode cX8_lies 17 = .ok (.aload_n 0, 1) := dk_42 (dk_at dksX8_lies_0 17 rfl rfl)
theorem dX8_lies_18 : decode cX8_lies 18 = .ok (.getfield 13, 3) := dk_180 0 13 (dk_at dksX8_lies_0 18 rfl rfl)
theorem dX8_lies_21 : decode cX8_lies 21 = .ok (.bipush 80, 2) := dk_16 80 (dk_at dksX8_lies_0 21 rfl rfl)
theorem dX8_lies_23 : decode cX8_lies 23 = .ok (.iload_n 1, 1) := dk_27 (dk_at dksX8_lies_0 23 rfl rfl)
theorem dX8_lies_24 : decode cX8_lies 24 = .ok (.iadd, 1) := dk_96 (dk_at dksX8_lies_1 0 rfl rfl)
theorem dX8_lies_25 : decode cX8_lies 25 = .ok (.iaload, 1) := dk_46 (dk_at dksX8_lies_1 1 rfl rfl)
theorem dX8_lies_26 : decode cX8_lies 26 = .ok (.iconst 1, 1) := dk_4 (dk_at dksX8_lies_1 2 rfl rfl)
theorem dX8_lies_27 : decode cX8_lies 27 = .ok (.isub, 1) := dk_100 (dk_at dksX8_lies_1 3 rfl rfl)
theorem dX8_lies_28 : decode cX8_lies 28 = .ok (.goto 5, 3) := dk_167 0 5 (dk_at dksX8_lies_1 4 rfl rfl)
theorem dX8_lies_31 : decode cX8_lies 31 = .ok (.bipush (-3), 2) := dk_16 253 (dk_at dksX8_lies_1 7 rfl rfl)
theorem dX8_lies_33 : decode cX8_lies 33 = .ok (.ireturn, 1) := dk_172 (dk_at dksX8_lies_1 9 rfl rfl)
abbrev cX8_row : ByteArray := prog_20_method_52_code
def yX8_row : MethodName := ⟨RX8, "row", "(II)I"⟩
def dkwX8_row_5 : List UInt8 := [7, 100, 46, 172]
abbrev dktX8_row_5 : List UInt8 := dkwX8_row_5 ++ []
def dkwX8_row_4 : List UInt8 := [46, 172, 42, 180, 0, 13, 16, 36, 27, 96, 46, 172, 42, 180, 0, 13, 16, 41, 6, 27, 104, 96, 28, 96]
abbrev dktX8_row_4 : List UInt8 := dkwX8_row_4 ++ dktX8_row_5
def dkwX8_row_3 : List UInt8 := [42, 180, 0, 13, 4, 27, 96, 46, 172, 42, 180, 0, 33, 27, 46, 172, 42, 180, 0, 13, 16, 31, 27, 96]
abbrev dktX8_row_3 : List UInt8 := dkwX8_row_3 ++ dktX8_row_4
def dkwX8_row_2 : List UInt8 := [170, 0, 0, 0, 0, 0, 67, 0, 0, 0, 0, 0, 0, 0, 3, 0, 0, 0, 31, 0, 0, 0, 40, 0, 0, 0, 47, 0, 0, 0, 57]
abbrev dktX8_row_2 : List UInt8 := dkwX8_row_2 ++ dktX8_row_3
def dkwX8_row_1 : List UInt8 := [154, 0, 6, 16, 254, 172, 42, 182, 1, 4, 28]
abbrev dktX8_row_1 : List UInt8 := dkwX8_row_1 ++ dktX8_row_2
def dkwX8_row_0 : List UInt8 := [42, 3, 181, 0, 1, 42, 27, 182, 0, 223, 153, 0, 15, 28, 133, 9, 20, 0, 253, 184, 0, 153]
abbrev dktX8_row_0 : List UInt8 := dkwX8_row_0 ++ dktX8_row_1
theorem dksX8_row_0 : cX8_row.data.toList.drop 0 = dktX8_row_0 := by decide +kernel
theorem dksX8_row_1 : cX8_row.data.toList.drop 22 = dktX8_row_1 := dk_seg dksX8_row_0 22 rfl rfl
theorem dksX8_row_2 : cX8_row.data.toList.drop 33 = dktX8_row_2 := dk_seg dksX8_row_1 11 rfl rfl
theorem dksX8_row_3 : cX8_row.data.toList.drop 64 = dktX8_row_3 := dk_seg dksX8_row_2 31 rfl rfl
theorem dksX8_row_4 : cX8_row.data.toList.drop 88 = dktX8_row_4 := dk_seg dksX8_row_3 24 rfl rfl
theorem dksX8_row_5 : cX8_row.data.toList.drop 112 = dktX8_row_5 := dk_seg dksX8_row_4 24 rfl rfl
theorem dX8_row_0 : decode cX8_row 0 = .ok (.aload_n 0, 1) := dk_42 (dk_at dksX8_row_0 0 rfl rfl)
theorem dX8_row_1 : decode cX8_row 1 = .ok (.iconst 0, 1) := dk_3 (dk_at dksX8_row_0 1 rfl rfl)
theorem dX8_row_2 : decode cX8_row 2 = .ok (.putfield 1, 3) := dk_181 0 1 (dk_at dksX8_row_0 2 rfl rfl)
theorem dX8_row_5 : decode cX8_row 5 = .ok (.aload_n 0, 1) := dk_42 (dk_at dksX8_row_0 5 rfl rfl)
theorem dX8_row_6 : decode cX8_row 6 = .ok (.iload_n 1, 1) := dk_27 (dk_at dksX8_row_0 6 rfl rfl)
theorem dX8_row_7 : decode cX8_row 7 = .ok (.invokevirtual 223, 3) := dk_182 0 223 (dk_at dksX8_row_0 7 rfl rfl)
theorem dX8_row_10 : decode cX8_row 10 = .ok (.ifCond .eq 15, 3) := dk_153 0 15 (dk_at dksX8_row_0 10 rfl rfl)
theorem dX8_row_13 : decode cX8_row 13 = .ok (.iload_n 2, 1) := dk_28 (dk_at dksX8_row_0 13 rfl rfl)
theorem dX8_row_14 : decode cX8_row 14 = .ok (.i2l, 1) := dk_133 (dk_at dksX8_row_0 14 rfl rfl)
theorem dX8_row_15 : decode cX8_row 15 = .ok (.lconst 0, 1) := dk_9 (dk_at dksX8_row_0 15 rfl rfl)
theorem dX8_row_16 : decode cX8_row 16 = .ok (.ldc2_w 253, 3) := dk_20 0 253 (dk_at dksX8_row_0 16 rfl rfl)
theorem dX8_row_19 : decode cX8_row 19 = .ok (.invokestatic 153, 3) := dk_184 0 153 (dk_at dksX8_row_0 19 rfl rfl)
theorem dX8_row_22 : decode cX8_row 22 = .ok (.ifCond .ne 6, 3) := dk_154 0 6 (dk_at dksX8_row_1 0 rfl rfl)
theorem dX8_row_25 : decode cX8_row 25 = .ok (.bipush (-2), 2) := dk_16 254 (dk_at dksX8_row_1 3 rfl rfl)
theorem dX8_row_27 : decode cX8_row 27 = .ok (.ireturn, 1) := dk_172 (dk_at dksX8_row_1 5 rfl rfl)
theorem dX8_row_28 : decode cX8_row 28 = .ok (.aload_n 0, 1) := dk_42 (dk_at dksX8_row_1 6 rfl rfl)
theorem dX8_row_29 : decode cX8_row 29 = .ok (.invokevirtual 260, 3) := dk_182 1 4 (dk_at dksX8_row_1 7 rfl rfl)
theorem dX8_row_32 : decode cX8_row 32 = .ok (.iload_n 2, 1) := dk_28 (dk_at dksX8_row_1 10 rfl rfl)
theorem dX8_row_33 : decode cX8_row 33 = .ok (.tableswitch 67 0 3 #[31, 40, 47, 57], 31) := by decide +kernel
theorem dX8_row_64 : decode cX8_row 64 = .ok (.aload_n 0, 1) := dk_42 (dk_at dksX8_row_3 0 rfl rfl)
theorem dX8_row_65 : decode cX8_row 65 = .ok (.getfield 13, 3) := dk_180 0 13 (dk_at dksX8_row_3 1 rfl rfl)
theorem dX8_row_68 : decode cX8_row 68 = .ok (.iconst 1, 1) := dk_4 (dk_at dksX8_row_3 4 rfl rfl)
theorem dX8_row_69 : decode cX8_row 69 = .ok (.iload_n 1, 1) := dk_27 (dk_at dksX8_row_3 5 rfl rfl)
theorem dX8_row_70 : decode cX8_row 70 = .ok (.iadd, 1) := dk_96 (dk_at dksX8_row_3 6 rfl rfl)
theorem dX8_row_71 : decode cX8_row 71 = .ok (.iaload, 1) := dk_46 (dk_at dksX8_row_3 7 rfl rfl)
theorem dX8_row_72 : decode cX8_row 72 = .ok (.ireturn, 1) := dk_172 (dk_at dksX8_row_3 8 rfl rfl)
theorem dX8_row_73 : decode cX8_row 73 = .ok (.aload_n 0, 1) := dk_42 (dk_at dksX8_row_3 9 rfl rfl)
theorem dX8_row_74 : decode cX8_row 74 = .ok (.getfield 33, 3) := dk_180 0 33 (dk_at dksX8_row_3 10 rfl rfl)
theorem dX8_row_77 : decode cX8_row 77 = .ok (.iload_n 1, 1) := dk_27 (dk_at dksX8_row_3 13 rfl rfl)
theorem dX8_row_78 : decode cX8_row 78 = .ok (.iaload, 1) := dk_46 (dk_at dksX8_row_3 14 rfl rfl)
theorem dX8_row_79 : decode cX8_row 79 = .ok (.ireturn, 1) := dk_172 (dk_at dksX8_row_3 15 rfl rfl)
theorem dX8_row_80 : decode cX8_row 80 = .ok (.aload_n 0, 1) := dk_42 (dk_at dksX8_row_3 16 rfl rfl)
theorem dX8_row_81 : decode cX8_row 81 = .ok (.getfield 13, 3) := dk_180 0 13 (dk_at dksX8_row_3 17 rfl rfl)
theorem dX8_row_84 : decode cX8_row 84 = .ok (.bipush 31, 2) := dk_16 31 (dk_at dksX8_row_3 20 rfl rfl)
theorem dX8_row_86 : decode cX8_row 86 = .ok (.iload_n 1, 1) := dk_27 (dk_at dksX8_row_3 22 rfl rfl)
theorem dX8_row_87 : decode cX8_row 87 = .ok (.iadd, 1) := dk_96 (dk_at dksX8_row_3 23 rfl rfl)
theorem dX8_row_88 : decode cX8_row 88 = .ok (.iaload, 1) := dk_46 (dk_at dksX8_row_4 0 rfl rfl)
theorem dX8_row_89 : decode cX8_row 89 = .ok (.ireturn, 1) := dk_172 (dk_at dksX8_row_4 1 rfl rfl)
theorem dX8_row_90 : decode cX8_row 90 = .ok (.aload_n 0, 1) := dk_42 (dk_at dksX8_row_4 2 rfl rfl)
theorem dX8_row_91 : decode cX8_row 91 = .ok (.getfield 13, 3) := dk_180 0 13 (dk_at dksX8_row_4 3 rfl rfl)
theorem dX8_row_94 : decode cX8_row 94 = .ok (.bipush 36, 2) := dk_16 36 (dk_at dksX8_row_4 6 rfl rfl)
theorem dX8_row_96 : decode cX8_row 96 = .ok (.iload_n 1, 1) := dk_27 (dk_at dksX8_row_4 8 rfl rfl)
theorem dX8_row_97 : decode cX8_row 97 = .ok (.iadd, 1) := dk_96 (dk_at dksX8_row_4 9 rfl rfl)
theorem dX8_row_98 : decode cX8_row 98 = .ok (.iaload, 1) := dk_46 (dk_at dksX8_row_4 10 rfl rfl)
theorem dX8_row_99 : decode cX8_row 99 = .ok (.ireturn, 1) := dk_172 (dk_at dksX8_row_4 11 rfl rfl)
theorem dX8_row_100 : decode cX8_row 100 = .ok (.aload_n 0, 1) := dk_42 (dk_at dksX8_row_4 12 rfl rfl)
theorem dX8_row_101 : decode cX8_row 101 = .ok (.getfield 13, 3) := dk_180 0 13 (dk_at dksX8_row_4 13 rfl rfl)
theorem dX8_row_104 : decode cX8_row 104 = .ok (.bipush 41, 2) := dk_16 41 (dk_at dksX8_row_4 16 rfl rfl)
theorem dX8_row_106 : decode cX8_row 106 = .ok (.iconst 3, 1) := dk_6 (dk_at dksX8_row_4 18 rfl rfl)
theorem dX8_row_107 : decode cX8_row 107 = .ok (.iload_n 1, 1) := dk_27 (dk_at dksX8_row_4 19 rfl rfl)
theorem dX8_row_108 : decode cX8_row 108 = .ok (.imul, 1) := dk_104 (dk_at dksX8_row_4 20 rfl rfl)
theorem dX8_row_109 : decode cX8_row 109 = .ok (.iadd, 1) := dk_96 (dk_at dksX8_row_4 21 rfl rfl)
theorem dX8_row_110 : decode cX8_row 110 = .ok (.iload_n 2, 1) := dk_28 (dk_at dksX8_row_4 22 rfl rfl)
theorem dX8_row_111 : decode cX8_row 111 = .ok (.iadd, 1) := dk_96 (dk_at dksX8_row_4 23 rfl rfl)
theorem dX8_row_112 : decode cX8_row 112 = .ok (.iconst 4, 1) := dk_7 (dk_at dksX8_row_5 0 rfl rfl)
theorem dX8_row_113 : decode cX8_row 113 = .ok (.isub, 1) := dk_100 (dk_at dksX8_row_5 1 rfl rfl)
theorem dX8_row_114 : decode cX8_row 114 = .ok (.iaload, 1) := dk_46 (dk_at dksX8_row_5 2 rfl rfl)
theorem dX8_row_115 : decode cX8_row 115 = .ok (.ireturn, 1) := dk_172 (dk_at dksX8_row_5 3 rfl rfl)
abbrev cX8_isRow : ByteArray := prog_20_method_34_code
def yX8_isRow : MethodName := ⟨RX8, "isRow", "(I)Z"⟩
def dkwX8_isRow_0 : List UInt8 := [27, 133, 9, 42, 180, 0, 13, 3, 46, 4, 100, 133, 184, 0, 153, 172]
abbrev dktX8_isRow_0 : List UInt8 := dkwX8_isRow_0 ++ []
theorem dksX8_isRow_0 : cX8_isRow.data.toList.drop 0 = dktX8_isRow_0 := by decide +kernel
theorem dX8_isRow_0 : decode cX8_isRow 0 = .ok (.iload_n 1, 1) := dk_27 (dk_at dksX8_isRow_0 0 rfl rfl)
theorem dX8_isRow_1 : decode cX8_isRow 1 = .ok (.i2l, 1) := dk_133 (dk_at dksX8_isRow_0 1 rfl rfl)
theorem dX8_isRow_2 : decode cX8_isRow 2 = .ok (.lconst 0, 1) := dk_9 (dk_at dksX8_isRow_0 2 rfl rfl)
theorem dX8_isRow_3 : decode cX8_isRow 3 = .ok (.aload_n 0, 1) := dk_42 (dk_at dksX8_isRow_0 3 rfl rfl)
theorem dX8_isRow_4 : decode cX8_isRow 4 = .ok (.getfield 13, 3) := dk_180 0 13 (dk_at dksX8_isRow_0 4 rfl rfl)
theorem dX8_isRow_7 : decode cX8_isRow 7 = .ok (.iconst 0, 1) := dk_3 (dk_at dksX8_isRow_0 7 rfl rfl)
theorem dX8_isRow_8 : decode cX8_isRow 8 = .ok (.iaload, 1) := dk_46 (dk_at dksX8_isRow_0 8 rfl rfl)
theorem dX8_isRow_9 : decode cX8_isRow 9 = .ok (.iconst 1, 1) := dk_4 (dk_at dksX8_isRow_0 9 rfl rfl)
theorem dX8_isRow_10 : decode cX8_isRow 10 = .ok (.isub, 1) := dk_100 (dk_at dksX8_isRow_0 10 rfl rfl)
theorem dX8_isRow_11 : decode cX8_isRow 11 = .ok (.i2l, 1) := dk_133 (dk_at dksX8_isRow_0 11 rfl rfl)
theorem dX8_isRow_12 : decode cX8_isRow 12 = .ok (.invokestatic 153, 3) := dk_184 0 153 (dk_at dksX8_isRow_0 12 rfl rfl)
theorem dX8_isRow_15 : decode cX8_isRow 15 = .ok (.ireturn, 1) := dk_172 (dk_at dksX8_isRow_0 15 rfl rfl)
abbrev cX8_looksNow : ByteArray := prog_20_method_29_code
def yX8_looksNow : MethodName := ⟨RX8, "looksNow", "()V"⟩
def dkwX8_looksNow_1 : List UInt8 := [132, 1, 1, 167, 255, 232, 42, 42, 180, 0, 13, 16, 95, 46, 181, 0, 211, 42, 182, 0, 214, 177]
abbrev dktX8_looksNow_1 : List UInt8 := dkwX8_looksNow_1 ++ []
def dkwX8_looksNow_0 : List UInt8 := [3, 60, 27, 16, 15, 162, 0, 24, 42, 180, 0, 30, 27, 42, 180, 0, 13, 16, 80, 27, 96, 46, 79]
abbrev dktX8_looksNow_0 : List UInt8 := dkwX8_looksNow_0 ++ dktX8_looksNow_1
theorem dksX8_looksNow_0 : cX8_looksNow.data.toList.drop 0 = dktX8_looksNow_0 := by decide +kernel
theorem dksX8_looksNow_1 : cX8_looksNow.data.toList.drop 23 = dktX8_looksNow_1 := dk_seg dksX8_looksNow_0 23 rfl rfl
theorem dX8_looksNow_0 : decode cX8_looksNow 0 = .ok (.iconst 0, 1) := dk_3 (dk_at dksX8_looksNow_0 0 rfl rfl)
theorem dX8_looksNow_1 : decode cX8_looksNow 1 = .ok (.istore_n 1, 1) := dk_60 (dk_at dksX8_looksNow_0 1 rfl rfl)
theorem dX8_looksNow_2 : decode cX8_looksNow 2 = .ok (.iload_n 1, 1) := dk_27 (dk_at dksX8_looksNow_0 2 rfl rfl)
theorem dX8_looksNow_3 : decode cX8_looksNow 3 = .ok (.bipush 15, 2) := dk_16 15 (dk_at dksX8_looksNow_0 3 rfl rfl)
theorem dX8_looksNow_5 : decode cX8_looksNow 5 = .ok (.if_icmp .ge 24, 3) := dk_162 0 24 (dk_at dksX8_looksNow_0 5 rfl rfl)
theorem dX8_looksNow_8 : decode cX8_looksNow 8 = .ok (.aload_n 0, 1) := dk_42 (dk_at dksX8_looksNow_0 8 rfl rfl)
theorem dX8_looksNow_9 : decode cX8_looksNow 9 = .ok (.getfield 30, 3) := dk_180 0 30 (dk_at dksX8_looksNow_0 9 rfl rfl)
theorem dX8_looksNow_12 : decode cX8_looksNow 12 = .ok (.iload_n 1, 1) := dk_27 (dk_at dksX8_looksNow_0 12 rfl rfl)
theorem dX8_looksNow_13 : decode cX8_looksNow 13 = .ok (.aload_n 0, 1) := dk_42 (dk_at dksX8_looksNow_0 13 rfl rfl)
theorem dX8_looksNow_14 : decode cX8_looksNow 14 = .ok (.getfield 13, 3) := dk_180 0 13 (dk_at dksX8_looksNow_0 14 rfl rfl)
theorem dX8_looksNow_17 : decode cX8_looksNow 17 = .ok (.bipush 80, 2) := dk_16 80 (dk_at dksX8_looksNow_0 17 rfl rfl)
theorem dX8_looksNow_19 : decode cX8_looksNow 19 = .ok (.iload_n 1, 1) := dk_27 (dk_at dksX8_looksNow_0 19 rfl rfl)
theorem dX8_looksNow_20 : decode cX8_looksNow 20 = .ok (.iadd, 1) := dk_96 (dk_at dksX8_looksNow_0 20 rfl rfl)
theorem dX8_looksNow_21 : decode cX8_looksNow 21 = .ok (.iaload, 1) := dk_46 (dk_at dksX8_looksNow_0 21 rfl rfl)
theorem dX8_looksNow_22 : decode cX8_looksNow 22 = .ok (.iastore, 1) := dk_79 (dk_at dksX8_looksNow_0 22 rfl rfl)
theorem dX8_looksNow_23 : decode cX8_looksNow 23 = .ok (.iinc 1 1, 3) := dk_132 1 1 (dk_at dksX8_looksNow_1 0 rfl rfl)
theorem dX8_looksNow_26 : decode cX8_looksNow 26 = .ok (.goto (-24), 3) := dk_167 255 232 (dk_at dksX8_looksNow_1 3 rfl rfl)
theorem dX8_looksNow_29 : decode cX8_looksNow 29 = .ok (.aload_n 0, 1) := dk_42 (dk_at dksX8_looksNow_1 6 rfl rfl)
theorem dX8_looksNow_30 : decode cX8_looksNow 30 = .ok (.aload_n 0, 1) := dk_42 (dk_at dksX8_looksNow_1 7 rfl rfl)
theorem dX8_looksNow_31 : decode cX8_looksNow 31 = .ok (.getfield 13, 3) := dk_180 0 13 (dk_at dksX8_looksNow_1 8 rfl rfl)
theorem dX8_looksNow_34 : decode cX8_looksNow 34 = .ok (.bipush 95, 2) := dk_16 95 (dk_at dksX8_looksNow_1 11 rfl rfl)
theorem dX8_looksNow_36 : decode cX8_looksNow 36 = .ok (.iaload, 1) := dk_46 (dk_at dksX8_looksNow_1 13 rfl rfl)
theorem dX8_looksNow_37 : decode cX8_looksNow 37 = .ok (.putfield 211, 3) := dk_181 0 211 (dk_at dksX8_looksNow_1 14 rfl rfl)
theorem dX8_looksNow_40 : decode cX8_looksNow 40 = .ok (.aload_n 0, 1) := dk_42 (dk_at dksX8_looksNow_1 17 rfl rfl)
theorem dX8_looksNow_41 : decode cX8_looksNow 41 = .ok (.invokevirtual 214, 3) := dk_182 0 214 (dk_at dksX8_looksNow_1 18 rfl rfl)
theorem dX8_looksNow_44 : decode cX8_looksNow 44 = .ok (.return_, 1) := dk_177 (dk_at dksX8_looksNow_1 21 rfl rfl)
abbrev cX8_counts : ByteArray := prog_20_method_30_code
def yX8_counts : MethodName := ⟨RX8, "counts", "()V"⟩
def dkwX8_counts_2 : List UInt8 := [96, 79, 132, 2, 1, 167, 255, 221, 132, 1, 1, 167, 255, 201, 177]
abbrev dktX8_counts_2 : List UInt8 := dkwX8_counts_2 ++ []
def dkwX8_counts_1 : List UInt8 := [180, 0, 33, 27, 92, 46, 42, 180, 0, 30, 6, 27, 104, 28, 96, 46, 158, 0, 7, 4, 167, 0, 4, 3]
abbrev dktX8_counts_1 : List UInt8 := dkwX8_counts_1 ++ dktX8_counts_2
def dkwX8_counts_0 : List UInt8 := [3, 60, 27, 8, 162, 0, 56, 42, 180, 0, 33, 27, 3, 79, 3, 61, 28, 6, 162, 0, 36, 42]
abbrev dktX8_counts_0 : List UInt8 := dkwX8_counts_0 ++ dktX8_counts_1
theorem dksX8_counts_0 : cX8_counts.data.toList.drop 0 = dktX8_counts_0 := by decide +kernel
theorem dksX8_counts_1 : cX8_counts.data.toList.drop 22 = dktX8_counts_1 := dk_seg dksX8_counts_0 22 rfl rfl
theorem dksX8_counts_2 : cX8_counts.data.toList.drop 46 = dktX8_counts_2 := dk_seg dksX8_counts_1 24 rfl rfl
theorem dX8_counts_0 : decode cX8_counts 0 = .ok (.iconst 0, 1) := dk_3 (dk_at dksX8_counts_0 0 rfl rfl)
theorem dX8_counts_1 : decode cX8_counts 1 = .ok (.istore_n 1, 1) := dk_60 (dk_at dksX8_counts_0 1 rfl rfl)
theorem dX8_counts_2 : decode cX8_counts 2 = .ok (.iload_n 1, 1) := dk_27 (dk_at dksX8_counts_0 2 rfl rfl)
theorem dX8_counts_3 : decode cX8_counts 3 = .ok (.iconst 5, 1) := dk_8 (dk_at dksX8_counts_0 3 rfl rfl)
theorem dX8_counts_4 : decode cX8_counts 4 = .ok (.if_icmp .ge 56, 3) := dk_162 0 56 (dk_at dksX8_counts_0 4 rfl rfl)
theorem dX8_counts_7 : decode cX8_counts 7 = .ok (.aload_n 0, 1) := dk_42 (dk_at dksX8_counts_0 7 rfl rfl)
theorem dX8_counts_8 : decode cX8_counts 8 = .ok (.getfield 33, 3) := dk_180 0 33 (dk_at dksX8_counts_0 8 rfl rfl)
theorem dX8_counts_11 : decode cX8_counts 11 = .ok (.iload_n 1, 1) := dk_27 (dk_at dksX8_counts_0 11 rfl rfl)
theorem dX8_counts_12 : decode cX8_counts 12 = .ok (.iconst 0, 1) := dk_3 (dk_at dksX8_counts_0 12 rfl rfl)
theorem dX8_counts_13 : decode cX8_counts 13 = .ok (.iastore, 1) := dk_79 (dk_at dksX8_counts_0 13 rfl rfl)
theorem dX8_counts_14 : decode cX8_counts 14 = .ok (.iconst 0, 1) := dk_3 (dk_at dksX8_counts_0 14 rfl rfl)
theorem dX8_counts_15 : decode cX8_counts 15 = .ok (.istore_n 2, 1) := dk_61 (dk_at dksX8_counts_0 15 rfl rfl)
theorem dX8_counts_16 : decode cX8_counts 16 = .ok (.iload_n 2, 1) := dk_28 (dk_at dksX8_counts_0 16 rfl rfl)
theorem dX8_counts_17 : decode cX8_counts 17 = .ok (.iconst 3, 1) := dk_6 (dk_at dksX8_counts_0 17 rfl rfl)
theorem dX8_counts_18 : decode cX8_counts 18 = .ok (.if_icmp .ge 36, 3) := dk_162 0 36 (dk_at dksX8_counts_0 18 rfl rfl)
theorem dX8_counts_21 : decode cX8_counts 21 = .ok (.aload_n 0, 1) := dk_42 (dk_at dksX8_counts_0 21 rfl rfl)
theorem dX8_counts_22 : decode cX8_counts 22 = .ok (.getfield 33, 3) := dk_180 0 33 (dk_at dksX8_counts_1 0 rfl rfl)
theorem dX8_counts_25 : decode cX8_counts 25 = .ok (.iload_n 1, 1) := dk_27 (dk_at dksX8_counts_1 3 rfl rfl)
theorem dX8_counts_26 : decode cX8_counts 26 = .ok (.dup2, 1) := dk_92 (dk_at dksX8_counts_1 4 rfl rfl)
theorem dX8_counts_27 : decode cX8_counts 27 = .ok (.iaload, 1) := dk_46 (dk_at dksX8_counts_1 5 rfl rfl)
theorem dX8_counts_28 : decode cX8_counts 28 = .ok (.aload_n 0, 1) := dk_42 (dk_at dksX8_counts_1 6 rfl rfl)
theorem dX8_counts_29 : decode cX8_counts 29 = .ok (.getfield 30, 3) := dk_180 0 30 (dk_at dksX8_counts_1 7 rfl rfl)
theorem dX8_counts_32 : decode cX8_counts 32 = .ok (.iconst 3, 1) := dk_6 (dk_at dksX8_counts_1 10 rfl rfl)
theorem dX8_counts_33 : decode cX8_counts 33 = .ok (.iload_n 1, 1) := dk_27 (dk_at dksX8_counts_1 11 rfl rfl)
theorem dX8_counts_34 : decode cX8_counts 34 = .ok (.imul, 1) := dk_104 (dk_at dksX8_counts_1 12 rfl rfl)
theorem dX8_counts_35 : decode cX8_counts 35 = .ok (.iload_n 2, 1) := dk_28 (dk_at dksX8_counts_1 13 rfl rfl)
theorem dX8_counts_36 : decode cX8_counts 36 = .ok (.iadd, 1) := dk_96 (dk_at dksX8_counts_1 14 rfl rfl)
theorem dX8_counts_37 : decode cX8_counts 37 = .ok (.iaload, 1) := dk_46 (dk_at dksX8_counts_1 15 rfl rfl)
theorem dX8_counts_38 : decode cX8_counts 38 = .ok (.ifCond .le 7, 3) := dk_158 0 7 (dk_at dksX8_counts_1 16 rfl rfl)
theorem dX8_counts_41 : decode cX8_counts 41 = .ok (.iconst 1, 1) := dk_4 (dk_at dksX8_counts_1 19 rfl rfl)
theorem dX8_counts_42 : decode cX8_counts 42 = .ok (.goto 4, 3) := dk_167 0 4 (dk_at dksX8_counts_1 20 rfl rfl)
theorem dX8_counts_45 : decode cX8_counts 45 = .ok (.iconst 0, 1) := dk_3 (dk_at dksX8_counts_1 23 rfl rfl)
theorem dX8_counts_46 : decode cX8_counts 46 = .ok (.iadd, 1) := dk_96 (dk_at dksX8_counts_2 0 rfl rfl)
theorem dX8_counts_47 : decode cX8_counts 47 = .ok (.iastore, 1) := dk_79 (dk_at dksX8_counts_2 1 rfl rfl)
theorem dX8_counts_48 : decode cX8_counts 48 = .ok (.iinc 2 1, 3) := dk_132 2 1 (dk_at dksX8_counts_2 2 rfl rfl)
theorem dX8_counts_51 : decode cX8_counts 51 = .ok (.goto (-35), 3) := dk_167 255 221 (dk_at dksX8_counts_2 5 rfl rfl)
theorem dX8_counts_54 : decode cX8_counts 54 = .ok (.iinc 1 1, 3) := dk_132 1 1 (dk_at dksX8_counts_2 8 rfl rfl)
theorem dX8_counts_57 : decode cX8_counts 57 = .ok (.goto (-55), 3) := dk_167 255 201 (dk_at dksX8_counts_2 11 rfl rfl)
theorem dX8_counts_60 : decode cX8_counts 60 = .ok (.return_, 1) := dk_177 (dk_at dksX8_counts_2 14 rfl rfl)
abbrev cX8_rests : ByteArray := prog_20_method_54_code
def yX8_rests : MethodName := ⟨RX8, "rests", "(I)I"⟩
def dkwX8_rests_1 : List UInt8 := [154, 0, 10, 42, 182, 1, 7, 167, 0, 7, 42, 182, 0, 244, 172]
abbrev dktX8_rests_1 : List UInt8 := dkwX8_rests_1 ++ []
def dkwX8_rests_0 : List UInt8 := [42, 3, 181, 0, 1, 27, 133, 9, 10, 184, 0, 153, 154, 0, 6, 16, 254, 172, 42, 182, 1, 4, 27]
abbrev dktX8_rests_0 : List UInt8 := dkwX8_rests_0 ++ dktX8_rests_1
theorem dksX8_rests_0 : cX8_rests.data.toList.drop 0 = dktX8_rests_0 := by decide +kernel
theorem dksX8_rests_1 : cX8_rests.data.toList.drop 23 = dktX8_rests_1 := dk_seg dksX8_rests_0 23 rfl rfl
theorem dX8_rests_0 : decode cX8_rests 0 = .ok (.aload_n 0, 1) := dk_42 (dk_at dksX8_rests_0 0 rfl rfl)
theorem dX8_rests_1 : decode cX8_rests 1 = .ok (.iconst 0, 1) := dk_3 (dk_at dksX8_rests_0 1 rfl rfl)
theorem dX8_rests_2 : decode cX8_rests 2 = .ok (.putfield 1, 3) := dk_181 0 1 (dk_at dksX8_rests_0 2 rfl rfl)
theorem dX8_rests_5 : decode cX8_rests 5 = .ok (.iload_n 1, 1) := dk_27 (dk_at dksX8_rests_0 5 rfl rfl)
theorem dX8_rests_6 : decode cX8_rests 6 = .ok (.i2l, 1) := dk_133 (dk_at dksX8_rests_0 6 rfl rfl)
theorem dX8_rests_7 : decode cX8_rests 7 = .ok (.lconst 0, 1) := dk_9 (dk_at dksX8_rests_0 7 rfl rfl)
theorem dX8_rests_8 : decode cX8_rests 8 = .ok (.lconst 1, 1) := dk_10 (dk_at dksX8_rests_0 8 rfl rfl)
theorem dX8_rests_9 : decode cX8_rests 9 = .ok (.invokestatic 153, 3) := dk_184 0 153 (dk_at dksX8_rests_0 9 rfl rfl)
theorem dX8_rests_12 : decode cX8_rests 12 = .ok (.ifCond .ne 6, 3) := dk_154 0 6 (dk_at dksX8_rests_0 12 rfl rfl)
theorem dX8_rests_15 : decode cX8_rests 15 = .ok (.bipush (-2), 2) := dk_16 254 (dk_at dksX8_rests_0 15 rfl rfl)
theorem dX8_rests_17 : decode cX8_rests 17 = .ok (.ireturn, 1) := dk_172 (dk_at dksX8_rests_0 17 rfl rfl)
theorem dX8_rests_18 : decode cX8_rests 18 = .ok (.aload_n 0, 1) := dk_42 (dk_at dksX8_rests_0 18 rfl rfl)
theorem dX8_rests_19 : decode cX8_rests 19 = .ok (.invokevirtual 260, 3) := dk_182 1 4 (dk_at dksX8_rests_0 19 rfl rfl)
theorem dX8_rests_22 : decode cX8_rests 22 = .ok (.iload_n 1, 1) := dk_27 (dk_at dksX8_rests_0 22 rfl rfl)
theorem dX8_rests_23 : decode cX8_rests 23 = .ok (.ifCond .ne 10, 3) := dk_154 0 10 (dk_at dksX8_rests_1 0 rfl rfl)
theorem dX8_rests_26 : decode cX8_rests 26 = .ok (.aload_n 0, 1) := dk_42 (dk_at dksX8_rests_1 3 rfl rfl)
theorem dX8_rests_27 : decode cX8_rests 27 = .ok (.invokevirtual 263, 3) := dk_182 1 7 (dk_at dksX8_rests_1 4 rfl rfl)
theorem dX8_rests_30 : decode cX8_rests 30 = .ok (.goto 7, 3) := dk_167 0 7 (dk_at dksX8_rests_1 7 rfl rfl)
theorem dX8_rests_33 : decode cX8_rests 33 = .ok (.aload_n 0, 1) := dk_42 (dk_at dksX8_rests_1 10 rfl rfl)
theorem dX8_rests_34 : decode cX8_rests 34 = .ok (.invokevirtual 244, 3) := dk_182 0 244 (dk_at dksX8_rests_1 11 rfl rfl)
theorem dX8_rests_37 : decode cX8_rests 37 = .ok (.ireturn, 1) := dk_172 (dk_at dksX8_rests_1 14 rfl rfl)
abbrev cX8_heavy : ByteArray := prog_20_method_53_code
def yX8_heavy : MethodName := ⟨RX8, "heavy", "()I"⟩
def dkwX8_heavy_4 : List UInt8 := [180, 0, 13, 16, 23, 27, 96, 46, 164, 0, 5, 27, 172, 132, 1, 1, 167, 255, 148, 2, 172]
abbrev dktX8_heavy_4 : List UInt8 := dkwX8_heavy_4 ++ []
def dkwX8_heavy_3 : List UInt8 := [21, 4, 96, 46, 96, 4, 100, 46, 167, 0, 4, 3, 96, 62, 132, 4, 1, 167, 255, 201, 29, 42]
abbrev dktX8_heavy_3 : List UInt8 := dkwX8_heavy_3 ++ dktX8_heavy_4
def dkwX8_heavy_2 : List UInt8 := [180, 0, 13, 16, 80, 21, 4, 96, 46, 158, 0, 26, 42, 180, 0, 13, 16, 15, 42, 180, 0, 13, 16, 80]
abbrev dktX8_heavy_2 : List UInt8 := dkwX8_heavy_2 ++ dktX8_heavy_3
def dkwX8_heavy_1 : List UInt8 := [167, 0, 83, 3, 62, 28, 4, 96, 54, 4, 21, 4, 6, 28, 6, 108, 4, 96, 104, 162, 0, 49, 29, 42]
abbrev dktX8_heavy_1 : List UInt8 := dkwX8_heavy_1 ++ dktX8_heavy_2
def dkwX8_heavy_0 : List UInt8 := [3, 60, 27, 42, 180, 0, 13, 16, 6, 46, 162, 0, 103, 42, 27, 182, 0, 255, 61, 28, 2, 160, 0, 6]
abbrev dktX8_heavy_0 : List UInt8 := dkwX8_heavy_0 ++ dktX8_heavy_1
theorem dksX8_heavy_0 : cX8_heavy.data.toList.drop 0 = dktX8_heavy_0 := by decide +kernel
theorem dksX8_heavy_1 : cX8_heavy.data.toList.drop 24 = dktX8_heavy_1 := dk_seg dksX8_heavy_0 24 rfl rfl
theorem dksX8_heavy_2 : cX8_heavy.data.toList.drop 48 = dktX8_heavy_2 := dk_seg dksX8_heavy_1 24 rfl rfl
theorem dksX8_heavy_3 : cX8_heavy.data.toList.drop 72 = dktX8_heavy_3 := dk_seg dksX8_heavy_2 24 rfl rfl
theorem dksX8_heavy_4 : cX8_heavy.data.toList.drop 94 = dktX8_heavy_4 := dk_seg dksX8_heavy_3 22 rfl rfl
theorem dX8_heavy_0 : decode cX8_heavy 0 = .ok (.iconst 0, 1) := dk_3 (dk_at dksX8_heavy_0 0 rfl rfl)
theorem dX8_heavy_1 : decode cX8_heavy 1 = .ok (.istore_n 1, 1) := dk_60 (dk_at dksX8_heavy_0 1 rfl rfl)
theorem dX8_heavy_2 : decode cX8_heavy 2 = .ok (.iload_n 1, 1) := dk_27 (dk_at dksX8_heavy_0 2 rfl rfl)
theorem dX8_heavy_3 : decode cX8_heavy 3 = .ok (.aload_n 0, 1) := dk_42 (dk_at dksX8_heavy_0 3 rfl rfl)
theorem dX8_heavy_4 : decode cX8_heavy 4 = .ok (.getfield 13, 3) := dk_180 0 13 (dk_at dksX8_heavy_0 4 rfl rfl)
theorem dX8_heavy_7 : decode cX8_heavy 7 = .ok (.bipush 6, 2) := dk_16 6 (dk_at dksX8_heavy_0 7 rfl rfl)
theorem dX8_heavy_9 : decode cX8_heavy 9 = .ok (.iaload, 1) := dk_46 (dk_at dksX8_heavy_0 9 rfl rfl)
theorem dX8_heavy_10 : decode cX8_heavy 10 = .ok (.if_icmp .ge 103, 3) := dk_162 0 103 (dk_at dksX8_heavy_0 10 rfl rfl)
theorem dX8_heavy_13 : decode cX8_heavy 13 = .ok (.aload_n 0, 1) := dk_42 (dk_at dksX8_heavy_0 13 rfl rfl)
theorem dX8_heavy_14 : decode cX8_heavy 14 = .ok (.iload_n 1, 1) := dk_27 (dk_at dksX8_heavy_0 14 rfl rfl)
theorem dX8_heavy_15 : decode cX8_heavy 15 = .ok (.invokevirtual 255, 3) := dk_182 0 255 (dk_at dksX8_heavy_0 15 rfl rfl)
theorem dX8_heavy_18 : decode cX8_heavy 18 = .ok (.istore_n 2, 1) := dk_61 (dk_at dksX8_heavy_0 18 rfl rfl)
theorem dX8_heavy_19 : decode cX8_heavy 19 = .ok (.iload_n 2, 1) := dk_28 (dk_at dksX8_heavy_0 19 rfl rfl)
theorem dX8_heavy_20 : decode cX8_heavy 20 = .ok (.iconst (-1), 1) := dk_2 (dk_at dksX8_heavy_0 20 rfl rfl)
theorem dX8_heavy_21 : decode cX8_heavy 21 = .ok (.if_icmp .ne 6, 3) := dk_160 0 6 (dk_at dksX8_heavy_0 21 rfl rfl)
theorem dX8_heavy_24 : decode cX8_heavy 24 = .ok (.goto 83, 3) := dk_167 0 83 (dk_at dksX8_heavy_1 0 rfl rfl)
theorem dX8_heavy_27 : decode cX8_heavy 27 = .ok (.iconst 0, 1) := dk_3 (dk_at dksX8_heavy_1 3 rfl rfl)
theorem dX8_heavy_28 : decode cX8_heavy 28 = .ok (.istore_n 3, 1) := dk_62 (dk_at dksX8_heavy_1 4 rfl rfl)
theorem dX8_heavy_29 : decode cX8_heavy 29 = .ok (.iload_n 2, 1) := dk_28 (dk_at dksX8_heavy_1 5 rfl rfl)
theorem dX8_heavy_30 : decode cX8_heavy 30 = .ok (.iconst 1, 1) := dk_4 (dk_at dksX8_heavy_1 6 rfl rfl)
theorem dX8_heavy_31 : decode cX8_heavy 31 = .ok (.iadd, 1) := dk_96 (dk_at dksX8_heavy_1 7 rfl rfl)
theorem dX8_heavy_32 : decode cX8_heavy 32 = .ok (.istore 4, 2) := dk_54 4 (dk_at dksX8_heavy_1 8 rfl rfl)
theorem dX8_heavy_34 : decode cX8_heavy 34 = .ok (.iload 4, 2) := dk_21 4 (dk_at dksX8_heavy_1 10 rfl rfl)
theorem dX8_heavy_36 : decode cX8_heavy 36 = .ok (.iconst 3, 1) := dk_6 (dk_at dksX8_heavy_1 12 rfl rfl)
theorem dX8_heavy_37 : decode cX8_heavy 37 = .ok (.iload_n 2, 1) := dk_28 (dk_at dksX8_heavy_1 13 rfl rfl)
theorem dX8_heavy_38 : decode cX8_heavy 38 = .ok (.iconst 3, 1) := dk_6 (dk_at dksX8_heavy_1 14 rfl rfl)
theorem dX8_heavy_39 : decode cX8_heavy 39 = .ok (.idiv, 1) := dk_108 (dk_at dksX8_heavy_1 15 rfl rfl)
theorem dX8_heavy_40 : decode cX8_heavy 40 = .ok (.iconst 1, 1) := dk_4 (dk_at dksX8_heavy_1 16 rfl rfl)
theorem dX8_heavy_41 : decode cX8_heavy 41 = .ok (.iadd, 1) := dk_96 (dk_at dksX8_heavy_1 17 rfl rfl)
theorem dX8_heavy_42 : decode cX8_heavy 42 = .ok (.imul, 1) := dk_104 (dk_at dksX8_heavy_1 18 rfl rfl)
theorem dX8_heavy_43 : decode cX8_heavy 43 = .ok (.if_icmp .ge 49, 3) := dk_162 0 49 (dk_at dksX8_heavy_1 19 rfl rfl)
theorem dX8_heavy_46 : decode cX8_heavy 46 = .ok (.iload_n 3, 1) := dk_29 (dk_at dksX8_heavy_1 22 rfl rfl)
theorem dX8_heavy_47 : decode cX8_heavy 47 = .ok (.aload_n 0, 1) := dk_42 (dk_at dksX8_heavy_1 23 rfl rfl)
theorem dX8_heavy_48 : decode cX8_heavy 48 = .ok (.getfield 13, 3) := dk_180 0 13 (dk_at dksX8_heavy_2 0 rfl rfl)
theorem dX8_heavy_51 : decode cX8_heavy 51 = .ok (.bipush 80, 2) := dk_16 80 (dk_at dksX8_heavy_2 3 rfl rfl)
theorem dX8_heavy_53 : decode cX8_heavy 53 = .ok (.iload 4, 2) := dk_21 4 (dk_at dksX8_heavy_2 5 rfl rfl)
theorem dX8_heavy_55 : decode cX8_heavy 55 = .ok (.iadd, 1) := dk_96 (dk_at dksX8_heavy_2 7 rfl rfl)
theorem dX8_heavy_56 : decode cX8_heavy 56 = .ok (.iaload, 1) := dk_46 (dk_at dksX8_heavy_2 8 rfl rfl)
theorem dX8_heavy_57 : decode cX8_heavy 57 = .ok (.ifCond .le 26, 3) := dk_158 0 26 (dk_at dksX8_heavy_2 9 rfl rfl)
theorem dX8_heavy_60 : decode cX8_heavy 60 = .ok (.aload_n 0, 1) := dk_42 (dk_at dksX8_heavy_2 12 rfl rfl)
theorem dX8_heavy_61 : decode cX8_heavy 61 = .ok (.getfield 13, 3) := dk_180 0 13 (dk_at dksX8_heavy_2 13 rfl rfl)
theorem dX8_heavy_64 : decode cX8_heavy 64 = .ok (.bipush 15, 2) := dk_16 15 (dk_at dksX8_heavy_2 16 rfl rfl)
theorem dX8_heavy_66 : decode cX8_heavy 66 = .ok (.aload_n 0, 1) := dk_42 (dk_at dksX8_heavy_2 18 rfl rfl)
theorem dX8_heavy_67 : decode cX8_heavy 67 = .ok (.getfield 13, 3) := dk_180 0 13 (dk_at dksX8_heavy_2 19 rfl rfl)
theorem dX8_heavy_70 : decode cX8_heavy 70 = .ok (.bipush 80, 2) := dk_16 80 (dk_at dksX8_heavy_2 22 rfl rfl)
theorem dX8_heavy_72 : decode cX8_heavy 72 = .ok (.iload 4, 2) := dk_21 4 (dk_at dksX8_heavy_3 0 rfl rfl)
theorem dX8_heavy_74 : decode cX8_heavy 74 = .ok (.iadd, 1) := dk_96 (dk_at dksX8_heavy_3 2 rfl rfl)
theorem dX8_heavy_75 : decode cX8_heavy 75 = .ok (.iaload, 1) := dk_46 (dk_at dksX8_heavy_3 3 rfl rfl)
theorem dX8_heavy_76 : decode cX8_heavy 76 = .ok (.iadd, 1) := dk_96 (dk_at dksX8_heavy_3 4 rfl rfl)
theorem dX8_heavy_77 : decode cX8_heavy 77 = .ok (.iconst 1, 1) := dk_4 (dk_at dksX8_heavy_3 5 rfl rfl)
theorem dX8_heavy_78 : decode cX8_heavy 78 = .ok (.isub, 1) := dk_100 (dk_at dksX8_heavy_3 6 rfl rfl)
theorem dX8_heavy_79 : decode cX8_heavy 79 = .ok (.iaload, 1) := dk_46 (dk_at dksX8_heavy_3 7 rfl rfl)
theorem dX8_heavy_80 : decode cX8_heavy 80 = .ok (.goto 4, 3) := dk_167 0 4 (dk_at dksX8_heavy_3 8 rfl rfl)
theorem dX8_heavy_83 : decode cX8_heavy 83 = .ok (.iconst 0, 1) := dk_3 (dk_at dksX8_heavy_3 11 rfl rfl)
theorem dX8_heavy_84 : decode cX8_heavy 84 = .ok (.iadd, 1) := dk_96 (dk_at dksX8_heavy_3 12 rfl rfl)
theorem dX8_heavy_85 : decode cX8_heavy 85 = .ok (.istore_n 3, 1) := dk_62 (dk_at dksX8_heavy_3 13 rfl rfl)
theorem dX8_heavy_86 : decode cX8_heavy 86 = .ok (.iinc 4 1, 3) := dk_132 4 1 (dk_at dksX8_heavy_3 14 rfl rfl)
theorem dX8_heavy_89 : decode cX8_heavy 89 = .ok (.goto (-55), 3) := dk_167 255 201 (dk_at dksX8_heavy_3 17 rfl rfl)
theorem dX8_heavy_92 : decode cX8_heavy 92 = .ok (.iload_n 3, 1) := dk_29 (dk_at dksX8_heavy_3 20 rfl rfl)
theorem dX8_heavy_93 : decode cX8_heavy 93 = .ok (.aload_n 0, 1) := dk_42 (dk_at dksX8_heavy_3 21 rfl rfl)
theorem dX8_heavy_94 : decode cX8_heavy 94 = .ok (.getfield 13, 3) := dk_180 0 13 (dk_at dksX8_heavy_4 0 rfl rfl)
theorem dX8_heavy_97 : decode cX8_heavy 97 = .ok (.bipush 23, 2) := dk_16 23 (dk_at dksX8_heavy_4 3 rfl rfl)
theorem dX8_heavy_99 : decode cX8_heavy 99 = .ok (.iload_n 1, 1) := dk_27 (dk_at dksX8_heavy_4 5 rfl rfl)
theorem dX8_heavy_100 : decode cX8_heavy 100 = .ok (.iadd, 1) := dk_96 (dk_at dksX8_heavy_4 6 rfl rfl)
theorem dX8_heavy_101 : decode cX8_heavy 101 = .ok (.iaload, 1) := dk_46 (dk_at dksX8_heavy_4 7 rfl rfl)
theorem dX8_heavy_102 : decode cX8_heavy 102 = .ok (.if_icmp .le 5, 3) := dk_164 0 5 (dk_at dksX8_heavy_4 8 rfl rfl)
theorem dX8_heavy_105 : decode cX8_heavy 105 = .ok (.iload_n 1, 1) := dk_27 (dk_at dksX8_heavy_4 11 rfl rfl)
theorem dX8_heavy_106 : decode cX8_heavy 106 = .ok (.ireturn, 1) := dk_172 (dk_at dksX8_heavy_4 12 rfl rfl)
theorem dX8_heavy_107 : decode cX8_heavy 107 = .ok (.iinc 1 1, 3) := dk_132 1 1 (dk_at dksX8_heavy_4 13 rfl rfl)
theorem dX8_heavy_110 : decode cX8_heavy 110 = .ok (.goto (-108), 3) := dk_167 255 148 (dk_at dksX8_heavy_4 16 rfl rfl)
theorem dX8_heavy_113 : decode cX8_heavy 113 = .ok (.iconst (-1), 1) := dk_2 (dk_at dksX8_heavy_4 19 rfl rfl)
theorem dX8_heavy_114 : decode cX8_heavy 114 = .ok (.ireturn, 1) := dk_172 (dk_at dksX8_heavy_4 20 rfl rfl)
abbrev cX8_brokenMust : ByteArray := prog_20_method_39_code
def yX8_brokenMust : MethodName := ⟨RX8, "brokenMust", "()I"⟩
def dkwX8_brokenMust_3 : List UInt8 := [16, 69, 27, 96, 46, 164, 0, 5, 27, 172, 132, 1, 1, 167, 255, 173, 2, 172]
abbrev dktX8_brokenMust_3 : List UInt8 := dkwX8_brokenMust_3 ++ []
def dkwX8_brokenMust_2 : List UInt8 := [154, 0, 19, 28, 42, 180, 0, 13, 16, 69, 27, 96, 46, 162, 0, 21, 167, 0, 16, 28, 42, 180, 0, 13]
abbrev dktX8_brokenMust_2 : List UInt8 := dkwX8_brokenMust_2 ++ dktX8_brokenMust_3
def dkwX8_brokenMust_1 : List UInt8 := [42, 180, 0, 33, 42, 180, 0, 13, 16, 63, 27, 96, 46, 46, 61, 42, 180, 0, 13, 16, 57, 27, 96, 46]
abbrev dktX8_brokenMust_1 : List UInt8 := dkwX8_brokenMust_1 ++ dktX8_brokenMust_2
def dkwX8_brokenMust_0 : List UInt8 := [3, 60, 27, 42, 180, 0, 13, 16, 56, 46, 162, 0, 78, 27, 42, 180, 0, 39, 160, 0, 6, 167, 0, 61]
abbrev dktX8_brokenMust_0 : List UInt8 := dkwX8_brokenMust_0 ++ dktX8_brokenMust_1
theorem dksX8_brokenMust_0 : cX8_brokenMust.data.toList.drop 0 = dktX8_brokenMust_0 := by decide +kernel
theorem dksX8_brokenMust_1 : cX8_brokenMust.data.toList.drop 24 = dktX8_brokenMust_1 := dk_seg dksX8_brokenMust_0 24 rfl rfl
theorem dksX8_brokenMust_2 : cX8_brokenMust.data.toList.drop 48 = dktX8_brokenMust_2 := dk_seg dksX8_brokenMust_1 24 rfl rfl
theorem dksX8_brokenMust_3 : cX8_brokenMust.data.toList.drop 72 = dktX8_brokenMust_3 := dk_seg dksX8_brokenMust_2 24 rfl rfl
theorem dX8_brokenMust_0 : decode cX8_brokenMust 0 = .ok (.iconst 0, 1) := dk_3 (dk_at dksX8_brokenMust_0 0 rfl rfl)
theorem dX8_brokenMust_1 : decode cX8_brokenMust 1 = .ok (.istore_n 1, 1) := dk_60 (dk_at dksX8_brokenMust_0 1 rfl rfl)
theorem dX8_brokenMust_2 : decode cX8_brokenMust 2 = .ok (.iload_n 1, 1) := dk_27 (dk_at dksX8_brokenMust_0 2 rfl rfl)
theorem dX8_brokenMust_3 : decode cX8_brokenMust 3 = .ok (.aload_n 0, 1) := dk_42 (dk_at dksX8_brokenMust_0 3 rfl rfl)
theorem dX8_brokenMust_4 : decode cX8_brokenMust 4 = .ok (.getfield 13, 3) := dk_180 0 13 (dk_at dksX8_brokenMust_0 4 rfl rfl)
theorem dX8_brokenMust_7 : decode cX8_brokenMust 7 = .ok (.bipush 56, 2) := dk_16 56 (dk_at dksX8_brokenMust_0 7 rfl rfl)
theorem dX8_brokenMust_9 : decode cX8_brokenMust 9 = .ok (.iaload, 1) := dk_46 (dk_at dksX8_brokenMust_0 9 rfl rfl)
theorem dX8_brokenMust_10 : decode cX8_brokenMust 10 = .ok (.if_icmp .ge 78, 3) := dk_162 0 78 (dk_at dksX8_brokenMust_0 10 rfl rfl)
theorem dX8_brokenMust_13 : decode cX8_brokenMust 13 = .ok (.iload_n 1, 1) := dk_27 (dk_at dksX8_brokenMust_0 13 rfl rfl)
theorem dX8_brokenMust_14 : decode cX8_brokenMust 14 = .ok (.aload_n 0, 1) := dk_42 (dk_at dksX8_brokenMust_0 14 rfl rfl)
theorem dX8_brokenMust_15 : decode cX8_brokenMust 15 = .ok (.getfield 39, 3) := dk_180 0 39 (dk_at dksX8_brokenMust_0 15 rfl rfl)
theorem dX8_brokenMust_18 : decode cX8_brokenMust 18 = .ok (.if_icmp .ne 6, 3) := dk_160 0 6 (dk_at dksX8_brokenMust_0 18 rfl rfl)
theorem dX8_brokenMust_21 : decode cX8_brokenMust 21 = .ok (.goto 61, 3) := dk_167 0 61 (dk_at dksX8_brokenMust_0 21 rfl rfl)
theorem dX8_brokenMust_24 : decode cX8_brokenMust 24 = .ok (.aload_n 0, 1) := dk_42 (dk_at dksX8_brokenMust_1 0 rfl rfl)
theorem dX8_brokenMust_25 : decode cX8_brokenMust 25 = .ok (.getfield 33, 3) := dk_180 0 33 (dk_at dksX8_brokenMust_1 1 rfl rfl)
theorem dX8_brokenMust_28 : decode cX8_brokenMust 28 = .ok (.aload_n 0, 1) := dk_42 (dk_at dksX8_brokenMust_1 4 rfl rfl)
theorem dX8_brokenMust_29 : decode cX8_brokenMust 29 = .ok (.getfield 13, 3) := dk_180 0 13 (dk_at dksX8_brokenMust_1 5 rfl rfl)
theorem dX8_brokenMust_32 : decode cX8_brokenMust 32 = .ok (.bipush 63, 2) := dk_16 63 (dk_at dksX8_brokenMust_1 8 rfl rfl)
theorem dX8_brokenMust_34 : decode cX8_brokenMust 34 = .ok (.iload_n 1, 1) := dk_27 (dk_at dksX8_brokenMust_1 10 rfl rfl)
theorem dX8_brokenMust_35 : decode cX8_brokenMust 35 = .ok (.iadd, 1) := dk_96 (dk_at dksX8_brokenMust_1 11 rfl rfl)
theorem dX8_brokenMust_36 : decode cX8_brokenMust 36 = .ok (.iaload, 1) := dk_46 (dk_at dksX8_brokenMust_1 12 rfl rfl)
theorem dX8_brokenMust_37 : decode cX8_brokenMust 37 = .ok (.iaload, 1) := dk_46 (dk_at dksX8_brokenMust_1 13 rfl rfl)
theorem dX8_brokenMust_38 : decode cX8_brokenMust 38 = .ok (.istore_n 2, 1) := dk_61 (dk_at dksX8_brokenMust_1 14 rfl rfl)
theorem dX8_brokenMust_39 : decode cX8_brokenMust 39 = .ok (.aload_n 0, 1) := dk_42 (dk_at dksX8_brokenMust_1 15 rfl rfl)
theorem dX8_brokenMust_40 : decode cX8_brokenMust 40 = .ok (.getfield 13, 3) := dk_180 0 13 (dk_at dksX8_brokenMust_1 16 rfl rfl)
theorem dX8_brokenMust_43 : decode cX8_brokenMust 43 = .ok (.bipush 57, 2) := dk_16 57 (dk_at dksX8_brokenMust_1 19 rfl rfl)
theorem dX8_brokenMust_45 : decode cX8_brokenMust 45 = .ok (.iload_n 1, 1) := dk_27 (dk_at dksX8_brokenMust_1 21 rfl rfl)
theorem dX8_brokenMust_46 : decode cX8_brokenMust 46 = .ok (.iadd, 1) := dk_96 (dk_at dksX8_brokenMust_1 22 rfl rfl)
theorem dX8_brokenMust_47 : decode cX8_brokenMust 47 = .ok (.iaload, 1) := dk_46 (dk_at dksX8_brokenMust_1 23 rfl rfl)
theorem dX8_brokenMust_48 : decode cX8_brokenMust 48 = .ok (.ifCond .ne 19, 3) := dk_154 0 19 (dk_at dksX8_brokenMust_2 0 rfl rfl)
theorem dX8_brokenMust_51 : decode cX8_brokenMust 51 = .ok (.iload_n 2, 1) := dk_28 (dk_at dksX8_brokenMust_2 3 rfl rfl)
theorem dX8_brokenMust_52 : decode cX8_brokenMust 52 = .ok (.aload_n 0, 1) := dk_42 (dk_at dksX8_brokenMust_2 4 rfl rfl)
theorem dX8_brokenMust_53 : decode cX8_brokenMust 53 = .ok (.getfield 13, 3) := dk_180 0 13 (dk_at dksX8_brokenMust_2 5 rfl rfl)
theorem dX8_brokenMust_56 : decode cX8_brokenMust 56 = .ok (.bipush 69, 2) := dk_16 69 (dk_at dksX8_brokenMust_2 8 rfl rfl)
theorem dX8_brokenMust_58 : decode cX8_brokenMust 58 = .ok (.iload_n 1, 1) := dk_27 (dk_at dksX8_brokenMust_2 10 rfl rfl)
theorem dX8_brokenMust_59 : decode cX8_brokenMust 59 = .ok (.iadd, 1) := dk_96 (dk_at dksX8_brokenMust_2 11 rfl rfl)
theorem dX8_brokenMust_60 : decode cX8_brokenMust 60 = .ok (.iaload, 1) := dk_46 (dk_at dksX8_brokenMust_2 12 rfl rfl)
theorem dX8_brokenMust_61 : decode cX8_brokenMust 61 = .ok (.if_icmp .ge 21, 3) := dk_162 0 21 (dk_at dksX8_brokenMust_2 13 rfl rfl)
theorem dX8_brokenMust_64 : decode cX8_brokenMust 64 = .ok (.goto 16, 3) := dk_167 0 16 (dk_at dksX8_brokenMust_2 16 rfl rfl)
theorem dX8_brokenMust_67 : decode cX8_brokenMust 67 = .ok (.iload_n 2, 1) := dk_28 (dk_at dksX8_brokenMust_2 19 rfl rfl)
theorem dX8_brokenMust_68 : decode cX8_brokenMust 68 = .ok (.aload_n 0, 1) := dk_42 (dk_at dksX8_brokenMust_2 20 rfl rfl)
theorem dX8_brokenMust_69 : decode cX8_brokenMust 69 = .ok (.getfield 13, 3) := dk_180 0 13 (dk_at dksX8_brokenMust_2 21 rfl rfl)
theorem dX8_brokenMust_72 : decode cX8_brokenMust 72 = .ok (.bipush 69, 2) := dk_16 69 (dk_at dksX8_brokenMust_3 0 rfl rfl)
theorem dX8_brokenMust_74 : decode cX8_brokenMust 74 = .ok (.iload_n 1, 1) := dk_27 (dk_at dksX8_brokenMust_3 2 rfl rfl)
theorem dX8_brokenMust_75 : decode cX8_brokenMust 75 = .ok (.iadd, 1) := dk_96 (dk_at dksX8_brokenMust_3 3 rfl rfl)
theorem dX8_brokenMust_76 : decode cX8_brokenMust 76 = .ok (.iaload, 1) := dk_46 (dk_at dksX8_brokenMust_3 4 rfl rfl)
theorem dX8_brokenMust_77 : decode cX8_brokenMust 77 = .ok (.if_icmp .le 5, 3) := dk_164 0 5 (dk_at dksX8_brokenMust_3 5 rfl rfl)
theorem dX8_brokenMust_80 : decode cX8_brokenMust 80 = .ok (.iload_n 1, 1) := dk_27 (dk_at dksX8_brokenMust_3 8 rfl rfl)
theorem dX8_brokenMust_81 : decode cX8_brokenMust 81 = .ok (.ireturn, 1) := dk_172 (dk_at dksX8_brokenMust_3 9 rfl rfl)
theorem dX8_brokenMust_82 : decode cX8_brokenMust 82 = .ok (.iinc 1 1, 3) := dk_132 1 1 (dk_at dksX8_brokenMust_3 10 rfl rfl)
theorem dX8_brokenMust_85 : decode cX8_brokenMust 85 = .ok (.goto (-83), 3) := dk_167 255 173 (dk_at dksX8_brokenMust_3 13 rfl rfl)
theorem dX8_brokenMust_88 : decode cX8_brokenMust 88 = .ok (.iconst (-1), 1) := dk_2 (dk_at dksX8_brokenMust_3 16 rfl rfl)
theorem dX8_brokenMust_89 : decode cX8_brokenMust 89 = .ok (.ireturn, 1) := dk_172 (dk_at dksX8_brokenMust_3 17 rfl rfl)
abbrev cX8_may : ByteArray := prog_20_method_55_code
def yX8_may : MethodName := ⟨RX8, "may", "(II)I"⟩
def dkwX8_may_0 : List UInt8 := [42, 3, 181, 0, 1, 42, 182, 1, 4, 42, 27, 28, 182, 1, 10, 172]
abbrev dktX8_may_0 : List UInt8 := dkwX8_may_0 ++ []
theorem dksX8_may_0 : cX8_may.data.toList.drop 0 = dktX8_may_0 := by decide +kernel
theorem dX8_may_0 : decode cX8_may 0 = .ok (.aload_n 0, 1) := dk_42 (dk_at dksX8_may_0 0 rfl rfl)
theorem dX8_may_1 : decode cX8_may 1 = .ok (.iconst 0, 1) := dk_3 (dk_at dksX8_may_0 1 rfl rfl)
theorem dX8_may_2 : decode cX8_may 2 = .ok (.putfield 1, 3) := dk_181 0 1 (dk_at dksX8_may_0 2 rfl rfl)
theorem dX8_may_5 : decode cX8_may 5 = .ok (.aload_n 0, 1) := dk_42 (dk_at dksX8_may_0 5 rfl rfl)
theorem dX8_may_6 : decode cX8_may 6 = .ok (.invokevirtual 260, 3) := dk_182 1 4 (dk_at dksX8_may_0 6 rfl rfl)
theorem dX8_may_9 : decode cX8_may 9 = .ok (.aload_n 0, 1) := dk_42 (dk_at dksX8_may_0 9 rfl rfl)
theorem dX8_may_10 : decode cX8_may 10 = .ok (.iload_n 1, 1) := dk_27 (dk_at dksX8_may_0 10 rfl rfl)
theorem dX8_may_11 : decode cX8_may 11 = .ok (.iload_n 2, 1) := dk_28 (dk_at dksX8_may_0 11 rfl rfl)
theorem dX8_may_12 : decode cX8_may 12 = .ok (.invokevirtual 266, 3) := dk_182 1 10 (dk_at dksX8_may_0 12 rfl rfl)
theorem dX8_may_15 : decode cX8_may 15 = .ok (.ireturn, 1) := dk_172 (dk_at dksX8_may_0 15 rfl rfl)
abbrev cX8_mayCarry : ByteArray := prog_20_method_42_code
def yX8_mayCarry : MethodName := ⟨RX8, "mayCarry", "(II)I"⟩
def dkwX8_mayCarry_9 : List UInt8 := [16, 9, 167, 0, 4, 3, 172]
abbrev dktX8_mayCarry_9 : List UInt8 := dkwX8_mayCarry_9 ++ []
def dkwX8_mayCarry_8 : List UInt8 := [153, 0, 6, 16, 8, 172, 42, 180, 0, 211, 184, 0, 247, 42, 180, 0, 13, 16, 76, 46, 161, 0, 8]
abbrev dktX8_mayCarry_8 : List UInt8 := dkwX8_mayCarry_8 ++ dktX8_mayCarry_9
def dkwX8_mayCarry_7 : List UInt8 := [54, 4, 42, 180, 0, 33, 27, 92, 46, 4, 96, 79, 42, 180, 0, 33, 28, 92, 46, 4, 100, 79, 21, 4]
abbrev dktX8_mayCarry_7 : List UInt8 := dkwX8_mayCarry_7 ++ dktX8_mayCarry_8
def dkwX8_mayCarry_6 : List UInt8 := [42, 180, 0, 33, 28, 92, 46, 4, 96, 79, 42, 182, 0, 244, 2, 159, 0, 7, 4, 167, 0, 4, 3]
abbrev dktX8_mayCarry_6 : List UInt8 := dkwX8_mayCarry_6 ++ dktX8_mayCarry_7
def dkwX8_mayCarry_5 : List UInt8 := [180, 0, 33, 28, 46, 182, 0, 240, 153, 0, 6, 16, 7, 172, 42, 180, 0, 33, 27, 92, 46, 4, 100, 79]
abbrev dktX8_mayCarry_5 : List UInt8 := dkwX8_mayCarry_5 ++ dktX8_mayCarry_6
def dkwX8_mayCarry_4 : List UInt8 := [46, 182, 0, 236, 153, 0, 6, 16, 6, 172, 42, 29, 27, 28, 42, 180, 0, 33, 27, 46, 4, 100, 42]
abbrev dktX8_mayCarry_4 : List UInt8 := dkwX8_mayCarry_4 ++ dktX8_mayCarry_5
def dkwX8_mayCarry_3 : List UInt8 := [182, 0, 232, 153, 0, 5, 8, 172, 42, 28, 42, 180, 0, 33, 28, 46, 42, 180, 0, 13, 16, 15, 29, 96]
abbrev dktX8_mayCarry_3 : List UInt8 := dkwX8_mayCarry_3 ++ dktX8_mayCarry_4
def dkwX8_mayCarry_2 : List UInt8 := [6, 172, 42, 180, 0, 33, 28, 46, 42, 180, 0, 13, 4, 28, 96, 46, 160, 0, 5, 7, 172, 42, 27, 28]
abbrev dktX8_mayCarry_2 : List UInt8 := dkwX8_mayCarry_2 ++ dktX8_mayCarry_3
def dkwX8_mayCarry_1 : List UInt8 := [180, 0, 33, 27, 46, 154, 0, 5, 5, 172, 42, 27, 182, 0, 226, 62, 42, 29, 182, 0, 229, 153, 0, 5]
abbrev dktX8_mayCarry_1 : List UInt8 := dkwX8_mayCarry_1 ++ dktX8_mayCarry_2
def dkwX8_mayCarry_0 : List UInt8 := [42, 27, 182, 0, 223, 153, 0, 16, 42, 28, 182, 0, 223, 153, 0, 8, 27, 28, 160, 0, 5, 4, 172, 42]
abbrev dktX8_mayCarry_0 : List UInt8 := dkwX8_mayCarry_0 ++ dktX8_mayCarry_1
theorem dksX8_mayCarry_0 : cX8_mayCarry.data.toList.drop 0 = dktX8_mayCarry_0 := by decide +kernel
theorem dksX8_mayCarry_1 : cX8_mayCarry.data.toList.drop 24 = dktX8_mayCarry_1 := dk_seg dksX8_mayCarry_0 24 rfl rfl
theorem dksX8_mayCarry_2 : cX8_mayCarry.data.toList.drop 48 = dktX8_mayCarry_2 := dk_seg dksX8_mayCarry_1 24 rfl rfl
theorem dksX8_mayCarry_3 : cX8_mayCarry.data.toList.drop 72 = dktX8_mayCarry_3 := dk_seg dksX8_mayCarry_2 24 rfl rfl
theorem dksX8_mayCarry_4 : cX8_mayCarry.data.toList.drop 96 = dktX8_mayCarry_4 := dk_seg dksX8_mayCarry_3 24 rfl rfl
theorem dksX8_mayCarry_5 : cX8_mayCarry.data.toList.drop 119 = dktX8_mayCarry_5 := dk_seg dksX8_mayCarry_4 23 rfl rfl
theorem dksX8_mayCarry_6 : cX8_mayCarry.data.toList.drop 143 = dktX8_mayCarry_6 := dk_seg dksX8_mayCarry_5 24 rfl rfl
theorem dksX8_mayCarry_7 : cX8_mayCarry.data.toList.drop 166 = dktX8_mayCarry_7 := dk_seg dksX8_mayCarry_6 23 rfl rfl
theorem dksX8_mayCarry_8 : cX8_mayCarry.data.toList.drop 190 = dktX8_mayCarry_8 := dk_seg dksX8_mayCarry_7 24 rfl rfl
theorem dksX8_mayCarry_9 : cX8_mayCarry.data.toList.drop 213 = dktX8_mayCarry_9 := dk_seg dksX8_mayCarry_8 23 rfl rfl
theorem dX8_mayCarry_0 : decode cX8_mayCarry 0 = .ok (.aload_n 0, 1) := dk_42 (dk_at dksX8_mayCarry_0 0 rfl rfl)
theorem dX8_mayCarry_1 : decode cX8_mayCarry 1 = .ok (.iload_n 1, 1) := dk_27 (dk_at dksX8_mayCarry_0 1 rfl rfl)
theorem dX8_mayCarry_2 : decode cX8_mayCarry 2 = .ok (.invokevirtual 223, 3) := dk_182 0 223 (dk_at dksX8_mayCarry_0 2 rfl rfl)
theorem dX8_mayCarry_5 : decode cX8_mayCarry 5 = .ok (.ifCond .eq 16, 3) := dk_153 0 16 (dk_at dksX8_mayCarry_0 5 rfl rfl)
theorem dX8_mayCarry_8 : decode cX8_mayCarry 8 = .ok (.aload_n 0, 1) := dk_42 (dk_at dksX8_mayCarry_0 8 rfl rfl)
theorem dX8_mayCarry_9 : decode cX8_mayCarry 9 = .ok (.iload_n 2, 1) := dk_28 (dk_at dksX8_mayCarry_0 9 rfl rfl)
theorem dX8_mayCarry_10 : decode cX8_mayCarry 10 = .ok (.invokevirtual 223, 3) := dk_182 0 223 (dk_at dksX8_mayCarry_0 10 rfl rfl)
theorem dX8_mayCarry_13 : decode cX8_mayCarry 13 = .ok (.ifCond .eq 8, 3) := dk_153 0 8 (dk_at dksX8_mayCarry_0 13 rfl rfl)
theorem dX8_mayCarry_16 : decode cX8_mayCarry 16 = .ok (.iload_n 1, 1) := dk_27 (dk_at dksX8_mayCarry_0 16 rfl rfl)
theorem dX8_mayCarry_17 : decode cX8_mayCarry 17 = .ok (.iload_n 2, 1) := dk_28 (dk_at dksX8_mayCarry_0 17 rfl rfl)
theorem dX8_mayCarry_18 : decode cX8_mayCarry 18 = .ok (.if_icmp .ne 5, 3) := dk_160 0 5 (dk_at dksX8_mayCarry_0 18 rfl rfl)
theorem dX8_mayCarry_21 : decode cX8_mayCarry 21 = .ok (.iconst 1, 1) := dk_4 (dk_at dksX8_mayCarry_0 21 rfl rfl)
theorem dX8_mayCarry_22 : decode cX8_mayCarry 22 = .ok (.ireturn, 1) := dk_172 (dk_at dksX8_mayCarry_0 22 rfl rfl)
theorem dX8_mayCarry_23 : decode cX8_mayCarry 23 = .ok (.aload_n 0, 1) := dk_42 (dk_at dksX8_mayCarry_0 23 rfl rfl)
theorem dX8_mayCarry_24 : decode cX8_mayCarry 24 = .ok (.getfield 33, 3) := dk_180 0 33 (dk_at dksX8_mayCarry_1 0 rfl rfl)
theorem dX8_mayCarry_27 : decode cX8_mayCarry 27 = .ok (.iload_n 1, 1) := dk_27 (dk_at dksX8_mayCarry_1 3 rfl rfl)
theorem dX8_mayCarry_28 : decode cX8_mayCarry 28 = .ok (.iaload, 1) := dk_46 (dk_at dksX8_mayCarry_1 4 rfl rfl)
theorem dX8_mayCarry_29 : decode cX8_mayCarry 29 = .ok (.ifCond .ne 5, 3) := dk_154 0 5 (dk_at dksX8_mayCarry_1 5 rfl rfl)
theorem dX8_mayCarry_32 : decode cX8_mayCarry 32 = .ok (.iconst 2, 1) := dk_5 (dk_at dksX8_mayCarry_1 8 rfl rfl)
theorem dX8_mayCarry_33 : decode cX8_mayCarry 33 = .ok (.ireturn, 1) := dk_172 (dk_at dksX8_mayCarry_1 9 rfl rfl)
theorem dX8_mayCarry_34 : decode cX8_mayCarry 34 = .ok (.aload_n 0, 1) := dk_42 (dk_at dksX8_mayCarry_1 10 rfl rfl)
theorem dX8_mayCarry_35 : decode cX8_mayCarry 35 = .ok (.iload_n 1, 1) := dk_27 (dk_at dksX8_mayCarry_1 11 rfl rfl)
theorem dX8_mayCarry_36 : decode cX8_mayCarry 36 = .ok (.invokevirtual 226, 3) := dk_182 0 226 (dk_at dksX8_mayCarry_1 12 rfl rfl)
theorem dX8_mayCarry_39 : decode cX8_mayCarry 39 = .ok (.istore_n 3, 1) := dk_62 (dk_at dksX8_mayCarry_1 15 rfl rfl)
theorem dX8_mayCarry_40 : decode cX8_mayCarry 40 = .ok (.aload_n 0, 1) := dk_42 (dk_at dksX8_mayCarry_1 16 rfl rfl)
theorem dX8_mayCarry_41 : decode cX8_mayCarry 41 = .ok (.iload_n 3, 1) := dk_29 (dk_at dksX8_mayCarry_1 17 rfl rfl)
theorem dX8_mayCarry_42 : decode cX8_mayCarry 42 = .ok (.invokevirtual 229, 3) := dk_182 0 229 (dk_at dksX8_mayCarry_1 18 rfl rfl)
theorem dX8_mayCarry_45 : decode cX8_mayCarry 45 = .ok (.ifCond .eq 5, 3) := dk_153 0 5 (dk_at dksX8_mayCarry_1 21 rfl rfl)
theorem dX8_mayCarry_48 : decode cX8_mayCarry 48 = .ok (.iconst 3, 1) := dk_6 (dk_at dksX8_mayCarry_2 0 rfl rfl)
theorem dX8_mayCarry_49 : decode cX8_mayCarry 49 = .ok (.ireturn, 1) := dk_172 (dk_at dksX8_mayCarry_2 1 rfl rfl)
theorem dX8_mayCarry_50 : decode cX8_mayCarry 50 = .ok (.aload_n 0, 1) := dk_42 (dk_at dksX8_mayCarry_2 2 rfl rfl)
theorem dX8_mayCarry_51 : decode cX8_mayCarry 51 = .ok (.getfield 33, 3) := dk_180 0 33 (dk_at dksX8_mayCarry_2 3 rfl rfl)
theorem dX8_mayCarry_54 : decode cX8_mayCarry 54 = .ok (.iload_n 2, 1) := dk_28 (dk_at dksX8_mayCarry_2 6 rfl rfl)
theorem dX8_mayCarry_55 : decode cX8_mayCarry 55 = .ok (.iaload, 1) := dk_46 (dk_at dksX8_mayCarry_2 7 rfl rfl)
theorem dX8_mayCarry_56 : decode cX8_mayCarry 56 = .ok (.aload_n 0, 1) := dk_42 (dk_at dksX8_mayCarry_2 8 rfl rfl)
theorem dX8_mayCarry_57 : decode cX8_mayCarry 57 = .ok (.getfield 13, 3) := dk_180 0 13 (dk_at dksX8_mayCarry_2 9 rfl rfl)
theorem dX8_mayCarry_60 : decode cX8_mayCarry 60 = .ok (.iconst 1, 1) := dk_4 (dk_at dksX8_mayCarry_2 12 rfl rfl)
theorem dX8_mayCarry_61 : decode cX8_mayCarry 61 = .ok (.iload_n 2, 1) := dk_28 (dk_at dksX8_mayCarry_2 13 rfl rfl)
theorem dX8_mayCarry_62 : decode cX8_mayCarry 62 = .ok (.iadd, 1) := dk_96 (dk_at dksX8_mayCarry_2 14 rfl rfl)
theorem dX8_mayCarry_63 : decode cX8_mayCarry 63 = .ok (.iaload, 1) := dk_46 (dk_at dksX8_mayCarry_2 15 rfl rfl)
theorem dX8_mayCarry_64 : decode cX8_mayCarry 64 = .ok (.if_icmp .ne 5, 3) := dk_160 0 5 (dk_at dksX8_mayCarry_2 16 rfl rfl)
theorem dX8_mayCarry_67 : decode cX8_mayCarry 67 = .ok (.iconst 4, 1) := dk_7 (dk_at dksX8_mayCarry_2 19 rfl rfl)
theorem dX8_mayCarry_68 : decode cX8_mayCarry 68 = .ok (.ireturn, 1) := dk_172 (dk_at dksX8_mayCarry_2 20 rfl rfl)
theorem dX8_mayCarry_69 : decode cX8_mayCarry 69 = .ok (.aload_n 0, 1) := dk_42 (dk_at dksX8_mayCarry_2 21 rfl rfl)
theorem dX8_mayCarry_70 : decode cX8_mayCarry 70 = .ok (.iload_n 1, 1) := dk_27 (dk_at dksX8_mayCarry_2 22 rfl rfl)
theorem dX8_mayCarry_71 : decode cX8_mayCarry 71 = .ok (.iload_n 2, 1) := dk_28 (dk_at dksX8_mayCarry_2 23 rfl rfl)
theorem dX8_mayCarry_72 : decode cX8_mayCarry 72 = .ok (.invokevirtual 232, 3) := dk_182 0 232 (dk_at dksX8_mayCarry_3 0 rfl rfl)
theorem dX8_mayCarry_75 : decode cX8_mayCarry 75 = .ok (.ifCond .eq 5, 3) := dk_153 0 5 (dk_at dksX8_mayCarry_3 3 rfl rfl)
theorem dX8_mayCarry_78 : decode cX8_mayCarry 78 = .ok (.iconst 5, 1) := dk_8 (dk_at dksX8_mayCarry_3 6 rfl rfl)
theorem dX8_mayCarry_79 : decode cX8_mayCarry 79 = .ok (.ireturn, 1) := dk_172 (dk_at dksX8_mayCarry_3 7 rfl rfl)
theorem dX8_mayCarry_80 : decode cX8_mayCarry 80 = .ok (.aload_n 0, 1) := dk_42 (dk_at dksX8_mayCarry_3 8 rfl rfl)
theorem dX8_mayCarry_81 : decode cX8_mayCarry 81 = .ok (.iload_n 2, 1) := dk_28 (dk_at dksX8_mayCarry_3 9 rfl rfl)
theorem dX8_mayCarry_82 : decode cX8_mayCarry 82 = .ok (.aload_n 0, 1) := dk_42 (dk_at dksX8_mayCarry_3 10 rfl rfl)
theorem dX8_mayCarry_83 : decode cX8_mayCarry 83 = .ok (.getfield 33, 3) := dk_180 0 33 (dk_at dksX8_mayCarry_3 11 rfl rfl)
theorem dX8_mayCarry_86 : decode cX8_mayCarry 86 = .ok (.iload_n 2, 1) := dk_28 (dk_at dksX8_mayCarry_3 14 rfl rfl)
theorem dX8_mayCarry_87 : decode cX8_mayCarry 87 = .ok (.iaload, 1) := dk_46 (dk_at dksX8_mayCarry_3 15 rfl rfl)
theorem dX8_mayCarry_88 : decode cX8_mayCarry 88 = .ok (.aload_n 0, 1) := dk_42 (dk_at dksX8_mayCarry_3 16 rfl rfl)
theorem dX8_mayCarry_89 : decode cX8_mayCarry 89 = .ok (.getfield 13, 3) := dk_180 0 13 (dk_at dksX8_mayCarry_3 17 rfl rfl)
theorem dX8_mayCarry_92 : decode cX8_mayCarry 92 = .ok (.bipush 15, 2) := dk_16 15 (dk_at dksX8_mayCarry_3 20 rfl rfl)
theorem dX8_mayCarry_94 : decode cX8_mayCarry 94 = .ok (.iload_n 3, 1) := dk_29 (dk_at dksX8_mayCarry_3 22 rfl rfl)
theorem dX8_mayCarry_95 : decode cX8_mayCarry 95 = .ok (.iadd, 1) := dk_96 (dk_at dksX8_mayCarry_3 23 rfl rfl)
theorem dX8_mayCarry_96 : decode cX8_mayCarry 96 = .ok (.iaload, 1) := dk_46 (dk_at dksX8_mayCarry_4 0 rfl rfl)
theorem dX8_mayCarry_97 : decode cX8_mayCarry 97 = .ok (.invokevirtual 236, 3) := dk_182 0 236 (dk_at dksX8_mayCarry_4 1 rfl rfl)
theorem dX8_mayCarry_100 : decode cX8_mayCarry 100 = .ok (.ifCond .eq 6, 3) := dk_153 0 6 (dk_at dksX8_mayCarry_4 4 rfl rfl)
theorem dX8_mayCarry_103 : decode cX8_mayCarry 103 = .ok (.bipush 6, 2) := dk_16 6 (dk_at dksX8_mayCarry_4 7 rfl rfl)
theorem dX8_mayCarry_105 : decode cX8_mayCarry 105 = .ok (.ireturn, 1) := dk_172 (dk_at dksX8_mayCarry_4 9 rfl rfl)
theorem dX8_mayCarry_106 : decode cX8_mayCarry 106 = .ok (.aload_n 0, 1) := dk_42 (dk_at dksX8_mayCarry_4 10 rfl rfl)
theorem dX8_mayCarry_107 : decode cX8_mayCarry 107 = .ok (.iload_n 3, 1) := dk_29 (dk_at dksX8_mayCarry_4 11 rfl rfl)
theorem dX8_mayCarry_108 : decode cX8_mayCarry 108 = .ok (.iload_n 1, 1) := dk_27 (dk_at dksX8_mayCarry_4 12 rfl rfl)
theorem dX8_mayCarry_109 : decode cX8_mayCarry 109 = .ok (.iload_n 2, 1) := dk_28 (dk_at dksX8_mayCarry_4 13 rfl rfl)
theorem dX8_mayCarry_110 : decode cX8_mayCarry 110 = .ok (.aload_n 0, 1) := dk_42 (dk_at dksX8_mayCarry_4 14 rfl rfl)
theorem dX8_mayCarry_111 : decode cX8_mayCarry 111 = .ok (.getfield 33, 3) := dk_180 0 33 (dk_at dksX8_mayCarry_4 15 rfl rfl)
theorem dX8_mayCarry_114 : decode cX8_mayCarry 114 = .ok (.iload_n 1, 1) := dk_27 (dk_at dksX8_mayCarry_4 18 rfl rfl)
theorem dX8_mayCarry_115 : decode cX8_mayCarry 115 = .ok (.iaload, 1) := dk_46 (dk_at dksX8_mayCarry_4 19 rfl rfl)
theorem dX8_mayCarry_116 : decode cX8_mayCarry 116 = .ok (.iconst 1, 1) := dk_4 (dk_at dksX8_mayCarry_4 20 rfl rfl)
theorem dX8_mayCarry_117 : decode cX8_mayCarry 117 = .ok (.isub, 1) := dk_100 (dk_at dksX8_mayCarry_4 21 rfl rfl)
theorem dX8_mayCarry_118 : decode cX8_mayCarry 118 = .ok (.aload_n 0, 1) := dk_42 (dk_at dksX8_mayCarry_4 22 rfl rfl)
theorem dX8_mayCarry_119 : decode cX8_mayCarry 119 = .ok (.getfield 33, 3) := dk_180 0 33 (dk_at dksX8_mayCarry_5 0 rfl rfl)
theorem dX8_mayCarry_122 : decode cX8_mayCarry 122 = .ok (.iload_n 2, 1) := dk_28 (dk_at dksX8_mayCarry_5 3 rfl rfl)
theorem dX8_mayCarry_123 : decode cX8_mayCarry 123 = .ok (.iaload, 1) := dk_46 (dk_at dksX8_mayCarry_5 4 rfl rfl)
theorem dX8_mayCarry_124 : decode cX8_mayCarry 124 = .ok (.invokevirtual 240, 3) := dk_182 0 240 (dk_at dksX8_mayCarry_5 5 rfl rfl)
theorem dX8_mayCarry_127 : decode cX8_mayCarry 127 = .ok (.ifCond .eq 6, 3) := dk_153 0 6 (dk_at dksX8_mayCarry_5 8 rfl rfl)
theorem dX8_mayCarry_130 : decode cX8_mayCarry 130 = .ok (.bipush 7, 2) := dk_16 7 (dk_at dksX8_mayCarry_5 11 rfl rfl)
theorem dX8_mayCarry_132 : decode cX8_mayCarry 132 = .ok (.ireturn, 1) := dk_172 (dk_at dksX8_mayCarry_5 13 rfl rfl)
theorem dX8_mayCarry_133 : decode cX8_mayCarry 133 = .ok (.aload_n 0, 1) := dk_42 (dk_at dksX8_mayCarry_5 14 rfl rfl)
theorem dX8_mayCarry_134 : decode cX8_mayCarry 134 = .ok (.getfield 33, 3) := dk_180 0 33 (dk_at dksX8_mayCarry_5 15 rfl rfl)
theorem dX8_mayCarry_137 : decode cX8_mayCarry 137 = .ok (.iload_n 1, 1) := dk_27 (dk_at dksX8_mayCarry_5 18 rfl rfl)
theorem dX8_mayCarry_138 : decode cX8_mayCarry 138 = .ok (.dup2, 1) := dk_92 (dk_at dksX8_mayCarry_5 19 rfl rfl)
theorem dX8_mayCarry_139 : decode cX8_mayCarry 139 = .ok (.iaload, 1) := dk_46 (dk_at dksX8_mayCarry_5 20 rfl rfl)
theorem dX8_mayCarry_140 : decode cX8_mayCarry 140 = .ok (.iconst 1, 1) := dk_4 (dk_at dksX8_mayCarry_5 21 rfl rfl)
theorem dX8_mayCarry_141 : decode cX8_mayCarry 141 = .ok (.isub, 1) := dk_100 (dk_at dksX8_mayCarry_5 22 rfl rfl)
theorem dX8_mayCarry_142 : decode cX8_mayCarry 142 = .ok (.iastore, 1) := dk_79 (dk_at dksX8_mayCarry_5 23 rfl rfl)
theorem dX8_mayCarry_143 : decode cX8_mayCarry 143 = .ok (.aload_n 0, 1) := dk_42 (dk_at dksX8_mayCarry_6 0 rfl rfl)
theorem dX8_mayCarry_144 : decode cX8_mayCarry 144 = .ok (.getfield 33, 3) := dk_180 0 33 (dk_at dksX8_mayCarry_6 1 rfl rfl)
theorem dX8_mayCarry_147 : decode cX8_mayCarry 147 = .ok (.iload_n 2, 1) := dk_28 (dk_at dksX8_mayCarry_6 4 rfl rfl)
theorem dX8_mayCarry_148 : decode cX8_mayCarry 148 = .ok (.dup2, 1) := dk_92 (dk_at dksX8_mayCarry_6 5 rfl rfl)
theorem dX8_mayCarry_149 : decode cX8_mayCarry 149 = .ok (.iaload, 1) := dk_46 (dk_at dksX8_mayCarry_6 6 rfl rfl)
theorem dX8_mayCarry_150 : decode cX8_mayCarry 150 = .ok (.iconst 1, 1) := dk_4 (dk_at dksX8_mayCarry_6 7 rfl rfl)
theorem dX8_mayCarry_151 : decode cX8_mayCarry 151 = .ok (.iadd, 1) := dk_96 (dk_at dksX8_mayCarry_6 8 rfl rfl)
theorem dX8_mayCarry_152 : decode cX8_mayCarry 152 = .ok (.iastore, 1) := dk_79 (dk_at dksX8_mayCarry_6 9 rfl rfl)
theorem dX8_mayCarry_153 : decode cX8_mayCarry 153 = .ok (.aload_n 0, 1) := dk_42 (dk_at dksX8_mayCarry_6 10 rfl rfl)
theorem dX8_mayCarry_154 : decode cX8_mayCarry 154 = .ok (.invokevirtual 244, 3) := dk_182 0 244 (dk_at dksX8_mayCarry_6 11 rfl rfl)
theorem dX8_mayCarry_157 : decode cX8_mayCarry 157 = .ok (.iconst (-1), 1) := dk_2 (dk_at dksX8_mayCarry_6 14 rfl rfl)
theorem dX8_mayCarry_158 : decode cX8_mayCarry 158 = .ok (.if_icmp .eq 7, 3) := dk_159 0 7 (dk_at dksX8_mayCarry_6 15 rfl rfl)
theorem dX8_mayCarry_161 : decode cX8_mayCarry 161 = .ok (.iconst 1, 1) := dk_4 (dk_at dksX8_mayCarry_6 18 rfl rfl)
theorem dX8_mayCarry_162 : decode cX8_mayCarry 162 = .ok (.goto 4, 3) := dk_167 0 4 (dk_at dksX8_mayCarry_6 19 rfl rfl)
theorem dX8_mayCarry_165 : decode cX8_mayCarry 165 = .ok (.iconst 0, 1) := dk_3 (dk_at dksX8_mayCarry_6 22 rfl rfl)
theorem dX8_mayCarry_166 : decode cX8_mayCarry 166 = .ok (.istore 4, 2) := dk_54 4 (dk_at dksX8_mayCarry_7 0 rfl rfl)
theorem dX8_mayCarry_168 : decode cX8_mayCarry 168 = .ok (.aload_n 0, 1) := dk_42 (dk_at dksX8_mayCarry_7 2 rfl rfl)
theorem dX8_mayCarry_169 : decode cX8_mayCarry 169 = .ok (.getfield 33, 3) := dk_180 0 33 (dk_at dksX8_mayCarry_7 3 rfl rfl)
theorem dX8_mayCarry_172 : decode cX8_mayCarry 172 = .ok (.iload_n 1, 1) := dk_27 (dk_at dksX8_mayCarry_7 6 rfl rfl)
theorem dX8_mayCarry_173 : decode cX8_mayCarry 173 = .ok (.dup2, 1) := dk_92 (dk_at dksX8_mayCarry_7 7 rfl rfl)
theorem dX8_mayCarry_174 : decode cX8_mayCarry 174 = .ok (.iaload, 1) := dk_46 (dk_at dksX8_mayCarry_7 8 rfl rfl)
theorem dX8_mayCarry_175 : decode cX8_mayCarry 175 = .ok (.iconst 1, 1) := dk_4 (dk_at dksX8_mayCarry_7 9 rfl rfl)
theorem dX8_mayCarry_176 : decode cX8_mayCarry 176 = .ok (.iadd, 1) := dk_96 (dk_at dksX8_mayCarry_7 10 rfl rfl)
theorem dX8_mayCarry_177 : decode cX8_mayCarry 177 = .ok (.iastore, 1) := dk_79 (dk_at dksX8_mayCarry_7 11 rfl rfl)
theorem dX8_mayCarry_178 : decode cX8_mayCarry 178 = .ok (.aload_n 0, 1) := dk_42 (dk_at dksX8_mayCarry_7 12 rfl rfl)
theorem dX8_mayCarry_179 : decode cX8_mayCarry 179 = .ok (.getfield 33, 3) := dk_180 0 33 (dk_at dksX8_mayCarry_7 13 rfl rfl)
theorem dX8_mayCarry_182 : decode cX8_mayCarry 182 = .ok (.iload_n 2, 1) := dk_28 (dk_at dksX8_mayCarry_7 16 rfl rfl)
theorem dX8_mayCarry_183 : decode cX8_mayCarry 183 = .ok (.dup2, 1) := dk_92 (dk_at dksX8_mayCarry_7 17 rfl rfl)
theorem dX8_mayCarry_184 : decode cX8_mayCarry 184 = .ok (.iaload, 1) := dk_46 (dk_at dksX8_mayCarry_7 18 rfl rfl)
theorem dX8_mayCarry_185 : decode cX8_mayCarry 185 = .ok (.iconst 1, 1) := dk_4 (dk_at dksX8_mayCarry_7 19 rfl rfl)
theorem dX8_mayCarry_186 : decode cX8_mayCarry 186 = .ok (.isub, 1) := dk_100 (dk_at dksX8_mayCarry_7 20 rfl rfl)
theorem dX8_mayCarry_187 : decode cX8_mayCarry 187 = .ok (.iastore, 1) := dk_79 (dk_at dksX8_mayCarry_7 21 rfl rfl)
theorem dX8_mayCarry_188 : decode cX8_mayCarry 188 = .ok (.iload 4, 2) := dk_21 4 (dk_at dksX8_mayCarry_7 22 rfl rfl)
theorem dX8_mayCarry_190 : decode cX8_mayCarry 190 = .ok (.ifCond .eq 6, 3) := dk_153 0 6 (dk_at dksX8_mayCarry_8 0 rfl rfl)
theorem dX8_mayCarry_193 : decode cX8_mayCarry 193 = .ok (.bipush 8, 2) := dk_16 8 (dk_at dksX8_mayCarry_8 3 rfl rfl)
theorem dX8_mayCarry_195 : decode cX8_mayCarry 195 = .ok (.ireturn, 1) := dk_172 (dk_at dksX8_mayCarry_8 5 rfl rfl)
theorem dX8_mayCarry_196 : decode cX8_mayCarry 196 = .ok (.aload_n 0, 1) := dk_42 (dk_at dksX8_mayCarry_8 6 rfl rfl)
theorem dX8_mayCarry_197 : decode cX8_mayCarry 197 = .ok (.getfield 211, 3) := dk_180 0 211 (dk_at dksX8_mayCarry_8 7 rfl rfl)
theorem dX8_mayCarry_200 : decode cX8_mayCarry 200 = .ok (.invokestatic 247, 3) := dk_184 0 247 (dk_at dksX8_mayCarry_8 10 rfl rfl)
theorem dX8_mayCarry_203 : decode cX8_mayCarry 203 = .ok (.aload_n 0, 1) := dk_42 (dk_at dksX8_mayCarry_8 13 rfl rfl)
theorem dX8_mayCarry_204 : decode cX8_mayCarry 204 = .ok (.getfield 13, 3) := dk_180 0 13 (dk_at dksX8_mayCarry_8 14 rfl rfl)
theorem dX8_mayCarry_207 : decode cX8_mayCarry 207 = .ok (.bipush 76, 2) := dk_16 76 (dk_at dksX8_mayCarry_8 17 rfl rfl)
theorem dX8_mayCarry_209 : decode cX8_mayCarry 209 = .ok (.iaload, 1) := dk_46 (dk_at dksX8_mayCarry_8 19 rfl rfl)
theorem dX8_mayCarry_210 : decode cX8_mayCarry 210 = .ok (.if_icmp .lt 8, 3) := dk_161 0 8 (dk_at dksX8_mayCarry_8 20 rfl rfl)
theorem dX8_mayCarry_213 : decode cX8_mayCarry 213 = .ok (.bipush 9, 2) := dk_16 9 (dk_at dksX8_mayCarry_9 0 rfl rfl)
theorem dX8_mayCarry_215 : decode cX8_mayCarry 215 = .ok (.goto 4, 3) := dk_167 0 4 (dk_at dksX8_mayCarry_9 2 rfl rfl)
theorem dX8_mayCarry_218 : decode cX8_mayCarry 218 = .ok (.iconst 0, 1) := dk_3 (dk_at dksX8_mayCarry_9 5 rfl rfl)
theorem dX8_mayCarry_219 : decode cX8_mayCarry 219 = .ok (.ireturn, 1) := dk_172 (dk_at dksX8_mayCarry_9 6 rfl rfl)
abbrev cX8_topOf : ByteArray := prog_20_method_33_code
def yX8_topOf : MethodName := ⟨RX8, "topOf", "(I)I"⟩
def dkwX8_topOf_0 : List UInt8 := [42, 180, 0, 30, 6, 27, 104, 42, 180, 0, 33, 27, 46, 96, 4, 100, 46, 4, 100, 172]
abbrev dktX8_topOf_0 : List UInt8 := dkwX8_topOf_0 ++ []
theorem dksX8_topOf_0 : cX8_topOf.data.toList.drop 0 = dktX8_topOf_0 := by decide +kernel
theorem dX8_topOf_0 : decode cX8_topOf 0 = .ok (.aload_n 0, 1) := dk_42 (dk_at dksX8_topOf_0 0 rfl rfl)
theorem dX8_topOf_1 : decode cX8_topOf 1 = .ok (.getfield 30, 3) := dk_180 0 30 (dk_at dksX8_topOf_0 1 rfl rfl)
theorem dX8_topOf_4 : decode cX8_topOf 4 = .ok (.iconst 3, 1) := dk_6 (dk_at dksX8_topOf_0 4 rfl rfl)
theorem dX8_topOf_5 : decode cX8_topOf 5 = .ok (.iload_n 1, 1) := dk_27 (dk_at dksX8_topOf_0 5 rfl rfl)
theorem dX8_topOf_6 : decode cX8_topOf 6 = .ok (.imul, 1) := dk_104 (dk_at dksX8_topOf_0 6 rfl rfl)
theorem dX8_topOf_7 : decode cX8_topOf 7 = .ok (.aload_n 0, 1) := dk_42 (dk_at dksX8_topOf_0 7 rfl rfl)
theorem dX8_topOf_8 : decode cX8_topOf 8 = .ok (.getfield 33, 3) := dk_180 0 33 (dk_at dksX8_topOf_0 8 rfl rfl)
theorem dX8_topOf_11 : decode cX8_topOf 11 = .ok (.iload_n 1, 1) := dk_27 (dk_at dksX8_topOf_0 11 rfl rfl)
theorem dX8_topOf_12 : decode cX8_topOf 12 = .ok (.iaload, 1) := dk_46 (dk_at dksX8_topOf_0 12 rfl rfl)
theorem dX8_topOf_13 : decode cX8_topOf 13 = .ok (.iadd, 1) := dk_96 (dk_at dksX8_topOf_0 13 rfl rfl)
theorem dX8_topOf_14 : decode cX8_topOf 14 = .ok (.iconst 1, 1) := dk_4 (dk_at dksX8_topOf_0 14 rfl rfl)
theorem dX8_topOf_15 : decode cX8_topOf 15 = .ok (.isub, 1) := dk_100 (dk_at dksX8_topOf_0 15 rfl rfl)
theorem dX8_topOf_16 : decode cX8_topOf 16 = .ok (.iaload, 1) := dk_46 (dk_at dksX8_topOf_0 16 rfl rfl)
theorem dX8_topOf_17 : decode cX8_topOf 17 = .ok (.iconst 1, 1) := dk_4 (dk_at dksX8_topOf_0 17 rfl rfl)
theorem dX8_topOf_18 : decode cX8_topOf 18 = .ok (.isub, 1) := dk_100 (dk_at dksX8_topOf_0 18 rfl rfl)
theorem dX8_topOf_19 : decode cX8_topOf 19 = .ok (.ireturn, 1) := dk_172 (dk_at dksX8_topOf_0 19 rfl rfl)
abbrev cX8_wasMoved : ByteArray := prog_20_method_41_code
def yX8_wasMoved : MethodName := ⟨RX8, "wasMoved", "(I)Z"⟩
def dkwX8_wasMoved_0 : List UInt8 := [42, 180, 0, 211, 27, 122, 4, 126, 4, 160, 0, 7, 4, 167, 0, 4, 3, 172]
abbrev dktX8_wasMoved_0 : List UInt8 := dkwX8_wasMoved_0 ++ []
theorem dksX8_wasMoved_0 : cX8_wasMoved.data.toList.drop 0 = dktX8_wasMoved_0 := by decide +kernel
theorem dX8_wasMoved_0 : decode cX8_wasMoved 0 = .ok (.aload_n 0, 1) := dk_42 (dk_at dksX8_wasMoved_0 0 rfl rfl)
theorem dX8_wasMoved_1 : decode cX8_wasMoved 1 = .ok (.getfield 211, 3) := dk_180 0 211 (dk_at dksX8_wasMoved_0 1 rfl rfl)
theorem dX8_wasMoved_4 : decode cX8_wasMoved 4 = .ok (.iload_n 1, 1) := dk_27 (dk_at dksX8_wasMoved_0 4 rfl rfl)
theorem dX8_wasMoved_5 : decode cX8_wasMoved 5 = .ok (.ishr, 1) := dk_122 (dk_at dksX8_wasMoved_0 5 rfl rfl)
theorem dX8_wasMoved_6 : decode cX8_wasMoved 6 = .ok (.iconst 1, 1) := dk_4 (dk_at dksX8_wasMoved_0 6 rfl rfl)
theorem dX8_wasMoved_7 : decode cX8_wasMoved 7 = .ok (.iand, 1) := dk_126 (dk_at dksX8_wasMoved_0 7 rfl rfl)
theorem dX8_wasMoved_8 : decode cX8_wasMoved 8 = .ok (.iconst 1, 1) := dk_4 (dk_at dksX8_wasMoved_0 8 rfl rfl)
theorem dX8_wasMoved_9 : decode cX8_wasMoved 9 = .ok (.if_icmp .ne 7, 3) := dk_160 0 7 (dk_at dksX8_wasMoved_0 9 rfl rfl)
theorem dX8_wasMoved_12 : decode cX8_wasMoved 12 = .ok (.iconst 1, 1) := dk_4 (dk_at dksX8_wasMoved_0 12 rfl rfl)
theorem dX8_wasMoved_13 : decode cX8_wasMoved 13 = .ok (.goto 4, 3) := dk_167 0 4 (dk_at dksX8_wasMoved_0 13 rfl rfl)
theorem dX8_wasMoved_16 : decode cX8_wasMoved 16 = .ok (.iconst 0, 1) := dk_3 (dk_at dksX8_wasMoved_0 16 rfl rfl)
theorem dX8_wasMoved_17 : decode cX8_wasMoved 17 = .ok (.ireturn, 1) := dk_172 (dk_at dksX8_wasMoved_0 17 rfl rfl)
abbrev cX8_isShut : ByteArray := prog_20_method_35_code
def yX8_isShut : MethodName := ⟨RX8, "isShut", "(II)Z"⟩
def dkwX8_isShut_2 : List UInt8 := [46, 161, 0, 5, 4, 172, 132, 5, 1, 167, 255, 227, 3, 172]
abbrev dktX8_isShut_2 : List UInt8 := dkwX8_isShut_2 ++ []
def dkwX8_isShut_1 : List UInt8 := [4, 96, 54, 5, 21, 5, 21, 4, 162, 0, 28, 42, 180, 0, 33, 21, 5, 46, 42, 180, 0, 13, 16, 75]
abbrev dktX8_isShut_1 : List UInt8 := dkwX8_isShut_1 ++ dktX8_isShut_2
def dkwX8_isShut_0 : List UInt8 := [27, 28, 162, 0, 7, 27, 167, 0, 4, 28, 62, 27, 28, 162, 0, 7, 28, 167, 0, 4, 27, 54, 4, 29]
abbrev dktX8_isShut_0 : List UInt8 := dkwX8_isShut_0 ++ dktX8_isShut_1
theorem dksX8_isShut_0 : cX8_isShut.data.toList.drop 0 = dktX8_isShut_0 := by decide +kernel
theorem dksX8_isShut_1 : cX8_isShut.data.toList.drop 24 = dktX8_isShut_1 := dk_seg dksX8_isShut_0 24 rfl rfl
theorem dksX8_isShut_2 : cX8_isShut.data.toList.drop 48 = dktX8_isShut_2 := dk_seg dksX8_isShut_1 24 rfl rfl
theorem dX8_isShut_0 : decode cX8_isShut 0 = .ok (.iload_n 1, 1) := dk_27 (dk_at dksX8_isShut_0 0 rfl rfl)
theorem dX8_isShut_1 : decode cX8_isShut 1 = .ok (.iload_n 2, 1) := dk_28 (dk_at dksX8_isShut_0 1 rfl rfl)
theorem dX8_isShut_2 : decode cX8_isShut 2 = .ok (.if_icmp .ge 7, 3) := dk_162 0 7 (dk_at dksX8_isShut_0 2 rfl rfl)
theorem dX8_isShut_5 : decode cX8_isShut 5 = .ok (.iload_n 1, 1) := dk_27 (dk_at dksX8_isShut_0 5 rfl rfl)
theorem dX8_isShut_6 : decode cX8_isShut 6 = .ok (.goto 4, 3) := dk_167 0 4 (dk_at dksX8_isShut_0 6 rfl rfl)
theorem dX8_isShut_9 : decode cX8_isShut 9 = .ok (.iload_n 2, 1) := dk_28 (dk_at dksX8_isShut_0 9 rfl rfl)
theorem dX8_isShut_10 : decode cX8_isShut 10 = .ok (.istore_n 3, 1) := dk_62 (dk_at dksX8_isShut_0 10 rfl rfl)
theorem dX8_isShut_11 : decode cX8_isShut 11 = .ok (.iload_n 1, 1) := dk_27 (dk_at dksX8_isShut_0 11 rfl rfl)
theorem dX8_isShut_12 : decode cX8_isShut 12 = .ok (.iload_n 2, 1) := dk_28 (dk_at dksX8_isShut_0 12 rfl rfl)
theorem dX8_isShut_13 : decode cX8_isShut 13 = .ok (.if_icmp .ge 7, 3) := dk_162 0 7 (dk_at dksX8_isShut_0 13 rfl rfl)
theorem dX8_isShut_16 : decode cX8_isShut 16 = .ok (.iload_n 2, 1) := dk_28 (dk_at dksX8_isShut_0 16 rfl rfl)
theorem dX8_isShut_17 : decode cX8_isShut 17 = .ok (.goto 4, 3) := dk_167 0 4 (dk_at dksX8_isShut_0 17 rfl rfl)
theorem dX8_isShut_20 : decode cX8_isShut 20 = .ok (.iload_n 1, 1) := dk_27 (dk_at dksX8_isShut_0 20 rfl rfl)
theorem dX8_isShut_21 : decode cX8_isShut 21 = .ok (.istore 4, 2) := dk_54 4 (dk_at dksX8_isShut_0 21 rfl rfl)
theorem dX8_isShut_23 : decode cX8_isShut 23 = .ok (.iload_n 3, 1) := dk_29 (dk_at dksX8_isShut_0 23 rfl rfl)
theorem dX8_isShut_24 : decode cX8_isShut 24 = .ok (.iconst 1, 1) := dk_4 (dk_at dksX8_isShut_1 0 rfl rfl)
theorem dX8_isShut_25 : decode cX8_isShut 25 = .ok (.iadd, 1) := dk_96 (dk_at dksX8_isShut_1 1 rfl rfl)
theorem dX8_isShut_26 : decode cX8_isShut 26 = .ok (.istore 5, 2) := dk_54 5 (dk_at dksX8_isShut_1 2 rfl rfl)
theorem dX8_isShut_28 : decode cX8_isShut 28 = .ok (.iload 5, 2) := dk_21 5 (dk_at dksX8_isShut_1 4 rfl rfl)
theorem dX8_isShut_30 : decode cX8_isShut 30 = .ok (.iload 4, 2) := dk_21 4 (dk_at dksX8_isShut_1 6 rfl rfl)
theorem dX8_isShut_32 : decode cX8_isShut 32 = .ok (.if_icmp .ge 28, 3) := dk_162 0 28 (dk_at dksX8_isShut_1 8 rfl rfl)
theorem dX8_isShut_35 : decode cX8_isShut 35 = .ok (.aload_n 0, 1) := dk_42 (dk_at dksX8_isShut_1 11 rfl rfl)
theorem dX8_isShut_36 : decode cX8_isShut 36 = .ok (.getfield 33, 3) := dk_180 0 33 (dk_at dksX8_isShut_1 12 rfl rfl)
theorem dX8_isShut_39 : decode cX8_isShut 39 = .ok (.iload 5, 2) := dk_21 5 (dk_at dksX8_isShut_1 15 rfl rfl)
theorem dX8_isShut_41 : decode cX8_isShut 41 = .ok (.iaload, 1) := dk_46 (dk_at dksX8_isShut_1 17 rfl rfl)
theorem dX8_isShut_42 : decode cX8_isShut 42 = .ok (.aload_n 0, 1) := dk_42 (dk_at dksX8_isShut_1 18 rfl rfl)
theorem dX8_isShut_43 : decode cX8_isShut 43 = .ok (.getfield 13, 3) := dk_180 0 13 (dk_at dksX8_isShut_1 19 rfl rfl)
theorem dX8_isShut_46 : decode cX8_isShut 46 = .ok (.bipush 75, 2) := dk_16 75 (dk_at dksX8_isShut_1 22 rfl rfl)
theorem dX8_isShut_48 : decode cX8_isShut 48 = .ok (.iaload, 1) := dk_46 (dk_at dksX8_isShut_2 0 rfl rfl)
theorem dX8_isShut_49 : decode cX8_isShut 49 = .ok (.if_icmp .lt 5, 3) := dk_161 0 5 (dk_at dksX8_isShut_2 1 rfl rfl)
theorem dX8_isShut_52 : decode cX8_isShut 52 = .ok (.iconst 1, 1) := dk_4 (dk_at dksX8_isShut_2 4 rfl rfl)
theorem dX8_isShut_53 : decode cX8_isShut 53 = .ok (.ireturn, 1) := dk_172 (dk_at dksX8_isShut_2 5 rfl rfl)
theorem dX8_isShut_54 : decode cX8_isShut 54 = .ok (.iinc 5 1, 3) := dk_132 5 1 (dk_at dksX8_isShut_2 6 rfl rfl)
theorem dX8_isShut_57 : decode cX8_isShut 57 = .ok (.goto (-29), 3) := dk_167 255 227 (dk_at dksX8_isShut_2 9 rfl rfl)
theorem dX8_isShut_60 : decode cX8_isShut 60 = .ok (.iconst 0, 1) := dk_3 (dk_at dksX8_isShut_2 12 rfl rfl)
theorem dX8_isShut_61 : decode cX8_isShut 61 = .ok (.ireturn, 1) := dk_172 (dk_at dksX8_isShut_2 13 rfl rfl)
abbrev cX8_isHeavy : ByteArray := prog_20_method_36_code
def yX8_isHeavy : MethodName := ⟨RX8, "isHeavy", "(III)Z"⟩
def dkwX8_isHeavy_2 : List UInt8 := [180, 0, 13, 16, 15, 21, 6, 96, 46, 96, 54, 4, 132, 5, 255, 167, 255, 201, 3, 172]
abbrev dktX8_isHeavy_2 : List UInt8 := dkwX8_isHeavy_2 ++ []
def dkwX8_isHeavy_1 : List UInt8 := [4, 100, 54, 6, 21, 4, 42, 180, 0, 13, 16, 23, 21, 6, 96, 46, 164, 0, 5, 4, 172, 21, 4, 42]
abbrev dktX8_isHeavy_1 : List UInt8 := dkwX8_isHeavy_1 ++ dktX8_isHeavy_2
def dkwX8_isHeavy_0 : List UInt8 := [29, 54, 4, 28, 4, 100, 54, 5, 21, 5, 155, 0, 56, 42, 180, 0, 30, 6, 27, 104, 21, 5, 96, 46]
abbrev dktX8_isHeavy_0 : List UInt8 := dkwX8_isHeavy_0 ++ dktX8_isHeavy_1
theorem dksX8_isHeavy_0 : cX8_isHeavy.data.toList.drop 0 = dktX8_isHeavy_0 := by decide +kernel
theorem dksX8_isHeavy_1 : cX8_isHeavy.data.toList.drop 24 = dktX8_isHeavy_1 := dk_seg dksX8_isHeavy_0 24 rfl rfl
theorem dksX8_isHeavy_2 : cX8_isHeavy.data.toList.drop 48 = dktX8_isHeavy_2 := dk_seg dksX8_isHeavy_1 24 rfl rfl
theorem dX8_isHeavy_0 : decode cX8_isHeavy 0 = .ok (.iload_n 3, 1) := dk_29 (dk_at dksX8_isHeavy_0 0 rfl rfl)
theorem dX8_isHeavy_1 : decode cX8_isHeavy 1 = .ok (.istore 4, 2) := dk_54 4 (dk_at dksX8_isHeavy_0 1 rfl rfl)
theorem dX8_isHeavy_3 : decode cX8_isHeavy 3 = .ok (.iload_n 2, 1) := dk_28 (dk_at dksX8_isHeavy_0 3 rfl rfl)
theorem dX8_isHeavy_4 : decode cX8_isHeavy 4 = .ok (.iconst 1, 1) := dk_4 (dk_at dksX8_isHeavy_0 4 rfl rfl)
theorem dX8_isHeavy_5 : decode cX8_isHeavy 5 = .ok (.isub, 1) := dk_100 (dk_at dksX8_isHeavy_0 5 rfl rfl)
theorem dX8_isHeavy_6 : decode cX8_isHeavy 6 = .ok (.istore 5, 2) := dk_54 5 (dk_at dksX8_isHeavy_0 6 rfl rfl)
theorem dX8_isHeavy_8 : decode cX8_isHeavy 8 = .ok (.iload 5, 2) := dk_21 5 (dk_at dksX8_isHeavy_0 8 rfl rfl)
theorem dX8_isHeavy_10 : decode cX8_isHeavy 10 = .ok (.ifCond .lt 56, 3) := dk_155 0 56 (dk_at dksX8_isHeavy_0 10 rfl rfl)
theorem dX8_isHeavy_13 : decode cX8_isHeavy 13 = .ok (.aload_n 0, 1) := dk_42 (dk_at dksX8_isHeavy_0 13 rfl rfl)
theorem dX8_isHeavy_14 : decode cX8_isHeavy 14 = .ok (.getfield 30, 3) := dk_180 0 30 (dk_at dksX8_isHeavy_0 14 rfl rfl)
theorem dX8_isHeavy_17 : decode cX8_isHeavy 17 = .ok (.iconst 3, 1) := dk_6 (dk_at dksX8_isHeavy_0 17 rfl rfl)
theorem dX8_isHeavy_18 : decode cX8_isHeavy 18 = .ok (.iload_n 1, 1) := dk_27 (dk_at dksX8_isHeavy_0 18 rfl rfl)
theorem dX8_isHeavy_19 : decode cX8_isHeavy 19 = .ok (.imul, 1) := dk_104 (dk_at dksX8_isHeavy_0 19 rfl rfl)
theorem dX8_isHeavy_20 : decode cX8_isHeavy 20 = .ok (.iload 5, 2) := dk_21 5 (dk_at dksX8_isHeavy_0 20 rfl rfl)
theorem dX8_isHeavy_22 : decode cX8_isHeavy 22 = .ok (.iadd, 1) := dk_96 (dk_at dksX8_isHeavy_0 22 rfl rfl)
theorem dX8_isHeavy_23 : decode cX8_isHeavy 23 = .ok (.iaload, 1) := dk_46 (dk_at dksX8_isHeavy_0 23 rfl rfl)
theorem dX8_isHeavy_24 : decode cX8_isHeavy 24 = .ok (.iconst 1, 1) := dk_4 (dk_at dksX8_isHeavy_1 0 rfl rfl)
theorem dX8_isHeavy_25 : decode cX8_isHeavy 25 = .ok (.isub, 1) := dk_100 (dk_at dksX8_isHeavy_1 1 rfl rfl)
theorem dX8_isHeavy_26 : decode cX8_isHeavy 26 = .ok (.istore 6, 2) := dk_54 6 (dk_at dksX8_isHeavy_1 2 rfl rfl)
theorem dX8_isHeavy_28 : decode cX8_isHeavy 28 = .ok (.iload 4, 2) := dk_21 4 (dk_at dksX8_isHeavy_1 4 rfl rfl)
theorem dX8_isHeavy_30 : decode cX8_isHeavy 30 = .ok (.aload_n 0, 1) := dk_42 (dk_at dksX8_isHeavy_1 6 rfl rfl)
theorem dX8_isHeavy_31 : decode cX8_isHeavy 31 = .ok (.getfield 13, 3) := dk_180 0 13 (dk_at dksX8_isHeavy_1 7 rfl rfl)
theorem dX8_isHeavy_34 : decode cX8_isHeavy 34 = .ok (.bipush 23, 2) := dk_16 23 (dk_at dksX8_isHeavy_1 10 rfl rfl)
theorem dX8_isHeavy_36 : decode cX8_isHeavy 36 = .ok (.iload 6, 2) := dk_21 6 (dk_at dksX8_isHeavy_1 12 rfl rfl)
theorem dX8_isHeavy_38 : decode cX8_isHeavy 38 = .ok (.iadd, 1) := dk_96 (dk_at dksX8_isHeavy_1 14 rfl rfl)
theorem dX8_isHeavy_39 : decode cX8_isHeavy 39 = .ok (.iaload, 1) := dk_46 (dk_at dksX8_isHeavy_1 15 rfl rfl)
theorem dX8_isHeavy_40 : decode cX8_isHeavy 40 = .ok (.if_icmp .le 5, 3) := dk_164 0 5 (dk_at dksX8_isHeavy_1 16 rfl rfl)
theorem dX8_isHeavy_43 : decode cX8_isHeavy 43 = .ok (.iconst 1, 1) := dk_4 (dk_at dksX8_isHeavy_1 19 rfl rfl)
theorem dX8_isHeavy_44 : decode cX8_isHeavy 44 = .ok (.ireturn, 1) := dk_172 (dk_at dksX8_isHeavy_1 20 rfl rfl)
theorem dX8_isHeavy_45 : decode cX8_isHeavy 45 = .ok (.iload 4, 2) := dk_21 4 (dk_at dksX8_isHeavy_1 21 rfl rfl)
theorem dX8_isHeavy_47 : decode cX8_isHeavy 47 = .ok (.aload_n 0, 1) := dk_42 (dk_at dksX8_isHeavy_1 23 rfl rfl)
theorem dX8_isHeavy_48 : decode cX8_isHeavy 48 = .ok (.getfield 13, 3) := dk_180 0 13 (dk_at dksX8_isHeavy_2 0 rfl rfl)
theorem dX8_isHeavy_51 : decode cX8_isHeavy 51 = .ok (.bipush 15, 2) := dk_16 15 (dk_at dksX8_isHeavy_2 3 rfl rfl)
theorem dX8_isHeavy_53 : decode cX8_isHeavy 53 = .ok (.iload 6, 2) := dk_21 6 (dk_at dksX8_isHeavy_2 5 rfl rfl)
theorem dX8_isHeavy_55 : decode cX8_isHeavy 55 = .ok (.iadd, 1) := dk_96 (dk_at dksX8_isHeavy_2 7 rfl rfl)
theorem dX8_isHeavy_56 : decode cX8_isHeavy 56 = .ok (.iaload, 1) := dk_46 (dk_at dksX8_isHeavy_2 8 rfl rfl)
theorem dX8_isHeavy_57 : decode cX8_isHeavy 57 = .ok (.iadd, 1) := dk_96 (dk_at dksX8_isHeavy_2 9 rfl rfl)
theorem dX8_isHeavy_58 : decode cX8_isHeavy 58 = .ok (.istore 4, 2) := dk_54 4 (dk_at dksX8_isHeavy_2 10 rfl rfl)
theorem dX8_isHeavy_60 : decode cX8_isHeavy 60 = .ok (.iinc 5 (-1), 3) := dk_132 5 255 (dk_at dksX8_isHeavy_2 12 rfl rfl)
theorem dX8_isHeavy_63 : decode cX8_isHeavy 63 = .ok (.goto (-55), 3) := dk_167 255 201 (dk_at dksX8_isHeavy_2 15 rfl rfl)
theorem dX8_isHeavy_66 : decode cX8_isHeavy 66 = .ok (.iconst 0, 1) := dk_3 (dk_at dksX8_isHeavy_2 18 rfl rfl)
theorem dX8_isHeavy_67 : decode cX8_isHeavy 67 = .ok (.ireturn, 1) := dk_172 (dk_at dksX8_isHeavy_2 19 rfl rfl)
abbrev cX8_isBarred : ByteArray := prog_20_method_38_code
def yX8_isBarred : MethodName := ⟨RX8, "isBarred", "(IIIII)Z"⟩
def dkwX8_isBarred_11 : List UInt8 := [172]
abbrev dktX8_isBarred_11 : List UInt8 := dkwX8_isBarred_11 ++ []
def dkwX8_isBarred_10 : List UInt8 := [132, 8, 1, 167, 255, 56, 42, 180, 0, 36, 3, 51, 153, 0, 5, 4, 172, 132, 6, 1, 167, 255, 12, 3]
abbrev dktX8_isBarred_10 : List UInt8 := dkwX8_isBarred_10 ++ dktX8_isBarred_11
def dkwX8_isBarred_9 : List UInt8 := [5, 21, 8, 104, 96, 4, 96, 46, 27, 28, 29, 21, 4, 21, 5, 182, 0, 219, 84, 132, 7, 1]
abbrev dktX8_isBarred_9 : List UInt8 := dkwX8_isBarred_9 ++ dktX8_isBarred_10
def dkwX8_isBarred_8 : List UInt8 := [167, 0, 4, 3, 84, 167, 0, 41, 42, 180, 0, 36, 21, 7, 42, 21, 9, 42, 180, 0, 13, 17, 0, 131]
abbrev dktX8_isBarred_8 : List UInt8 := dkwX8_isBarred_8 ++ dktX8_isBarred_9
def dkwX8_isBarred_7 : List UInt8 := [180, 0, 36, 21, 7, 4, 100, 51, 154, 0, 13, 42, 180, 0, 36, 21, 7, 51, 153, 0, 7, 4]
abbrev dktX8_isBarred_7 : List UInt8 := dkwX8_isBarred_7 ++ dktX8_isBarred_8
def dkwX8_isBarred_6 : List UInt8 := [153, 0, 17, 42, 180, 0, 36, 21, 7, 51, 153, 0, 7, 4, 167, 0, 34, 3, 167, 0, 30, 42]
abbrev dktX8_isBarred_6 : List UInt8 := dkwX8_isBarred_6 ++ dktX8_isBarred_7
def dkwX8_isBarred_5 : List UInt8 := [180, 0, 36, 21, 7, 4, 100, 21, 9, 16, 17, 160, 0, 33, 42, 180, 0, 36, 21, 7, 4, 100, 51]
abbrev dktX8_isBarred_5 : List UInt8 := dkwX8_isBarred_5 ++ dktX8_isBarred_6
def dkwX8_isBarred_4 : List UInt8 := [84, 167, 0, 134, 21, 9, 16, 17, 159, 0, 10, 21, 9, 16, 16, 160, 0, 82, 132, 7, 255, 42]
abbrev dktX8_isBarred_4 : List UInt8 := dkwX8_isBarred_4 ++ dktX8_isBarred_5
def dkwX8_isBarred_3 : List UInt8 := [180, 0, 36, 21, 7, 4, 100, 42, 180, 0, 36, 21, 7, 4, 100, 51, 154, 0, 7, 4, 167, 0, 4, 3]
abbrev dktX8_isBarred_3 : List UInt8 := dkwX8_isBarred_3 ++ dktX8_isBarred_4
def dkwX8_isBarred_2 : List UInt8 := [180, 0, 13, 17, 0, 131, 5, 21, 8, 104, 96, 46, 54, 9, 21, 9, 16, 18, 160, 0, 32, 42]
abbrev dktX8_isBarred_2 : List UInt8 := dkwX8_isBarred_2 ++ dktX8_isBarred_3
def dkwX8_isBarred_1 : List UInt8 := [21, 6, 96, 46, 54, 8, 21, 8, 42, 180, 0, 13, 16, 123, 21, 6, 96, 46, 162, 0, 191, 42]
abbrev dktX8_isBarred_1 : List UInt8 := dkwX8_isBarred_1 ++ dktX8_isBarred_2
def dkwX8_isBarred_0 : List UInt8 := [3, 54, 6, 21, 6, 42, 180, 0, 13, 16, 114, 46, 162, 0, 238, 3, 54, 7, 42, 180, 0, 13, 16, 115]
abbrev dktX8_isBarred_0 : List UInt8 := dkwX8_isBarred_0 ++ dktX8_isBarred_1
theorem dksX8_isBarred_0 : cX8_isBarred.data.toList.drop 0 = dktX8_isBarred_0 := by decide +kernel
theorem dksX8_isBarred_1 : cX8_isBarred.data.toList.drop 24 = dktX8_isBarred_1 := dk_seg dksX8_isBarred_0 24 rfl rfl
theorem dksX8_isBarred_2 : cX8_isBarred.data.toList.drop 46 = dktX8_isBarred_2 := dk_seg dksX8_isBarred_1 22 rfl rfl
theorem dksX8_isBarred_3 : cX8_isBarred.data.toList.drop 68 = dktX8_isBarred_3 := dk_seg dksX8_isBarred_2 22 rfl rfl
theorem dksX8_isBarred_4 : cX8_isBarred.data.toList.drop 92 = dktX8_isBarred_4 := dk_seg dksX8_isBarred_3 24 rfl rfl
theorem dksX8_isBarred_5 : cX8_isBarred.data.toList.drop 114 = dktX8_isBarred_5 := dk_seg dksX8_isBarred_4 22 rfl rfl
theorem dksX8_isBarred_6 : cX8_isBarred.data.toList.drop 137 = dktX8_isBarred_6 := dk_seg dksX8_isBarred_5 23 rfl rfl
theorem dksX8_isBarred_7 : cX8_isBarred.data.toList.drop 159 = dktX8_isBarred_7 := dk_seg dksX8_isBarred_6 22 rfl rfl
theorem dksX8_isBarred_8 : cX8_isBarred.data.toList.drop 181 = dktX8_isBarred_8 := dk_seg dksX8_isBarred_7 22 rfl rfl
theorem dksX8_isBarred_9 : cX8_isBarred.data.toList.drop 205 = dktX8_isBarred_9 := dk_seg dksX8_isBarred_8 24 rfl rfl
theorem dksX8_isBarred_10 : cX8_isBarred.data.toList.drop 227 = dktX8_isBarred_10 := dk_seg dksX8_isBarred_9 22 rfl rfl
theorem dksX8_isBarred_11 : cX8_isBarred.data.toList.drop 251 = dktX8_isBarred_11 := dk_seg dksX8_isBarred_10 24 rfl rfl
theorem dX8_isBarred_0 : decode cX8_isBarred 0 = .ok (.iconst 0, 1) := dk_3 (dk_at dksX8_isBarred_0 0 rfl rfl)
theorem dX8_isBarred_1 : decode cX8_isBarred 1 = .ok (.istore 6, 2) := dk_54 6 (dk_at dksX8_isBarred_0 1 rfl rfl)
theorem dX8_isBarred_3 : decode cX8_isBarred 3 = .ok (.iload 6, 2) := dk_21 6 (dk_at dksX8_isBarred_0 3 rfl rfl)
theorem dX8_isBarred_5 : decode cX8_isBarred 5 = .ok (.aload_n 0, 1) := dk_42 (dk_at dksX8_isBarred_0 5 rfl rfl)
theorem dX8_isBarred_6 : decode cX8_isBarred 6 = .ok (.getfield 13, 3) := dk_180 0 13 (dk_at dksX8_isBarred_0 6 rfl rfl)
theorem dX8_isBarred_9 : decode cX8_isBarred 9 = .ok (.bipush 114, 2) := dk_16 114 (dk_at dksX8_isBarred_0 9 rfl rfl)
theorem dX8_isBarred_11 : decode cX8_isBarred 11 = .ok (.iaload, 1) := dk_46 (dk_at dksX8_isBarred_0 11 rfl rfl)
theorem dX8_isBarred_12 : decode cX8_isBarred 12 = .ok (.if_icmp .ge 238, 3) := dk_162 0 238 (dk_at dksX8_isBarred_0 12 rfl rfl)
theorem dX8_isBarred_15 : decode cX8_isBarred 15 = .ok (.iconst 0, 1) := dk_3 (dk_at dksX8_isBarred_0 15 rfl rfl)
theorem dX8_isBarred_16 : decode cX8_isBarred 16 = .ok (.istore 7, 2) := dk_54 7 (dk_at dksX8_isBarred_0 16 rfl rfl)
theorem dX8_isBarred_18 : decode cX8_isBarred 18 = .ok (.aload_n 0, 1) := dk_42 (dk_at dksX8_isBarred_0 18 rfl rfl)
theorem dX8_isBarred_19 : decode cX8_isBarred 19 = .ok (.getfield 13, 3) := dk_180 0 13 (dk_at dksX8_isBarred_0 19 rfl rfl)
theorem dX8_isBarred_22 : decode cX8_isBarred 22 = .ok (.bipush 115, 2) := dk_16 115 (dk_at dksX8_isBarred_0 22 rfl rfl)
theorem dX8_isBarred_24 : decode cX8_isBarred 24 = .ok (.iload 6, 2) := dk_21 6 (dk_at dksX8_isBarred_1 0 rfl rfl)
theorem dX8_isBarred_26 : decode cX8_isBarred 26 = .ok (.iadd, 1) := dk_96 (dk_at dksX8_isBarred_1 2 rfl rfl)
theorem dX8_isBarred_27 : decode cX8_isBarred 27 = .ok (.iaload, 1) := dk_46 (dk_at dksX8_isBarred_1 3 rfl rfl)
theorem dX8_isBarred_28 : decode cX8_isBarred 28 = .ok (.istore 8, 2) := dk_54 8 (dk_at dksX8_isBarred_1 4 rfl rfl)
theorem dX8_isBarred_30 : decode cX8_isBarred 30 = .ok (.iload 8, 2) := dk_21 8 (dk_at dksX8_isBarred_1 6 rfl rfl)
theorem dX8_isBarred_32 : decode cX8_isBarred 32 = .ok (.aload_n 0, 1) := dk_42 (dk_at dksX8_isBarred_1 8 rfl rfl)
theorem dX8_isBarred_33 : decode cX8_isBarred 33 = .ok (.getfield 13, 3) := dk_180 0 13 (dk_at dksX8_isBarred_1 9 rfl rfl)
theorem dX8_isBarred_36 : decode cX8_isBarred 36 = .ok (.bipush 123, 2) := dk_16 123 (dk_at dksX8_isBarred_1 12 rfl rfl)
theorem dX8_isBarred_38 : decode cX8_isBarred 38 = .ok (.iload 6, 2) := dk_21 6 (dk_at dksX8_isBarred_1 14 rfl rfl)
theorem dX8_isBarred_40 : decode cX8_isBarred 40 = .ok (.iadd, 1) := dk_96 (dk_at dksX8_isBarred_1 16 rfl rfl)
theorem dX8_isBarred_41 : decode cX8_isBarred 41 = .ok (.iaload, 1) := dk_46 (dk_at dksX8_isBarred_1 17 rfl rfl)
theorem dX8_isBarred_42 : decode cX8_isBarred 42 = .ok (.if_icmp .ge 191, 3) := dk_162 0 191 (dk_at dksX8_isBarred_1 18 rfl rfl)
theorem dX8_isBarred_45 : decode cX8_isBarred 45 = .ok (.aload_n 0, 1) := dk_42 (dk_at dksX8_isBarred_1 21 rfl rfl)
theorem dX8_isBarred_46 : decode cX8_isBarred 46 = .ok (.getfield 13, 3) := dk_180 0 13 (dk_at dksX8_isBarred_2 0 rfl rfl)
theorem dX8_isBarred_49 : decode cX8_isBarred 49 = .ok (.sipush 131, 3) := dk_17 0 131 (dk_at dksX8_isBarred_2 3 rfl rfl)
theorem dX8_isBarred_52 : decode cX8_isBarred 52 = .ok (.iconst 2, 1) := dk_5 (dk_at dksX8_isBarred_2 6 rfl rfl)
theorem dX8_isBarred_53 : decode cX8_isBarred 53 = .ok (.iload 8, 2) := dk_21 8 (dk_at dksX8_isBarred_2 7 rfl rfl)
theorem dX8_isBarred_55 : decode cX8_isBarred 55 = .ok (.imul, 1) := dk_104 (dk_at dksX8_isBarred_2 9 rfl rfl)
theorem dX8_isBarred_56 : decode cX8_isBarred 56 = .ok (.iadd, 1) := dk_96 (dk_at dksX8_isBarred_2 10 rfl rfl)
theorem dX8_isBarred_57 : decode cX8_isBarred 57 = .ok (.iaload, 1) := dk_46 (dk_at dksX8_isBarred_2 11 rfl rfl)
theorem dX8_isBarred_58 : decode cX8_isBarred 58 = .ok (.istore 9, 2) := dk_54 9 (dk_at dksX8_isBarred_2 12 rfl rfl)
theorem dX8_isBarred_60 : decode cX8_isBarred 60 = .ok (.iload 9, 2) := dk_21 9 (dk_at dksX8_isBarred_2 14 rfl rfl)
theorem dX8_isBarred_62 : decode cX8_isBarred 62 = .ok (.bipush 18, 2) := dk_16 18 (dk_at dksX8_isBarred_2 16 rfl rfl)
theorem dX8_isBarred_64 : decode cX8_isBarred 64 = .ok (.if_icmp .ne 32, 3) := dk_160 0 32 (dk_at dksX8_isBarred_2 18 rfl rfl)
theorem dX8_isBarred_67 : decode cX8_isBarred 67 = .ok (.aload_n 0, 1) := dk_42 (dk_at dksX8_isBarred_2 21 rfl rfl)
theorem dX8_isBarred_68 : decode cX8_isBarred 68 = .ok (.getfield 36, 3) := dk_180 0 36 (dk_at dksX8_isBarred_3 0 rfl rfl)
theorem dX8_isBarred_71 : decode cX8_isBarred 71 = .ok (.iload 7, 2) := dk_21 7 (dk_at dksX8_isBarred_3 3 rfl rfl)
theorem dX8_isBarred_73 : decode cX8_isBarred 73 = .ok (.iconst 1, 1) := dk_4 (dk_at dksX8_isBarred_3 5 rfl rfl)
theorem dX8_isBarred_74 : decode cX8_isBarred 74 = .ok (.isub, 1) := dk_100 (dk_at dksX8_isBarred_3 6 rfl rfl)
theorem dX8_isBarred_75 : decode cX8_isBarred 75 = .ok (.aload_n 0, 1) := dk_42 (dk_at dksX8_isBarred_3 7 rfl rfl)
theorem dX8_isBarred_76 : decode cX8_isBarred 76 = .ok (.getfield 36, 3) := dk_180 0 36 (dk_at dksX8_isBarred_3 8 rfl rfl)
theorem dX8_isBarred_79 : decode cX8_isBarred 79 = .ok (.iload 7, 2) := dk_21 7 (dk_at dksX8_isBarred_3 11 rfl rfl)
theorem dX8_isBarred_81 : decode cX8_isBarred 81 = .ok (.iconst 1, 1) := dk_4 (dk_at dksX8_isBarred_3 13 rfl rfl)
theorem dX8_isBarred_82 : decode cX8_isBarred 82 = .ok (.isub, 1) := dk_100 (dk_at dksX8_isBarred_3 14 rfl rfl)
theorem dX8_isBarred_83 : decode cX8_isBarred 83 = .ok (.baload, 1) := dk_51 (dk_at dksX8_isBarred_3 15 rfl rfl)
theorem dX8_isBarred_84 : decode cX8_isBarred 84 = .ok (.ifCond .ne 7, 3) := dk_154 0 7 (dk_at dksX8_isBarred_3 16 rfl rfl)
theorem dX8_isBarred_87 : decode cX8_isBarred 87 = .ok (.iconst 1, 1) := dk_4 (dk_at dksX8_isBarred_3 19 rfl rfl)
theorem dX8_isBarred_88 : decode cX8_isBarred 88 = .ok (.goto 4, 3) := dk_167 0 4 (dk_at dksX8_isBarred_3 20 rfl rfl)
theorem dX8_isBarred_91 : decode cX8_isBarred 91 = .ok (.iconst 0, 1) := dk_3 (dk_at dksX8_isBarred_3 23 rfl rfl)
theorem dX8_isBarred_92 : decode cX8_isBarred 92 = .ok (.bastore, 1) := dk_84 (dk_at dksX8_isBarred_4 0 rfl rfl)
theorem dX8_isBarred_93 : decode cX8_isBarred 93 = .ok (.goto 134, 3) := dk_167 0 134 (dk_at dksX8_isBarred_4 1 rfl rfl)
theorem dX8_isBarred_96 : decode cX8_isBarred 96 = .ok (.iload 9, 2) := dk_21 9 (dk_at dksX8_isBarred_4 4 rfl rfl)
theorem dX8_isBarred_98 : decode cX8_isBarred 98 = .ok (.bipush 17, 2) := dk_16 17 (dk_at dksX8_isBarred_4 6 rfl rfl)
theorem dX8_isBarred_100 : decode cX8_isBarred 100 = .ok (.if_icmp .eq 10, 3) := dk_159 0 10 (dk_at dksX8_isBarred_4 8 rfl rfl)
theorem dX8_isBarred_103 : decode cX8_isBarred 103 = .ok (.iload 9, 2) := dk_21 9 (dk_at dksX8_isBarred_4 11 rfl rfl)
theorem dX8_isBarred_105 : decode cX8_isBarred 105 = .ok (.bipush 16, 2) := dk_16 16 (dk_at dksX8_isBarred_4 13 rfl rfl)
theorem dX8_isBarred_107 : decode cX8_isBarred 107 = .ok (.if_icmp .ne 82, 3) := dk_160 0 82 (dk_at dksX8_isBarred_4 15 rfl rfl)
theorem dX8_isBarred_110 : decode cX8_isBarred 110 = .ok (.iinc 7 (-1), 3) := dk_132 7 255 (dk_at dksX8_isBarred_4 18 rfl rfl)
theorem dX8_isBarred_113 : decode cX8_isBarred 113 = .ok (.aload_n 0, 1) := dk_42 (dk_at dksX8_isBarred_4 21 rfl rfl)
theorem dX8_isBarred_114 : decode cX8_isBarred 114 = .ok (.getfield 36, 3) := dk_180 0 36 (dk_at dksX8_isBarred_5 0 rfl rfl)
theorem dX8_isBarred_117 : decode cX8_isBarred 117 = .ok (.iload 7, 2) := dk_21 7 (dk_at dksX8_isBarred_5 3 rfl rfl)
theorem dX8_isBarred_119 : decode cX8_isBarred 119 = .ok (.iconst 1, 1) := dk_4 (dk_at dksX8_isBarred_5 5 rfl rfl)
theorem dX8_isBarred_120 : decode cX8_isBarred 120 = .ok (.isub, 1) := dk_100 (dk_at dksX8_isBarred_5 6 rfl rfl)
theorem dX8_isBarred_121 : decode cX8_isBarred 121 = .ok (.iload 9, 2) := dk_21 9 (dk_at dksX8_isBarred_5 7 rfl rfl)
theorem dX8_isBarred_123 : decode cX8_isBarred 123 = .ok (.bipush 17, 2) := dk_16 17 (dk_at dksX8_isBarred_5 9 rfl rfl)
theorem dX8_isBarred_125 : decode cX8_isBarred 125 = .ok (.if_icmp .ne 33, 3) := dk_160 0 33 (dk_at dksX8_isBarred_5 11 rfl rfl)
theorem dX8_isBarred_128 : decode cX8_isBarred 128 = .ok (.aload_n 0, 1) := dk_42 (dk_at dksX8_isBarred_5 14 rfl rfl)
theorem dX8_isBarred_129 : decode cX8_isBarred 129 = .ok (.getfield 36, 3) := dk_180 0 36 (dk_at dksX8_isBarred_5 15 rfl rfl)
theorem dX8_isBarred_132 : decode cX8_isBarred 132 = .ok (.iload 7, 2) := dk_21 7 (dk_at dksX8_isBarred_5 18 rfl rfl)
theorem dX8_isBarred_134 : decode cX8_isBarred 134 = .ok (.iconst 1, 1) := dk_4 (dk_at dksX8_isBarred_5 20 rfl rfl)
theorem dX8_isBarred_135 : decode cX8_isBarred 135 = .ok (.isub, 1) := dk_100 (dk_at dksX8_isBarred_5 21 rfl rfl)
theorem dX8_isBarred_136 : decode cX8_isBarred 136 = .ok (.baload, 1) := dk_51 (dk_at dksX8_isBarred_5 22 rfl rfl)
theorem dX8_isBarred_137 : decode cX8_isBarred 137 = .ok (.ifCond .eq 17, 3) := dk_153 0 17 (dk_at dksX8_isBarred_6 0 rfl rfl)
theorem dX8_isBarred_140 : decode cX8_isBarred 140 = .ok (.aload_n 0, 1) := dk_42 (dk_at dksX8_isBarred_6 3 rfl rfl)
theorem dX8_isBarred_141 : decode cX8_isBarred 141 = .ok (.getfield 36, 3) := dk_180 0 36 (dk_at dksX8_isBarred_6 4 rfl rfl)
theorem dX8_isBarred_144 : decode cX8_isBarred 144 = .ok (.iload 7, 2) := dk_21 7 (dk_at dksX8_isBarred_6 7 rfl rfl)
theorem dX8_isBarred_146 : decode cX8_isBarred 146 = .ok (.baload, 1) := dk_51 (dk_at dksX8_isBarred_6 9 rfl rfl)
theorem dX8_isBarred_147 : decode cX8_isBarred 147 = .ok (.ifCond .eq 7, 3) := dk_153 0 7 (dk_at dksX8_isBarred_6 10 rfl rfl)
theorem dX8_isBarred_150 : decode cX8_isBarred 150 = .ok (.iconst 1, 1) := dk_4 (dk_at dksX8_isBarred_6 13 rfl rfl)
theorem dX8_isBarred_151 : decode cX8_isBarred 151 = .ok (.goto 34, 3) := dk_167 0 34 (dk_at dksX8_isBarred_6 14 rfl rfl)
theorem dX8_isBarred_154 : decode cX8_isBarred 154 = .ok (.iconst 0, 1) := dk_3 (dk_at dksX8_isBarred_6 17 rfl rfl)
theorem dX8_isBarred_155 : decode cX8_isBarred 155 = .ok (.goto 30, 3) := dk_167 0 30 (dk_at dksX8_isBarred_6 18 rfl rfl)
theorem dX8_isBarred_158 : decode cX8_isBarred 158 = .ok (.aload_n 0, 1) := dk_42 (dk_at dksX8_isBarred_6 21 rfl rfl)
theorem dX8_isBarred_159 : decode cX8_isBarred 159 = .ok (.getfield 36, 3) := dk_180 0 36 (dk_at dksX8_isBarred_7 0 rfl rfl)
theorem dX8_isBarred_162 : decode cX8_isBarred 162 = .ok (.iload 7, 2) := dk_21 7 (dk_at dksX8_isBarred_7 3 rfl rfl)
theorem dX8_isBarred_164 : decode cX8_isBarred 164 = .ok (.iconst 1, 1) := dk_4 (dk_at dksX8_isBarred_7 5 rfl rfl)
theorem dX8_isBarred_165 : decode cX8_isBarred 165 = .ok (.isub, 1) := dk_100 (dk_at dksX8_isBarred_7 6 rfl rfl)
theorem dX8_isBarred_166 : decode cX8_isBarred 166 = .ok (.baload, 1) := dk_51 (dk_at dksX8_isBarred_7 7 rfl rfl)
theorem dX8_isBarred_167 : decode cX8_isBarred 167 = .ok (.ifCond .ne 13, 3) := dk_154 0 13 (dk_at dksX8_isBarred_7 8 rfl rfl)
theorem dX8_isBarred_170 : decode cX8_isBarred 170 = .ok (.aload_n 0, 1) := dk_42 (dk_at dksX8_isBarred_7 11 rfl rfl)
theorem dX8_isBarred_171 : decode cX8_isBarred 171 = .ok (.getfield 36, 3) := dk_180 0 36 (dk_at dksX8_isBarred_7 12 rfl rfl)
theorem dX8_isBarred_174 : decode cX8_isBarred 174 = .ok (.iload 7, 2) := dk_21 7 (dk_at dksX8_isBarred_7 15 rfl rfl)
theorem dX8_isBarred_176 : decode cX8_isBarred 176 = .ok (.baload, 1) := dk_51 (dk_at dksX8_isBarred_7 17 rfl rfl)
theorem dX8_isBarred_177 : decode cX8_isBarred 177 = .ok (.ifCond .eq 7, 3) := dk_153 0 7 (dk_at dksX8_isBarred_7 18 rfl rfl)
theorem dX8_isBarred_180 : decode cX8_isBarred 180 = .ok (.iconst 1, 1) := dk_4 (dk_at dksX8_isBarred_7 21 rfl rfl)
theorem dX8_isBarred_181 : decode cX8_isBarred 181 = .ok (.goto 4, 3) := dk_167 0 4 (dk_at dksX8_isBarred_8 0 rfl rfl)
theorem dX8_isBarred_184 : decode cX8_isBarred 184 = .ok (.iconst 0, 1) := dk_3 (dk_at dksX8_isBarred_8 3 rfl rfl)
theorem dX8_isBarred_185 : decode cX8_isBarred 185 = .ok (.bastore, 1) := dk_84 (dk_at dksX8_isBarred_8 4 rfl rfl)
theorem dX8_isBarred_186 : decode cX8_isBarred 186 = .ok (.goto 41, 3) := dk_167 0 41 (dk_at dksX8_isBarred_8 5 rfl rfl)
theorem dX8_isBarred_189 : decode cX8_isBarred 189 = .ok (.aload_n 0, 1) := dk_42 (dk_at dksX8_isBarred_8 8 rfl rfl)
theorem dX8_isBarred_190 : decode cX8_isBarred 190 = .ok (.getfield 36, 3) := dk_180 0 36 (dk_at dksX8_isBarred_8 9 rfl rfl)
theorem dX8_isBarred_193 : decode cX8_isBarred 193 = .ok (.iload 7, 2) := dk_21 7 (dk_at dksX8_isBarred_8 12 rfl rfl)
theorem dX8_isBarred_195 : decode cX8_isBarred 195 = .ok (.aload_n 0, 1) := dk_42 (dk_at dksX8_isBarred_8 14 rfl rfl)
theorem dX8_isBarred_196 : decode cX8_isBarred 196 = .ok (.iload 9, 2) := dk_21 9 (dk_at dksX8_isBarred_8 15 rfl rfl)
theorem dX8_isBarred_198 : decode cX8_isBarred 198 = .ok (.aload_n 0, 1) := dk_42 (dk_at dksX8_isBarred_8 17 rfl rfl)
theorem dX8_isBarred_199 : decode cX8_isBarred 199 = .ok (.getfield 13, 3) := dk_180 0 13 (dk_at dksX8_isBarred_8 18 rfl rfl)
theorem dX8_isBarred_202 : decode cX8_isBarred 202 = .ok (.sipush 131, 3) := dk_17 0 131 (dk_at dksX8_isBarred_8 21 rfl rfl)
theorem dX8_isBarred_205 : decode cX8_isBarred 205 = .ok (.iconst 2, 1) := dk_5 (dk_at dksX8_isBarred_9 0 rfl rfl)
theorem dX8_isBarred_206 : decode cX8_isBarred 206 = .ok (.iload 8, 2) := dk_21 8 (dk_at dksX8_isBarred_9 1 rfl rfl)
theorem dX8_isBarred_208 : decode cX8_isBarred 208 = .ok (.imul, 1) := dk_104 (dk_at dksX8_isBarred_9 3 rfl rfl)
theorem dX8_isBarred_209 : decode cX8_isBarred 209 = .ok (.iadd, 1) := dk_96 (dk_at dksX8_isBarred_9 4 rfl rfl)
theorem dX8_isBarred_210 : decode cX8_isBarred 210 = .ok (.iconst 1, 1) := dk_4 (dk_at dksX8_isBarred_9 5 rfl rfl)
theorem dX8_isBarred_211 : decode cX8_isBarred 211 = .ok (.iadd, 1) := dk_96 (dk_at dksX8_isBarred_9 6 rfl rfl)
theorem dX8_isBarred_212 : decode cX8_isBarred 212 = .ok (.iaload, 1) := dk_46 (dk_at dksX8_isBarred_9 7 rfl rfl)
theorem dX8_isBarred_213 : decode cX8_isBarred 213 = .ok (.iload_n 1, 1) := dk_27 (dk_at dksX8_isBarred_9 8 rfl rfl)
theorem dX8_isBarred_214 : decode cX8_isBarred 214 = .ok (.iload_n 2, 1) := dk_28 (dk_at dksX8_isBarred_9 9 rfl rfl)
theorem dX8_isBarred_215 : decode cX8_isBarred 215 = .ok (.iload_n 3, 1) := dk_29 (dk_at dksX8_isBarred_9 10 rfl rfl)
theorem dX8_isBarred_216 : decode cX8_isBarred 216 = .ok (.iload 4, 2) := dk_21 4 (dk_at dksX8_isBarred_9 11 rfl rfl)
theorem dX8_isBarred_218 : decode cX8_isBarred 218 = .ok (.iload 5, 2) := dk_21 5 (dk_at dksX8_isBarred_9 13 rfl rfl)
theorem dX8_isBarred_220 : decode cX8_isBarred 220 = .ok (.invokevirtual 219, 3) := dk_182 0 219 (dk_at dksX8_isBarred_9 15 rfl rfl)
theorem dX8_isBarred_223 : decode cX8_isBarred 223 = .ok (.bastore, 1) := dk_84 (dk_at dksX8_isBarred_9 18 rfl rfl)
theorem dX8_isBarred_224 : decode cX8_isBarred 224 = .ok (.iinc 7 1, 3) := dk_132 7 1 (dk_at dksX8_isBarred_9 19 rfl rfl)
theorem dX8_isBarred_227 : decode cX8_isBarred 227 = .ok (.iinc 8 1, 3) := dk_132 8 1 (dk_at dksX8_isBarred_10 0 rfl rfl)
theorem dX8_isBarred_230 : decode cX8_isBarred 230 = .ok (.goto (-200), 3) := dk_167 255 56 (dk_at dksX8_isBarred_10 3 rfl rfl)
theorem dX8_isBarred_233 : decode cX8_isBarred 233 = .ok (.aload_n 0, 1) := dk_42 (dk_at dksX8_isBarred_10 6 rfl rfl)
theorem dX8_isBarred_234 : decode cX8_isBarred 234 = .ok (.getfield 36, 3) := dk_180 0 36 (dk_at dksX8_isBarred_10 7 rfl rfl)
theorem dX8_isBarred_237 : decode cX8_isBarred 237 = .ok (.iconst 0, 1) := dk_3 (dk_at dksX8_isBarred_10 10 rfl rfl)
theorem dX8_isBarred_238 : decode cX8_isBarred 238 = .ok (.baload, 1) := dk_51 (dk_at dksX8_isBarred_10 11 rfl rfl)
theorem dX8_isBarred_239 : decode cX8_isBarred 239 = .ok (.ifCond .eq 5, 3) := dk_153 0 5 (dk_at dksX8_isBarred_10 12 rfl rfl)
theorem dX8_isBarred_242 : decode cX8_isBarred 242 = .ok (.iconst 1, 1) := dk_4 (dk_at dksX8_isBarred_10 15 rfl rfl)
theorem dX8_isBarred_243 : decode cX8_isBarred 243 = .ok (.ireturn, 1) := dk_172 (dk_at dksX8_isBarred_10 16 rfl rfl)
theorem dX8_isBarred_244 : decode cX8_isBarred 244 = .ok (.iinc 6 1, 3) := dk_132 6 1 (dk_at dksX8_isBarred_10 17 rfl rfl)
theorem dX8_isBarred_247 : decode cX8_isBarred 247 = .ok (.goto (-244), 3) := dk_167 255 12 (dk_at dksX8_isBarred_10 20 rfl rfl)
theorem dX8_isBarred_250 : decode cX8_isBarred 250 = .ok (.iconst 0, 1) := dk_3 (dk_at dksX8_isBarred_10 23 rfl rfl)
theorem dX8_isBarred_251 : decode cX8_isBarred 251 = .ok (.ireturn, 1) := dk_172 (dk_at dksX8_isBarred_11 0 rfl rfl)
abbrev cX8_fact : ByteArray := prog_20_method_37_code
def yX8_fact : MethodName := ⟨RX8, "fact", "(IIIIIII)Z"⟩
def dkwX8_fact_5 : List UInt8 := [167, 0, 4, 3, 172, 21, 7, 28, 161, 0, 7, 4, 167, 0, 4, 3, 172]
abbrev dktX8_fact_5 : List UInt8 := dkwX8_fact_5 ++ []
def dkwX8_fact_4 : List UInt8 := [167, 0, 4, 3, 172, 21, 5, 28, 160, 0, 7, 4, 167, 0, 4, 3, 172, 21, 6, 28, 161, 0, 7, 4]
abbrev dktX8_fact_4 : List UInt8 := dkwX8_fact_4 ++ dktX8_fact_5
def dkwX8_fact_3 : List UInt8 := [16, 15, 29, 96, 46, 28, 161, 0, 7, 4, 167, 0, 4, 3, 172, 21, 4, 28, 160, 0, 7, 4]
abbrev dktX8_fact_3 : List UInt8 := dkwX8_fact_3 ++ dktX8_fact_4
def dkwX8_fact_2 : List UInt8 := [42, 180, 0, 13, 16, 7, 29, 96, 46, 28, 160, 0, 7, 4, 167, 0, 4, 3, 172, 42, 180, 0, 13]
abbrev dktX8_fact_2 : List UInt8 := dkwX8_fact_2 ++ dktX8_fact_3
def dkwX8_fact_1 : List UInt8 := [171, 0, 0, 0, 0, 0, 125, 0, 0, 0, 5, 0, 0, 0, 2, 0, 0, 0, 70, 0, 0, 0, 19, 0, 0, 0, 51, 0, 0, 0, 20, 0, 0, 0, 89, 0, 0, 0, 21, 0, 0, 0, 101, 0, 0, 0, 22, 0, 0, 0, 113]
abbrev dktX8_fact_1 : List UInt8 := dkwX8_fact_1 ++ dktX8_fact_2
def dkwX8_fact_0 : List UInt8 := [27]
abbrev dktX8_fact_0 : List UInt8 := dkwX8_fact_0 ++ dktX8_fact_1
theorem dksX8_fact_0 : cX8_fact.data.toList.drop 0 = dktX8_fact_0 := by decide +kernel
theorem dksX8_fact_1 : cX8_fact.data.toList.drop 1 = dktX8_fact_1 := dk_seg dksX8_fact_0 1 rfl rfl
theorem dksX8_fact_2 : cX8_fact.data.toList.drop 52 = dktX8_fact_2 := dk_seg dksX8_fact_1 51 rfl rfl
theorem dksX8_fact_3 : cX8_fact.data.toList.drop 75 = dktX8_fact_3 := dk_seg dksX8_fact_2 23 rfl rfl
theorem dksX8_fact_4 : cX8_fact.data.toList.drop 97 = dktX8_fact_4 := dk_seg dksX8_fact_3 22 rfl rfl
theorem dksX8_fact_5 : cX8_fact.data.toList.drop 121 = dktX8_fact_5 := dk_seg dksX8_fact_4 24 rfl rfl
theorem dX8_fact_0 : decode cX8_fact 0 = .ok (.iload_n 1, 1) := dk_27 (dk_at dksX8_fact_0 0 rfl rfl)
theorem dX8_fact_1 : decode cX8_fact 1 = .ok (.lookupswitch 125 #[(2, 70), (19, 51), (20, 89), (21, 101), (22, 113)], 51) := by decide +kernel
theorem dX8_fact_52 : decode cX8_fact 52 = .ok (.aload_n 0, 1) := dk_42 (dk_at dksX8_fact_2 0 rfl rfl)
theorem dX8_fact_53 : decode cX8_fact 53 = .ok (.getfield 13, 3) := dk_180 0 13 (dk_at dksX8_fact_2 1 rfl rfl)
theorem dX8_fact_56 : decode cX8_fact 56 = .ok (.bipush 7, 2) := dk_16 7 (dk_at dksX8_fact_2 4 rfl rfl)
theorem dX8_fact_58 : decode cX8_fact 58 = .ok (.iload_n 3, 1) := dk_29 (dk_at dksX8_fact_2 6 rfl rfl)
theorem dX8_fact_59 : decode cX8_fact 59 = .ok (.iadd, 1) := dk_96 (dk_at dksX8_fact_2 7 rfl rfl)
theorem dX8_fact_60 : decode cX8_fact 60 = .ok (.iaload, 1) := dk_46 (dk_at dksX8_fact_2 8 rfl rfl)
theorem dX8_fact_61 : decode cX8_fact 61 = .ok (.iload_n 2, 1) := dk_28 (dk_at dksX8_fact_2 9 rfl rfl)
theorem dX8_fact_62 : decode cX8_fact 62 = .ok (.if_icmp .ne 7, 3) := dk_160 0 7 (dk_at dksX8_fact_2 10 rfl rfl)
theorem dX8_fact_65 : decode cX8_fact 65 = .ok (.iconst 1, 1) := dk_4 (dk_at dksX8_fact_2 13 rfl rfl)
theorem dX8_fact_66 : decode cX8_fact 66 = .ok (.goto 4, 3) := dk_167 0 4 (dk_at dksX8_fact_2 14 rfl rfl)
theorem dX8_fact_69 : decode cX8_fact 69 = .ok (.iconst 0, 1) := dk_3 (dk_at dksX8_fact_2 17 rfl rfl)
theorem dX8_fact_70 : decode cX8_fact 70 = .ok (.ireturn, 1) := dk_172 (dk_at dksX8_fact_2 18 rfl rfl)
theorem dX8_fact_71 : decode cX8_fact 71 = .ok (.aload_n 0, 1) := dk_42 (dk_at dksX8_fact_2 19 rfl rfl)
theorem dX8_fact_72 : decode cX8_fact 72 = .ok (.getfield 13, 3) := dk_180 0 13 (dk_at dksX8_fact_2 20 rfl rfl)
theorem dX8_fact_75 : decode cX8_fact 75 = .ok (.bipush 15, 2) := dk_16 15 (dk_at dksX8_fact_3 0 rfl rfl)
theorem dX8_fact_77 : decode cX8_fact 77 = .ok (.iload_n 3, 1) := dk_29 (dk_at dksX8_fact_3 2 rfl rfl)
theorem dX8_fact_78 : decode cX8_fact 78 = .ok (.iadd, 1) := dk_96 (dk_at dksX8_fact_3 3 rfl rfl)
theorem dX8_fact_79 : decode cX8_fact 79 = .ok (.iaload, 1) := dk_46 (dk_at dksX8_fact_3 4 rfl rfl)
theorem dX8_fact_80 : decode cX8_fact 80 = .ok (.iload_n 2, 1) := dk_28 (dk_at dksX8_fact_3 5 rfl rfl)
theorem dX8_fact_81 : decode cX8_fact 81 = .ok (.if_icmp .lt 7, 3) := dk_161 0 7 (dk_at dksX8_fact_3 6 rfl rfl)
theorem dX8_fact_84 : decode cX8_fact 84 = .ok (.iconst 1, 1) := dk_4 (dk_at dksX8_fact_3 9 rfl rfl)
theorem dX8_fact_85 : decode cX8_fact 85 = .ok (.goto 4, 3) := dk_167 0 4 (dk_at dksX8_fact_3 10 rfl rfl)
theorem dX8_fact_88 : decode cX8_fact 88 = .ok (.iconst 0, 1) := dk_3 (dk_at dksX8_fact_3 13 rfl rfl)
theorem dX8_fact_89 : decode cX8_fact 89 = .ok (.ireturn, 1) := dk_172 (dk_at dksX8_fact_3 14 rfl rfl)
theorem dX8_fact_90 : decode cX8_fact 90 = .ok (.iload 4, 2) := dk_21 4 (dk_at dksX8_fact_3 15 rfl rfl)
theorem dX8_fact_92 : decode cX8_fact 92 = .ok (.iload_n 2, 1) := dk_28 (dk_at dksX8_fact_3 17 rfl rfl)
theorem dX8_fact_93 : decode cX8_fact 93 = .ok (.if_icmp .ne 7, 3) := dk_160 0 7 (dk_at dksX8_fact_3 18 rfl rfl)
theorem dX8_fact_96 : decode cX8_fact 96 = .ok (.iconst 1, 1) := dk_4 (dk_at dksX8_fact_3 21 rfl rfl)
theorem dX8_fact_97 : decode cX8_fact 97 = .ok (.goto 4, 3) := dk_167 0 4 (dk_at dksX8_fact_4 0 rfl rfl)
theorem dX8_fact_100 : decode cX8_fact 100 = .ok (.iconst 0, 1) := dk_3 (dk_at dksX8_fact_4 3 rfl rfl)
theorem dX8_fact_101 : decode cX8_fact 101 = .ok (.ireturn, 1) := dk_172 (dk_at dksX8_fact_4 4 rfl rfl)
theorem dX8_fact_102 : decode cX8_fact 102 = .ok (.iload 5, 2) := dk_21 5 (dk_at dksX8_fact_4 5 rfl rfl)
theorem dX8_fact_104 : decode cX8_fact 104 = .ok (.iload_n 2, 1) := dk_28 (dk_at dksX8_fact_4 7 rfl rfl)
theorem dX8_fact_105 : decode cX8_fact 105 = .ok (.if_icmp .ne 7, 3) := dk_160 0 7 (dk_at dksX8_fact_4 8 rfl rfl)
theorem dX8_fact_108 : decode cX8_fact 108 = .ok (.iconst 1, 1) := dk_4 (dk_at dksX8_fact_4 11 rfl rfl)
theorem dX8_fact_109 : decode cX8_fact 109 = .ok (.goto 4, 3) := dk_167 0 4 (dk_at dksX8_fact_4 12 rfl rfl)
theorem dX8_fact_112 : decode cX8_fact 112 = .ok (.iconst 0, 1) := dk_3 (dk_at dksX8_fact_4 15 rfl rfl)
theorem dX8_fact_113 : decode cX8_fact 113 = .ok (.ireturn, 1) := dk_172 (dk_at dksX8_fact_4 16 rfl rfl)
theorem dX8_fact_114 : decode cX8_fact 114 = .ok (.iload 6, 2) := dk_21 6 (dk_at dksX8_fact_4 17 rfl rfl)
theorem dX8_fact_116 : decode cX8_fact 116 = .ok (.iload_n 2, 1) := dk_28 (dk_at dksX8_fact_4 19 rfl rfl)
theorem dX8_fact_117 : decode cX8_fact 117 = .ok (.if_icmp .lt 7, 3) := dk_161 0 7 (dk_at dksX8_fact_4 20 rfl rfl)
theorem dX8_fact_120 : decode cX8_fact 120 = .ok (.iconst 1, 1) := dk_4 (dk_at dksX8_fact_4 23 rfl rfl)
theorem dX8_fact_121 : decode cX8_fact 121 = .ok (.goto 4, 3) := dk_167 0 4 (dk_at dksX8_fact_5 0 rfl rfl)
theorem dX8_fact_124 : decode cX8_fact 124 = .ok (.iconst 0, 1) := dk_3 (dk_at dksX8_fact_5 3 rfl rfl)
theorem dX8_fact_125 : decode cX8_fact 125 = .ok (.ireturn, 1) := dk_172 (dk_at dksX8_fact_5 4 rfl rfl)
theorem dX8_fact_126 : decode cX8_fact 126 = .ok (.iload 7, 2) := dk_21 7 (dk_at dksX8_fact_5 5 rfl rfl)
theorem dX8_fact_128 : decode cX8_fact 128 = .ok (.iload_n 2, 1) := dk_28 (dk_at dksX8_fact_5 7 rfl rfl)
theorem dX8_fact_129 : decode cX8_fact 129 = .ok (.if_icmp .lt 7, 3) := dk_161 0 7 (dk_at dksX8_fact_5 8 rfl rfl)
theorem dX8_fact_132 : decode cX8_fact 132 = .ok (.iconst 1, 1) := dk_4 (dk_at dksX8_fact_5 11 rfl rfl)
theorem dX8_fact_133 : decode cX8_fact 133 = .ok (.goto 4, 3) := dk_167 0 4 (dk_at dksX8_fact_5 12 rfl rfl)
theorem dX8_fact_136 : decode cX8_fact 136 = .ok (.iconst 0, 1) := dk_3 (dk_at dksX8_fact_5 15 rfl rfl)
theorem dX8_fact_137 : decode cX8_fact 137 = .ok (.ireturn, 1) := dk_172 (dk_at dksX8_fact_5 16 rfl rfl)
abbrev cX8_bitsOf : ByteArray := prog_20_method_40_code
def yX8_bitsOf : MethodName := ⟨RX8, "bitsOf", "(I)I"⟩
def dkwX8_bitsOf_1 : List UInt8 := [27, 172]
abbrev dktX8_bitsOf_1 : List UInt8 := dkwX8_bitsOf_1 ++ []
def dkwX8_bitsOf_0 : List UInt8 := [3, 60, 3, 61, 28, 16, 16, 162, 0, 17, 27, 26, 28, 122, 4, 126, 96, 60, 132, 2, 1, 167, 255, 239]
abbrev dktX8_bitsOf_0 : List UInt8 := dkwX8_bitsOf_0 ++ dktX8_bitsOf_1
theorem dksX8_bitsOf_0 : cX8_bitsOf.data.toList.drop 0 = dktX8_bitsOf_0 := by decide +kernel
theorem dksX8_bitsOf_1 : cX8_bitsOf.data.toList.drop 24 = dktX8_bitsOf_1 := dk_seg dksX8_bitsOf_0 24 rfl rfl
theorem dX8_bitsOf_0 : decode cX8_bitsOf 0 = .ok (.iconst 0, 1) := dk_3 (dk_at dksX8_bitsOf_0 0 rfl rfl)
theorem dX8_bitsOf_1 : decode cX8_bitsOf 1 = .ok (.istore_n 1, 1) := dk_60 (dk_at dksX8_bitsOf_0 1 rfl rfl)
theorem dX8_bitsOf_2 : decode cX8_bitsOf 2 = .ok (.iconst 0, 1) := dk_3 (dk_at dksX8_bitsOf_0 2 rfl rfl)
theorem dX8_bitsOf_3 : decode cX8_bitsOf 3 = .ok (.istore_n 2, 1) := dk_61 (dk_at dksX8_bitsOf_0 3 rfl rfl)
theorem dX8_bitsOf_4 : decode cX8_bitsOf 4 = .ok (.iload_n 2, 1) := dk_28 (dk_at dksX8_bitsOf_0 4 rfl rfl)
theorem dX8_bitsOf_5 : decode cX8_bitsOf 5 = .ok (.bipush 16, 2) := dk_16 16 (dk_at dksX8_bitsOf_0 5 rfl rfl)
theorem dX8_bitsOf_7 : decode cX8_bitsOf 7 = .ok (.if_icmp .ge 17, 3) := dk_162 0 17 (dk_at dksX8_bitsOf_0 7 rfl rfl)
theorem dX8_bitsOf_10 : decode cX8_bitsOf 10 = .ok (.iload_n 1, 1) := dk_27 (dk_at dksX8_bitsOf_0 10 rfl rfl)
theorem dX8_bitsOf_11 : decode cX8_bitsOf 11 = .ok (.iload_n 0, 1) := dk_26 (dk_at dksX8_bitsOf_0 11 rfl rfl)
theorem dX8_bitsOf_12 : decode cX8_bitsOf 12 = .ok (.iload_n 2, 1) := dk_28 (dk_at dksX8_bitsOf_0 12 rfl rfl)
theorem dX8_bitsOf_13 : decode cX8_bitsOf 13 = .ok (.ishr, 1) := dk_122 (dk_at dksX8_bitsOf_0 13 rfl rfl)
theorem dX8_bitsOf_14 : decode cX8_bitsOf 14 = .ok (.iconst 1, 1) := dk_4 (dk_at dksX8_bitsOf_0 14 rfl rfl)
theorem dX8_bitsOf_15 : decode cX8_bitsOf 15 = .ok (.iand, 1) := dk_126 (dk_at dksX8_bitsOf_0 15 rfl rfl)
theorem dX8_bitsOf_16 : decode cX8_bitsOf 16 = .ok (.iadd, 1) := dk_96 (dk_at dksX8_bitsOf_0 16 rfl rfl)
theorem dX8_bitsOf_17 : decode cX8_bitsOf 17 = .ok (.istore_n 1, 1) := dk_60 (dk_at dksX8_bitsOf_0 17 rfl rfl)
theorem dX8_bitsOf_18 : decode cX8_bitsOf 18 = .ok (.iinc 2 1, 3) := dk_132 2 1 (dk_at dksX8_bitsOf_0 18 rfl rfl)
theorem dX8_bitsOf_21 : decode cX8_bitsOf 21 = .ok (.goto (-17), 3) := dk_167 255 239 (dk_at dksX8_bitsOf_0 21 rfl rfl)
theorem dX8_bitsOf_24 : decode cX8_bitsOf 24 = .ok (.iload_n 1, 1) := dk_27 (dk_at dksX8_bitsOf_1 0 rfl rfl)
theorem dX8_bitsOf_25 : decode cX8_bitsOf 25 = .ok (.ireturn, 1) := dk_172 (dk_at dksX8_bitsOf_1 1 rfl rfl)
abbrev cX8_mayExchange : ByteArray := prog_20_method_56_code
def yX8_mayExchange : MethodName := ⟨RX8, "mayExchange", "(II)I"⟩
def dkwX8_mayExchange_0 : List UInt8 := [42, 3, 181, 0, 1, 42, 182, 1, 4, 42, 27, 28, 182, 1, 13, 172]
abbrev dktX8_mayExchange_0 : List UInt8 := dkwX8_mayExchange_0 ++ []
theorem dksX8_mayExchange_0 : cX8_mayExchange.data.toList.drop 0 = dktX8_mayExchange_0 := by decide +kernel
theorem dX8_mayExchange_0 : decode cX8_mayExchange 0 = .ok (.aload_n 0, 1) := dk_42 (dk_at dksX8_mayExchange_0 0 rfl rfl)
theorem dX8_mayExchange_1 : decode cX8_mayExchange 1 = .ok (.iconst 0, 1) := dk_3 (dk_at dksX8_mayExchange_0 1 rfl rfl)
theorem dX8_mayExchange_2 : decode cX8_mayExchange 2 = .ok (.putfield 1, 3) := dk_181 0 1 (dk_at dksX8_mayExchange_0 2 rfl rfl)
theorem dX8_mayExchange_5 : decode cX8_mayExchange 5 = .ok (.aload_n 0, 1) := dk_42 (dk_at dksX8_mayExchange_0 5 rfl rfl)
theorem dX8_mayExchange_6 : decode cX8_mayExchange 6 = .ok (.invokevirtual 260, 3) := dk_182 1 4 (dk_at dksX8_mayExchange_0 6 rfl rfl)
theorem dX8_mayExchange_9 : decode cX8_mayExchange 9 = .ok (.aload_n 0, 1) := dk_42 (dk_at dksX8_mayExchange_0 9 rfl rfl)
theorem dX8_mayExchange_10 : decode cX8_mayExchange 10 = .ok (.iload_n 1, 1) := dk_27 (dk_at dksX8_mayExchange_0 10 rfl rfl)
theorem dX8_mayExchange_11 : decode cX8_mayExchange 11 = .ok (.iload_n 2, 1) := dk_28 (dk_at dksX8_mayExchange_0 11 rfl rfl)
theorem dX8_mayExchange_12 : decode cX8_mayExchange 12 = .ok (.invokevirtual 269, 3) := dk_182 1 13 (dk_at dksX8_mayExchange_0 12 rfl rfl)
theorem dX8_mayExchange_15 : decode cX8_mayExchange 15 = .ok (.ireturn, 1) := dk_172 (dk_at dksX8_mayExchange_0 15 rfl rfl)
abbrev cX8_mayTurn : ByteArray := prog_20_method_43_code
def yX8_mayTurn : MethodName := ⟨RX8, "mayTurn", "(II)I"⟩
def dkwX8_mayTurn_9 : List UInt8 := [184, 0, 247, 5, 96, 42, 180, 0, 13, 16, 76, 46, 164, 0, 8, 16, 9, 167, 0, 4, 3, 172]
abbrev dktX8_mayTurn_9 : List UInt8 := dkwX8_mayTurn_9 ++ []
def dkwX8_mayTurn_8 : List UInt8 := [4, 100, 42, 180, 0, 33, 27, 46, 4, 100, 182, 0, 240, 153, 0, 6, 16, 7, 172, 42, 180, 0, 211]
abbrev dktX8_mayTurn_8 : List UInt8 := dkwX8_mayTurn_8 ++ dktX8_mayTurn_9
def dkwX8_mayTurn_7 : List UInt8 := [180, 0, 33, 28, 46, 4, 100, 182, 0, 240, 154, 0, 30, 42, 21, 4, 28, 27, 42, 180, 0, 33, 28, 46]
abbrev dktX8_mayTurn_7 : List UInt8 := dkwX8_mayTurn_7 ++ dktX8_mayTurn_8
def dkwX8_mayTurn_6 : List UInt8 := [96, 46, 182, 0, 236, 153, 0, 6, 16, 6, 172, 42, 29, 27, 28, 42, 180, 0, 33, 27, 46, 4, 100, 42]
abbrev dktX8_mayTurn_6 : List UInt8 := dkwX8_mayTurn_6 ++ dktX8_mayTurn_7
def dkwX8_mayTurn_5 : List UInt8 := [182, 0, 236, 154, 0, 29, 42, 27, 42, 180, 0, 33, 27, 46, 4, 100, 42, 180, 0, 13, 16, 15, 21, 4]
abbrev dktX8_mayTurn_5 : List UInt8 := dkwX8_mayTurn_5 ++ dktX8_mayTurn_6
def dkwX8_mayTurn_4 : List UInt8 := [153, 0, 5, 8, 172, 42, 28, 42, 180, 0, 33, 28, 46, 4, 100, 42, 180, 0, 13, 16, 15, 29, 96, 46]
abbrev dktX8_mayTurn_4 : List UInt8 := dkwX8_mayTurn_4 ++ dktX8_mayTurn_5
def dkwX8_mayTurn_3 : List UInt8 := [182, 0, 229, 154, 0, 12, 42, 21, 4, 182, 0, 229, 153, 0, 5, 6, 172, 42, 27, 28, 182, 0, 232]
abbrev dktX8_mayTurn_3 : List UInt8 := dkwX8_mayTurn_3 ++ dktX8_mayTurn_4
def dkwX8_mayTurn_2 : List UInt8 := [28, 46, 154, 0, 5, 5, 172, 42, 27, 182, 0, 226, 62, 42, 28, 182, 0, 226, 54, 4, 42, 29]
abbrev dktX8_mayTurn_2 : List UInt8 := dkwX8_mayTurn_2 ++ dktX8_mayTurn_3
def dkwX8_mayTurn_1 : List UInt8 := [180, 0, 13, 16, 77, 46, 154, 0, 5, 4, 172, 42, 180, 0, 33, 27, 46, 153, 0, 12, 42, 180, 0, 33]
abbrev dktX8_mayTurn_1 : List UInt8 := dkwX8_mayTurn_1 ++ dktX8_mayTurn_2
def dkwX8_mayTurn_0 : List UInt8 := [42, 27, 182, 0, 223, 153, 0, 26, 42, 28, 182, 0, 223, 153, 0, 18, 27, 28, 159, 0, 13, 42]
abbrev dktX8_mayTurn_0 : List UInt8 := dkwX8_mayTurn_0 ++ dktX8_mayTurn_1
theorem dksX8_mayTurn_0 : cX8_mayTurn.data.toList.drop 0 = dktX8_mayTurn_0 := by decide +kernel
theorem dksX8_mayTurn_1 : cX8_mayTurn.data.toList.drop 22 = dktX8_mayTurn_1 := dk_seg dksX8_mayTurn_0 22 rfl rfl
theorem dksX8_mayTurn_2 : cX8_mayTurn.data.toList.drop 46 = dktX8_mayTurn_2 := dk_seg dksX8_mayTurn_1 24 rfl rfl
theorem dksX8_mayTurn_3 : cX8_mayTurn.data.toList.drop 68 = dktX8_mayTurn_3 := dk_seg dksX8_mayTurn_2 22 rfl rfl
theorem dksX8_mayTurn_4 : cX8_mayTurn.data.toList.drop 91 = dktX8_mayTurn_4 := dk_seg dksX8_mayTurn_3 23 rfl rfl
theorem dksX8_mayTurn_5 : cX8_mayTurn.data.toList.drop 115 = dktX8_mayTurn_5 := dk_seg dksX8_mayTurn_4 24 rfl rfl
theorem dksX8_mayTurn_6 : cX8_mayTurn.data.toList.drop 139 = dktX8_mayTurn_6 := dk_seg dksX8_mayTurn_5 24 rfl rfl
theorem dksX8_mayTurn_7 : cX8_mayTurn.data.toList.drop 163 = dktX8_mayTurn_7 := dk_seg dksX8_mayTurn_6 24 rfl rfl
theorem dksX8_mayTurn_8 : cX8_mayTurn.data.toList.drop 187 = dktX8_mayTurn_8 := dk_seg dksX8_mayTurn_7 24 rfl rfl
theorem dksX8_mayTurn_9 : cX8_mayTurn.data.toList.drop 210 = dktX8_mayTurn_9 := dk_seg dksX8_mayTurn_8 23 rfl rfl
theorem dX8_mayTurn_0 : decode cX8_mayTurn 0 = .ok (.aload_n 0, 1) := dk_42 (dk_at dksX8_mayTurn_0 0 rfl rfl)
theorem dX8_mayTurn_1 : decode cX8_mayTurn 1 = .ok (.iload_n 1, 1) := dk_27 (dk_at dksX8_mayTurn_0 1 rfl rfl)
theorem dX8_mayTurn_2 : decode cX8_mayTurn 2 = .ok (.invokevirtual 223, 3) := dk_182 0 223 (dk_at dksX8_mayTurn_0 2 rfl rfl)
theorem dX8_mayTurn_5 : decode cX8_mayTurn 5 = .ok (.ifCond .eq 26, 3) := dk_153 0 26 (dk_at dksX8_mayTurn_0 5 rfl rfl)
theorem dX8_mayTurn_8 : decode cX8_mayTurn 8 = .ok (.aload_n 0, 1) := dk_42 (dk_at dksX8_mayTurn_0 8 rfl rfl)
theorem dX8_mayTurn_9 : decode cX8_mayTurn 9 = .ok (.iload_n 2, 1) := dk_28 (dk_at dksX8_mayTurn_0 9 rfl rfl)
theorem dX8_mayTurn_10 : decode cX8_mayTurn 10 = .ok (.invokevirtual 223, 3) := dk_182 0 223 (dk_at dksX8_mayTurn_0 10 rfl rfl)
theorem dX8_mayTurn_13 : decode cX8_mayTurn 13 = .ok (.ifCond .eq 18, 3) := dk_153 0 18 (dk_at dksX8_mayTurn_0 13 rfl rfl)
theorem dX8_mayTurn_16 : decode cX8_mayTurn 16 = .ok (.iload_n 1, 1) := dk_27 (dk_at dksX8_mayTurn_0 16 rfl rfl)
theorem dX8_mayTurn_17 : decode cX8_mayTurn 17 = .ok (.iload_n 2, 1) := dk_28 (dk_at dksX8_mayTurn_0 17 rfl rfl)
theorem dX8_mayTurn_18 : decode cX8_mayTurn 18 = .ok (.if_icmp .eq 13, 3) := dk_159 0 13 (dk_at dksX8_mayTurn_0 18 rfl rfl)
theorem dX8_mayTurn_21 : decode cX8_mayTurn 21 = .ok (.aload_n 0, 1) := dk_42 (dk_at dksX8_mayTurn_0 21 rfl rfl)
theorem dX8_mayTurn_22 : decode cX8_mayTurn 22 = .ok (.getfield 13, 3) := dk_180 0 13 (dk_at dksX8_mayTurn_1 0 rfl rfl)
theorem dX8_mayTurn_25 : decode cX8_mayTurn 25 = .ok (.bipush 77, 2) := dk_16 77 (dk_at dksX8_mayTurn_1 3 rfl rfl)
theorem dX8_mayTurn_27 : decode cX8_mayTurn 27 = .ok (.iaload, 1) := dk_46 (dk_at dksX8_mayTurn_1 5 rfl rfl)
theorem dX8_mayTurn_28 : decode cX8_mayTurn 28 = .ok (.ifCond .ne 5, 3) := dk_154 0 5 (dk_at dksX8_mayTurn_1 6 rfl rfl)
theorem dX8_mayTurn_31 : decode cX8_mayTurn 31 = .ok (.iconst 1, 1) := dk_4 (dk_at dksX8_mayTurn_1 9 rfl rfl)
theorem dX8_mayTurn_32 : decode cX8_mayTurn 32 = .ok (.ireturn, 1) := dk_172 (dk_at dksX8_mayTurn_1 10 rfl rfl)
theorem dX8_mayTurn_33 : decode cX8_mayTurn 33 = .ok (.aload_n 0, 1) := dk_42 (dk_at dksX8_mayTurn_1 11 rfl rfl)
theorem dX8_mayTurn_34 : decode cX8_mayTurn 34 = .ok (.getfield 33, 3) := dk_180 0 33 (dk_at dksX8_mayTurn_1 12 rfl rfl)
theorem dX8_mayTurn_37 : decode cX8_mayTurn 37 = .ok (.iload_n 1, 1) := dk_27 (dk_at dksX8_mayTurn_1 15 rfl rfl)
theorem dX8_mayTurn_38 : decode cX8_mayTurn 38 = .ok (.iaload, 1) := dk_46 (dk_at dksX8_mayTurn_1 16 rfl rfl)
theorem dX8_mayTurn_39 : decode cX8_mayTurn 39 = .ok (.ifCond .eq 12, 3) := dk_153 0 12 (dk_at dksX8_mayTurn_1 17 rfl rfl)
theorem dX8_mayTurn_42 : decode cX8_mayTurn 42 = .ok (.aload_n 0, 1) := dk_42 (dk_at dksX8_mayTurn_1 20 rfl rfl)
theorem dX8_mayTurn_43 : decode cX8_mayTurn 43 = .ok (.getfield 33, 3) := dk_180 0 33 (dk_at dksX8_mayTurn_1 21 rfl rfl)
theorem dX8_mayTurn_46 : decode cX8_mayTurn 46 = .ok (.iload_n 2, 1) := dk_28 (dk_at dksX8_mayTurn_2 0 rfl rfl)
theorem dX8_mayTurn_47 : decode cX8_mayTurn 47 = .ok (.iaload, 1) := dk_46 (dk_at dksX8_mayTurn_2 1 rfl rfl)
theorem dX8_mayTurn_48 : decode cX8_mayTurn 48 = .ok (.ifCond .ne 5, 3) := dk_154 0 5 (dk_at dksX8_mayTurn_2 2 rfl rfl)
theorem dX8_mayTurn_51 : decode cX8_mayTurn 51 = .ok (.iconst 2, 1) := dk_5 (dk_at dksX8_mayTurn_2 5 rfl rfl)
theorem dX8_mayTurn_52 : decode cX8_mayTurn 52 = .ok (.ireturn, 1) := dk_172 (dk_at dksX8_mayTurn_2 6 rfl rfl)
theorem dX8_mayTurn_53 : decode cX8_mayTurn 53 = .ok (.aload_n 0, 1) := dk_42 (dk_at dksX8_mayTurn_2 7 rfl rfl)
theorem dX8_mayTurn_54 : decode cX8_mayTurn 54 = .ok (.iload_n 1, 1) := dk_27 (dk_at dksX8_mayTurn_2 8 rfl rfl)
theorem dX8_mayTurn_55 : decode cX8_mayTurn 55 = .ok (.invokevirtual 226, 3) := dk_182 0 226 (dk_at dksX8_mayTurn_2 9 rfl rfl)
theorem dX8_mayTurn_58 : decode cX8_mayTurn 58 = .ok (.istore_n 3, 1) := dk_62 (dk_at dksX8_mayTurn_2 12 rfl rfl)
theorem dX8_mayTurn_59 : decode cX8_mayTurn 59 = .ok (.aload_n 0, 1) := dk_42 (dk_at dksX8_mayTurn_2 13 rfl rfl)
theorem dX8_mayTurn_60 : decode cX8_mayTurn 60 = .ok (.iload_n 2, 1) := dk_28 (dk_at dksX8_mayTurn_2 14 rfl rfl)
theorem dX8_mayTurn_61 : decode cX8_mayTurn 61 = .ok (.invokevirtual 226, 3) := dk_182 0 226 (dk_at dksX8_mayTurn_2 15 rfl rfl)
theorem dX8_mayTurn_64 : decode cX8_mayTurn 64 = .ok (.istore 4, 2) := dk_54 4 (dk_at dksX8_mayTurn_2 18 rfl rfl)
theorem dX8_mayTurn_66 : decode cX8_mayTurn 66 = .ok (.aload_n 0, 1) := dk_42 (dk_at dksX8_mayTurn_2 20 rfl rfl)
theorem dX8_mayTurn_67 : decode cX8_mayTurn 67 = .ok (.iload_n 3, 1) := dk_29 (dk_at dksX8_mayTurn_2 21 rfl rfl)
theorem dX8_mayTurn_68 : decode cX8_mayTurn 68 = .ok (.invokevirtual 229, 3) := dk_182 0 229 (dk_at dksX8_mayTurn_3 0 rfl rfl)
theorem dX8_mayTurn_71 : decode cX8_mayTurn 71 = .ok (.ifCond .ne 12, 3) := dk_154 0 12 (dk_at dksX8_mayTurn_3 3 rfl rfl)
theorem dX8_mayTurn_74 : decode cX8_mayTurn 74 = .ok (.aload_n 0, 1) := dk_42 (dk_at dksX8_mayTurn_3 6 rfl rfl)
theorem dX8_mayTurn_75 : decode cX8_mayTurn 75 = .ok (.iload 4, 2) := dk_21 4 (dk_at dksX8_mayTurn_3 7 rfl rfl)
theorem dX8_mayTurn_77 : decode cX8_mayTurn 77 = .ok (.invokevirtual 229, 3) := dk_182 0 229 (dk_at dksX8_mayTurn_3 9 rfl rfl)
theorem dX8_mayTurn_80 : decode cX8_mayTurn 80 = .ok (.ifCond .eq 5, 3) := dk_153 0 5 (dk_at dksX8_mayTurn_3 12 rfl rfl)
theorem dX8_mayTurn_83 : decode cX8_mayTurn 83 = .ok (.iconst 3, 1) := dk_6 (dk_at dksX8_mayTurn_3 15 rfl rfl)
theorem dX8_mayTurn_84 : decode cX8_mayTurn 84 = .ok (.ireturn, 1) := dk_172 (dk_at dksX8_mayTurn_3 16 rfl rfl)
theorem dX8_mayTurn_85 : decode cX8_mayTurn 85 = .ok (.aload_n 0, 1) := dk_42 (dk_at dksX8_mayTurn_3 17 rfl rfl)
theorem dX8_mayTurn_86 : decode cX8_mayTurn 86 = .ok (.iload_n 1, 1) := dk_27 (dk_at dksX8_mayTurn_3 18 rfl rfl)
theorem dX8_mayTurn_87 : decode cX8_mayTurn 87 = .ok (.iload_n 2, 1) := dk_28 (dk_at dksX8_mayTurn_3 19 rfl rfl)
theorem dX8_mayTurn_88 : decode cX8_mayTurn 88 = .ok (.invokevirtual 232, 3) := dk_182 0 232 (dk_at dksX8_mayTurn_3 20 rfl rfl)
theorem dX8_mayTurn_91 : decode cX8_mayTurn 91 = .ok (.ifCond .eq 5, 3) := dk_153 0 5 (dk_at dksX8_mayTurn_4 0 rfl rfl)
theorem dX8_mayTurn_94 : decode cX8_mayTurn 94 = .ok (.iconst 5, 1) := dk_8 (dk_at dksX8_mayTurn_4 3 rfl rfl)
theorem dX8_mayTurn_95 : decode cX8_mayTurn 95 = .ok (.ireturn, 1) := dk_172 (dk_at dksX8_mayTurn_4 4 rfl rfl)
theorem dX8_mayTurn_96 : decode cX8_mayTurn 96 = .ok (.aload_n 0, 1) := dk_42 (dk_at dksX8_mayTurn_4 5 rfl rfl)
theorem dX8_mayTurn_97 : decode cX8_mayTurn 97 = .ok (.iload_n 2, 1) := dk_28 (dk_at dksX8_mayTurn_4 6 rfl rfl)
theorem dX8_mayTurn_98 : decode cX8_mayTurn 98 = .ok (.aload_n 0, 1) := dk_42 (dk_at dksX8_mayTurn_4 7 rfl rfl)
theorem dX8_mayTurn_99 : decode cX8_mayTurn 99 = .ok (.getfield 33, 3) := dk_180 0 33 (dk_at dksX8_mayTurn_4 8 rfl rfl)
theorem dX8_mayTurn_102 : decode cX8_mayTurn 102 = .ok (.iload_n 2, 1) := dk_28 (dk_at dksX8_mayTurn_4 11 rfl rfl)
theorem dX8_mayTurn_103 : decode cX8_mayTurn 103 = .ok (.iaload, 1) := dk_46 (dk_at dksX8_mayTurn_4 12 rfl rfl)
theorem dX8_mayTurn_104 : decode cX8_mayTurn 104 = .ok (.iconst 1, 1) := dk_4 (dk_at dksX8_mayTurn_4 13 rfl rfl)
theorem dX8_mayTurn_105 : decode cX8_mayTurn 105 = .ok (.isub, 1) := dk_100 (dk_at dksX8_mayTurn_4 14 rfl rfl)
theorem dX8_mayTurn_106 : decode cX8_mayTurn 106 = .ok (.aload_n 0, 1) := dk_42 (dk_at dksX8_mayTurn_4 15 rfl rfl)
theorem dX8_mayTurn_107 : decode cX8_mayTurn 107 = .ok (.getfield 13, 3) := dk_180 0 13 (dk_at dksX8_mayTurn_4 16 rfl rfl)
theorem dX8_mayTurn_110 : decode cX8_mayTurn 110 = .ok (.bipush 15, 2) := dk_16 15 (dk_at dksX8_mayTurn_4 19 rfl rfl)
theorem dX8_mayTurn_112 : decode cX8_mayTurn 112 = .ok (.iload_n 3, 1) := dk_29 (dk_at dksX8_mayTurn_4 21 rfl rfl)
theorem dX8_mayTurn_113 : decode cX8_mayTurn 113 = .ok (.iadd, 1) := dk_96 (dk_at dksX8_mayTurn_4 22 rfl rfl)
theorem dX8_mayTurn_114 : decode cX8_mayTurn 114 = .ok (.iaload, 1) := dk_46 (dk_at dksX8_mayTurn_4 23 rfl rfl)
theorem dX8_mayTurn_115 : decode cX8_mayTurn 115 = .ok (.invokevirtual 236, 3) := dk_182 0 236 (dk_at dksX8_mayTurn_5 0 rfl rfl)
theorem dX8_mayTurn_118 : decode cX8_mayTurn 118 = .ok (.ifCond .ne 29, 3) := dk_154 0 29 (dk_at dksX8_mayTurn_5 3 rfl rfl)
theorem dX8_mayTurn_121 : decode cX8_mayTurn 121 = .ok (.aload_n 0, 1) := dk_42 (dk_at dksX8_mayTurn_5 6 rfl rfl)
theorem dX8_mayTurn_122 : decode cX8_mayTurn 122 = .ok (.iload_n 1, 1) := dk_27 (dk_at dksX8_mayTurn_5 7 rfl rfl)
theorem dX8_mayTurn_123 : decode cX8_mayTurn 123 = .ok (.aload_n 0, 1) := dk_42 (dk_at dksX8_mayTurn_5 8 rfl rfl)
theorem dX8_mayTurn_124 : decode cX8_mayTurn 124 = .ok (.getfield 33, 3) := dk_180 0 33 (dk_at dksX8_mayTurn_5 9 rfl rfl)
theorem dX8_mayTurn_127 : decode cX8_mayTurn 127 = .ok (.iload_n 1, 1) := dk_27 (dk_at dksX8_mayTurn_5 12 rfl rfl)
theorem dX8_mayTurn_128 : decode cX8_mayTurn 128 = .ok (.iaload, 1) := dk_46 (dk_at dksX8_mayTurn_5 13 rfl rfl)
theorem dX8_mayTurn_129 : decode cX8_mayTurn 129 = .ok (.iconst 1, 1) := dk_4 (dk_at dksX8_mayTurn_5 14 rfl rfl)
theorem dX8_mayTurn_130 : decode cX8_mayTurn 130 = .ok (.isub, 1) := dk_100 (dk_at dksX8_mayTurn_5 15 rfl rfl)
theorem dX8_mayTurn_131 : decode cX8_mayTurn 131 = .ok (.aload_n 0, 1) := dk_42 (dk_at dksX8_mayTurn_5 16 rfl rfl)
theorem dX8_mayTurn_132 : decode cX8_mayTurn 132 = .ok (.getfield 13, 3) := dk_180 0 13 (dk_at dksX8_mayTurn_5 17 rfl rfl)
theorem dX8_mayTurn_135 : decode cX8_mayTurn 135 = .ok (.bipush 15, 2) := dk_16 15 (dk_at dksX8_mayTurn_5 20 rfl rfl)
theorem dX8_mayTurn_137 : decode cX8_mayTurn 137 = .ok (.iload 4, 2) := dk_21 4 (dk_at dksX8_mayTurn_5 22 rfl rfl)
theorem dX8_mayTurn_139 : decode cX8_mayTurn 139 = .ok (.iadd, 1) := dk_96 (dk_at dksX8_mayTurn_6 0 rfl rfl)
theorem dX8_mayTurn_140 : decode cX8_mayTurn 140 = .ok (.iaload, 1) := dk_46 (dk_at dksX8_mayTurn_6 1 rfl rfl)
theorem dX8_mayTurn_141 : decode cX8_mayTurn 141 = .ok (.invokevirtual 236, 3) := dk_182 0 236 (dk_at dksX8_mayTurn_6 2 rfl rfl)
theorem dX8_mayTurn_144 : decode cX8_mayTurn 144 = .ok (.ifCond .eq 6, 3) := dk_153 0 6 (dk_at dksX8_mayTurn_6 5 rfl rfl)
theorem dX8_mayTurn_147 : decode cX8_mayTurn 147 = .ok (.bipush 6, 2) := dk_16 6 (dk_at dksX8_mayTurn_6 8 rfl rfl)
theorem dX8_mayTurn_149 : decode cX8_mayTurn 149 = .ok (.ireturn, 1) := dk_172 (dk_at dksX8_mayTurn_6 10 rfl rfl)
theorem dX8_mayTurn_150 : decode cX8_mayTurn 150 = .ok (.aload_n 0, 1) := dk_42 (dk_at dksX8_mayTurn_6 11 rfl rfl)
theorem dX8_mayTurn_151 : decode cX8_mayTurn 151 = .ok (.iload_n 3, 1) := dk_29 (dk_at dksX8_mayTurn_6 12 rfl rfl)
theorem dX8_mayTurn_152 : decode cX8_mayTurn 152 = .ok (.iload_n 1, 1) := dk_27 (dk_at dksX8_mayTurn_6 13 rfl rfl)
theorem dX8_mayTurn_153 : decode cX8_mayTurn 153 = .ok (.iload_n 2, 1) := dk_28 (dk_at dksX8_mayTurn_6 14 rfl rfl)
theorem dX8_mayTurn_154 : decode cX8_mayTurn 154 = .ok (.aload_n 0, 1) := dk_42 (dk_at dksX8_mayTurn_6 15 rfl rfl)
theorem dX8_mayTurn_155 : decode cX8_mayTurn 155 = .ok (.getfield 33, 3) := dk_180 0 33 (dk_at dksX8_mayTurn_6 16 rfl rfl)
theorem dX8_mayTurn_158 : decode cX8_mayTurn 158 = .ok (.iload_n 1, 1) := dk_27 (dk_at dksX8_mayTurn_6 19 rfl rfl)
theorem dX8_mayTurn_159 : decode cX8_mayTurn 159 = .ok (.iaload, 1) := dk_46 (dk_at dksX8_mayTurn_6 20 rfl rfl)
theorem dX8_mayTurn_160 : decode cX8_mayTurn 160 = .ok (.iconst 1, 1) := dk_4 (dk_at dksX8_mayTurn_6 21 rfl rfl)
theorem dX8_mayTurn_161 : decode cX8_mayTurn 161 = .ok (.isub, 1) := dk_100 (dk_at dksX8_mayTurn_6 22 rfl rfl)
theorem dX8_mayTurn_162 : decode cX8_mayTurn 162 = .ok (.aload_n 0, 1) := dk_42 (dk_at dksX8_mayTurn_6 23 rfl rfl)
theorem dX8_mayTurn_163 : decode cX8_mayTurn 163 = .ok (.getfield 33, 3) := dk_180 0 33 (dk_at dksX8_mayTurn_7 0 rfl rfl)
theorem dX8_mayTurn_166 : decode cX8_mayTurn 166 = .ok (.iload_n 2, 1) := dk_28 (dk_at dksX8_mayTurn_7 3 rfl rfl)
theorem dX8_mayTurn_167 : decode cX8_mayTurn 167 = .ok (.iaload, 1) := dk_46 (dk_at dksX8_mayTurn_7 4 rfl rfl)
theorem dX8_mayTurn_168 : decode cX8_mayTurn 168 = .ok (.iconst 1, 1) := dk_4 (dk_at dksX8_mayTurn_7 5 rfl rfl)
theorem dX8_mayTurn_169 : decode cX8_mayTurn 169 = .ok (.isub, 1) := dk_100 (dk_at dksX8_mayTurn_7 6 rfl rfl)
theorem dX8_mayTurn_170 : decode cX8_mayTurn 170 = .ok (.invokevirtual 240, 3) := dk_182 0 240 (dk_at dksX8_mayTurn_7 7 rfl rfl)
theorem dX8_mayTurn_173 : decode cX8_mayTurn 173 = .ok (.ifCond .ne 30, 3) := dk_154 0 30 (dk_at dksX8_mayTurn_7 10 rfl rfl)
theorem dX8_mayTurn_176 : decode cX8_mayTurn 176 = .ok (.aload_n 0, 1) := dk_42 (dk_at dksX8_mayTurn_7 13 rfl rfl)
theorem dX8_mayTurn_177 : decode cX8_mayTurn 177 = .ok (.iload 4, 2) := dk_21 4 (dk_at dksX8_mayTurn_7 14 rfl rfl)
theorem dX8_mayTurn_179 : decode cX8_mayTurn 179 = .ok (.iload_n 2, 1) := dk_28 (dk_at dksX8_mayTurn_7 16 rfl rfl)
theorem dX8_mayTurn_180 : decode cX8_mayTurn 180 = .ok (.iload_n 1, 1) := dk_27 (dk_at dksX8_mayTurn_7 17 rfl rfl)
theorem dX8_mayTurn_181 : decode cX8_mayTurn 181 = .ok (.aload_n 0, 1) := dk_42 (dk_at dksX8_mayTurn_7 18 rfl rfl)
theorem dX8_mayTurn_182 : decode cX8_mayTurn 182 = .ok (.getfield 33, 3) := dk_180 0 33 (dk_at dksX8_mayTurn_7 19 rfl rfl)
theorem dX8_mayTurn_185 : decode cX8_mayTurn 185 = .ok (.iload_n 2, 1) := dk_28 (dk_at dksX8_mayTurn_7 22 rfl rfl)
theorem dX8_mayTurn_186 : decode cX8_mayTurn 186 = .ok (.iaload, 1) := dk_46 (dk_at dksX8_mayTurn_7 23 rfl rfl)
theorem dX8_mayTurn_187 : decode cX8_mayTurn 187 = .ok (.iconst 1, 1) := dk_4 (dk_at dksX8_mayTurn_8 0 rfl rfl)
theorem dX8_mayTurn_188 : decode cX8_mayTurn 188 = .ok (.isub, 1) := dk_100 (dk_at dksX8_mayTurn_8 1 rfl rfl)
theorem dX8_mayTurn_189 : decode cX8_mayTurn 189 = .ok (.aload_n 0, 1) := dk_42 (dk_at dksX8_mayTurn_8 2 rfl rfl)
theorem dX8_mayTurn_190 : decode cX8_mayTurn 190 = .ok (.getfield 33, 3) := dk_180 0 33 (dk_at dksX8_mayTurn_8 3 rfl rfl)
theorem dX8_mayTurn_193 : decode cX8_mayTurn 193 = .ok (.iload_n 1, 1) := dk_27 (dk_at dksX8_mayTurn_8 6 rfl rfl)
theorem dX8_mayTurn_194 : decode cX8_mayTurn 194 = .ok (.iaload, 1) := dk_46 (dk_at dksX8_mayTurn_8 7 rfl rfl)
theorem dX8_mayTurn_195 : decode cX8_mayTurn 195 = .ok (.iconst 1, 1) := dk_4 (dk_at dksX8_mayTurn_8 8 rfl rfl)
theorem dX8_mayTurn_196 : decode cX8_mayTurn 196 = .ok (.isub, 1) := dk_100 (dk_at dksX8_mayTurn_8 9 rfl rfl)
theorem dX8_mayTurn_197 : decode cX8_mayTurn 197 = .ok (.invokevirtual 240, 3) := dk_182 0 240 (dk_at dksX8_mayTurn_8 10 rfl rfl)
theorem dX8_mayTurn_200 : decode cX8_mayTurn 200 = .ok (.ifCond .eq 6, 3) := dk_153 0 6 (dk_at dksX8_mayTurn_8 13 rfl rfl)
theorem dX8_mayTurn_203 : decode cX8_mayTurn 203 = .ok (.bipush 7, 2) := dk_16 7 (dk_at dksX8_mayTurn_8 16 rfl rfl)
theorem dX8_mayTurn_205 : decode cX8_mayTurn 205 = .ok (.ireturn, 1) := dk_172 (dk_at dksX8_mayTurn_8 18 rfl rfl)
theorem dX8_mayTurn_206 : decode cX8_mayTurn 206 = .ok (.aload_n 0, 1) := dk_42 (dk_at dksX8_mayTurn_8 19 rfl rfl)
theorem dX8_mayTurn_207 : decode cX8_mayTurn 207 = .ok (.getfield 211, 3) := dk_180 0 211 (dk_at dksX8_mayTurn_8 20 rfl rfl)
theorem dX8_mayTurn_210 : decode cX8_mayTurn 210 = .ok (.invokestatic 247, 3) := dk_184 0 247 (dk_at dksX8_mayTurn_9 0 rfl rfl)
theorem dX8_mayTurn_213 : decode cX8_mayTurn 213 = .ok (.iconst 2, 1) := dk_5 (dk_at dksX8_mayTurn_9 3 rfl rfl)
theorem dX8_mayTurn_214 : decode cX8_mayTurn 214 = .ok (.iadd, 1) := dk_96 (dk_at dksX8_mayTurn_9 4 rfl rfl)
theorem dX8_mayTurn_215 : decode cX8_mayTurn 215 = .ok (.aload_n 0, 1) := dk_42 (dk_at dksX8_mayTurn_9 5 rfl rfl)
theorem dX8_mayTurn_216 : decode cX8_mayTurn 216 = .ok (.getfield 13, 3) := dk_180 0 13 (dk_at dksX8_mayTurn_9 6 rfl rfl)
theorem dX8_mayTurn_219 : decode cX8_mayTurn 219 = .ok (.bipush 76, 2) := dk_16 76 (dk_at dksX8_mayTurn_9 9 rfl rfl)
theorem dX8_mayTurn_221 : decode cX8_mayTurn 221 = .ok (.iaload, 1) := dk_46 (dk_at dksX8_mayTurn_9 11 rfl rfl)
theorem dX8_mayTurn_222 : decode cX8_mayTurn 222 = .ok (.if_icmp .le 8, 3) := dk_164 0 8 (dk_at dksX8_mayTurn_9 12 rfl rfl)
theorem dX8_mayTurn_225 : decode cX8_mayTurn 225 = .ok (.bipush 9, 2) := dk_16 9 (dk_at dksX8_mayTurn_9 15 rfl rfl)
theorem dX8_mayTurn_227 : decode cX8_mayTurn 227 = .ok (.goto 4, 3) := dk_167 0 4 (dk_at dksX8_mayTurn_9 17 rfl rfl)
theorem dX8_mayTurn_230 : decode cX8_mayTurn 230 = .ok (.iconst 0, 1) := dk_3 (dk_at dksX8_mayTurn_9 20 rfl rfl)
theorem dX8_mayTurn_231 : decode cX8_mayTurn 231 = .ok (.ireturn, 1) := dk_172 (dk_at dksX8_mayTurn_9 21 rfl rfl)
abbrev cX8_carry : ByteArray := prog_20_method_57_code
def yX8_carry : MethodName := ⟨RX8, "carry", "(II)I"⟩
def dkwX8_carry_2 : List UInt8 := [21, 4, 172]
abbrev dktX8_carry_2 : List UInt8 := dkwX8_carry_2 ++ []
def dkwX8_carry_1 : List UInt8 := [172, 42, 27, 182, 0, 226, 54, 4, 42, 27, 28, 182, 1, 16, 42, 182, 1, 19, 42, 21, 4, 182, 1, 22]
abbrev dktX8_carry_1 : List UInt8 := dkwX8_carry_1 ++ dktX8_carry_2
def dkwX8_carry_0 : List UInt8 := [42, 3, 181, 0, 1, 42, 182, 1, 4, 42, 27, 28, 182, 1, 10, 62, 29, 153, 0, 8, 16, 246, 29, 100]
abbrev dktX8_carry_0 : List UInt8 := dkwX8_carry_0 ++ dktX8_carry_1
theorem dksX8_carry_0 : cX8_carry.data.toList.drop 0 = dktX8_carry_0 := by decide +kernel
theorem dksX8_carry_1 : cX8_carry.data.toList.drop 24 = dktX8_carry_1 := dk_seg dksX8_carry_0 24 rfl rfl
theorem dksX8_carry_2 : cX8_carry.data.toList.drop 48 = dktX8_carry_2 := dk_seg dksX8_carry_1 24 rfl rfl
theorem dX8_carry_0 : decode cX8_carry 0 = .ok (.aload_n 0, 1) := dk_42 (dk_at dksX8_carry_0 0 rfl rfl)
theorem dX8_carry_1 : decode cX8_carry 1 = .ok (.iconst 0, 1) := dk_3 (dk_at dksX8_carry_0 1 rfl rfl)
theorem dX8_carry_2 : decode cX8_carry 2 = .ok (.putfield 1, 3) := dk_181 0 1 (dk_at dksX8_carry_0 2 rfl rfl)
theorem dX8_carry_5 : decode cX8_carry 5 = .ok (.aload_n 0, 1) := dk_42 (dk_at dksX8_carry_0 5 rfl rfl)
theorem dX8_carry_6 : decode cX8_carry 6 = .ok (.invokevirtual 260, 3) := dk_182 1 4 (dk_at dksX8_carry_0 6 rfl rfl)
theorem dX8_carry_9 : decode cX8_carry 9 = .ok (.aload_n 0, 1) := dk_42 (dk_at dksX8_carry_0 9 rfl rfl)
theorem dX8_carry_10 : decode cX8_carry 10 = .ok (.iload_n 1, 1) := dk_27 (dk_at dksX8_carry_0 10 rfl rfl)
theorem dX8_carry_11 : decode cX8_carry 11 = .ok (.iload_n 2, 1) := dk_28 (dk_at dksX8_carry_0 11 rfl rfl)
theorem dX8_carry_12 : decode cX8_carry 12 = .ok (.invokevirtual 266, 3) := dk_182 1 10 (dk_at dksX8_carry_0 12 rfl rfl)
theorem dX8_carry_15 : decode cX8_carry 15 = .ok (.istore_n 3, 1) := dk_62 (dk_at dksX8_carry_0 15 rfl rfl)
theorem dX8_carry_16 : decode cX8_carry 16 = .ok (.iload_n 3, 1) := dk_29 (dk_at dksX8_carry_0 16 rfl rfl)
theorem dX8_carry_17 : decode cX8_carry 17 = .ok (.ifCond .eq 8, 3) := dk_153 0 8 (dk_at dksX8_carry_0 17 rfl rfl)
theorem dX8_carry_20 : decode cX8_carry 20 = .ok (.bipush (-10), 2) := dk_16 246 (dk_at dksX8_carry_0 20 rfl rfl)
theorem dX8_carry_22 : decode cX8_carry 22 = .ok (.iload_n 3, 1) := dk_29 (dk_at dksX8_carry_0 22 rfl rfl)
theorem dX8_carry_23 : decode cX8_carry 23 = .ok (.isub, 1) := dk_100 (dk_at dksX8_carry_0 23 rfl rfl)
theorem dX8_carry_24 : decode cX8_carry 24 = .ok (.ireturn, 1) := dk_172 (dk_at dksX8_carry_1 0 rfl rfl)
theorem dX8_carry_25 : decode cX8_carry 25 = .ok (.aload_n 0, 1) := dk_42 (dk_at dksX8_carry_1 1 rfl rfl)
theorem dX8_carry_26 : decode cX8_carry 26 = .ok (.iload_n 1, 1) := dk_27 (dk_at dksX8_carry_1 2 rfl rfl)
theorem dX8_carry_27 : decode cX8_carry 27 = .ok (.invokevirtual 226, 3) := dk_182 0 226 (dk_at dksX8_carry_1 3 rfl rfl)
theorem dX8_carry_30 : decode cX8_carry 30 = .ok (.istore 4, 2) := dk_54 4 (dk_at dksX8_carry_1 6 rfl rfl)
theorem dX8_carry_32 : decode cX8_carry 32 = .ok (.aload_n 0, 1) := dk_42 (dk_at dksX8_carry_1 8 rfl rfl)
theorem dX8_carry_33 : decode cX8_carry 33 = .ok (.iload_n 1, 1) := dk_27 (dk_at dksX8_carry_1 9 rfl rfl)
theorem dX8_carry_34 : decode cX8_carry 34 = .ok (.iload_n 2, 1) := dk_28 (dk_at dksX8_carry_1 10 rfl rfl)
theorem dX8_carry_35 : decode cX8_carry 35 = .ok (.invokevirtual 272, 3) := dk_182 1 16 (dk_at dksX8_carry_1 11 rfl rfl)
theorem dX8_carry_38 : decode cX8_carry 38 = .ok (.aload_n 0, 1) := dk_42 (dk_at dksX8_carry_1 14 rfl rfl)
theorem dX8_carry_39 : decode cX8_carry 39 = .ok (.invokevirtual 275, 3) := dk_182 1 19 (dk_at dksX8_carry_1 15 rfl rfl)
theorem dX8_carry_42 : decode cX8_carry 42 = .ok (.aload_n 0, 1) := dk_42 (dk_at dksX8_carry_1 18 rfl rfl)
theorem dX8_carry_43 : decode cX8_carry 43 = .ok (.iload 4, 2) := dk_21 4 (dk_at dksX8_carry_1 19 rfl rfl)
theorem dX8_carry_45 : decode cX8_carry 45 = .ok (.invokevirtual 278, 3) := dk_182 1 22 (dk_at dksX8_carry_1 21 rfl rfl)
theorem dX8_carry_48 : decode cX8_carry 48 = .ok (.iload 4, 2) := dk_21 4 (dk_at dksX8_carry_2 0 rfl rfl)
theorem dX8_carry_50 : decode cX8_carry 50 = .ok (.ireturn, 1) := dk_172 (dk_at dksX8_carry_2 2 rfl rfl)
abbrev cX8_carries : ByteArray := prog_20_method_44_code
def yX8_carries : MethodName := ⟨RX8, "carries", "(II)V"⟩
def dkwX8_carries_3 : List UInt8 := [42, 89, 180, 0, 211, 4, 29, 4, 100, 120, 128, 181, 0, 211, 177]
abbrev dktX8_carries_3 : List UInt8 := dkwX8_carries_3 ++ []
def dkwX8_carries_2 : List UInt8 := [46, 96, 29, 79, 42, 180, 0, 33, 27, 92, 46, 4, 100, 79, 42, 180, 0, 33, 28, 92, 46, 4, 96, 79]
abbrev dktX8_carries_2 : List UInt8 := dkwX8_carries_2 ++ dktX8_carries_3
def dkwX8_carries_1 : List UInt8 := [104, 42, 180, 0, 33, 27, 46, 96, 4, 100, 3, 79, 42, 180, 0, 30, 6, 28, 104, 42, 180, 0, 33, 28]
abbrev dktX8_carries_1 : List UInt8 := dkwX8_carries_1 ++ dktX8_carries_2
def dkwX8_carries_0 : List UInt8 := [42, 180, 0, 30, 6, 27, 104, 42, 180, 0, 33, 27, 46, 96, 4, 100, 46, 62, 42, 180, 0, 30, 6, 27]
abbrev dktX8_carries_0 : List UInt8 := dkwX8_carries_0 ++ dktX8_carries_1
theorem dksX8_carries_0 : cX8_carries.data.toList.drop 0 = dktX8_carries_0 := by decide +kernel
theorem dksX8_carries_1 : cX8_carries.data.toList.drop 24 = dktX8_carries_1 := dk_seg dksX8_carries_0 24 rfl rfl
theorem dksX8_carries_2 : cX8_carries.data.toList.drop 48 = dktX8_carries_2 := dk_seg dksX8_carries_1 24 rfl rfl
theorem dksX8_carries_3 : cX8_carries.data.toList.drop 72 = dktX8_carries_3 := dk_seg dksX8_carries_2 24 rfl rfl
theorem dX8_carries_0 : decode cX8_carries 0 = .ok (.aload_n 0, 1) := dk_42 (dk_at dksX8_carries_0 0 rfl rfl)
theorem dX8_carries_1 : decode cX8_carries 1 = .ok (.getfield 30, 3) := dk_180 0 30 (dk_at dksX8_carries_0 1 rfl rfl)
theorem dX8_carries_4 : decode cX8_carries 4 = .ok (.iconst 3, 1) := dk_6 (dk_at dksX8_carries_0 4 rfl rfl)
theorem dX8_carries_5 : decode cX8_carries 5 = .ok (.iload_n 1, 1) := dk_27 (dk_at dksX8_carries_0 5 rfl rfl)
theorem dX8_carries_6 : decode cX8_carries 6 = .ok (.imul, 1) := dk_104 (dk_at dksX8_carries_0 6 rfl rfl)
theorem dX8_carries_7 : decode cX8_carries 7 = .ok (.aload_n 0, 1) := dk_42 (dk_at dksX8_carries_0 7 rfl rfl)
theorem dX8_carries_8 : decode cX8_carries 8 = .ok (.getfield 33, 3) := dk_180 0 33 (dk_at dksX8_carries_0 8 rfl rfl)
theorem dX8_carries_11 : decode cX8_carries 11 = .ok (.iload_n 1, 1) := dk_27 (dk_at dksX8_carries_0 11 rfl rfl)
theorem dX8_carries_12 : decode cX8_carries 12 = .ok (.iaload, 1) := dk_46 (dk_at dksX8_carries_0 12 rfl rfl)
theorem dX8_carries_13 : decode cX8_carries 13 = .ok (.iadd, 1) := dk_96 (dk_at dksX8_carries_0 13 rfl rfl)
theorem dX8_carries_14 : decode cX8_carries 14 = .ok (.iconst 1, 1) := dk_4 (dk_at dksX8_carries_0 14 rfl rfl)
theorem dX8_carries_15 : decode cX8_carries 15 = .ok (.isub, 1) := dk_100 (dk_at dksX8_carries_0 15 rfl rfl)
theorem dX8_carries_16 : decode cX8_carries 16 = .ok (.iaload, 1) := dk_46 (dk_at dksX8_carries_0 16 rfl rfl)
theorem dX8_carries_17 : decode cX8_carries 17 = .ok (.istore_n 3, 1) := dk_62 (dk_at dksX8_carries_0 17 rfl rfl)
theorem dX8_carries_18 : decode cX8_carries 18 = .ok (.aload_n 0, 1) := dk_42 (dk_at dksX8_carries_0 18 rfl rfl)
theorem dX8_carries_19 : decode cX8_carries 19 = .ok (.getfield 30, 3) := dk_180 0 30 (dk_at dksX8_carries_0 19 rfl rfl)
theorem dX8_carries_22 : decode cX8_carries 22 = .ok (.iconst 3, 1) := dk_6 (dk_at dksX8_carries_0 22 rfl rfl)
theorem dX8_carries_23 : decode cX8_carries 23 = .ok (.iload_n 1, 1) := dk_27 (dk_at dksX8_carries_0 23 rfl rfl)
theorem dX8_carries_24 : decode cX8_carries 24 = .ok (.imul, 1) := dk_104 (dk_at dksX8_carries_1 0 rfl rfl)
theorem dX8_carries_25 : decode cX8_carries 25 = .ok (.aload_n 0, 1) := dk_42 (dk_at dksX8_carries_1 1 rfl rfl)
theorem dX8_carries_26 : decode cX8_carries 26 = .ok (.getfield 33, 3) := dk_180 0 33 (dk_at dksX8_carries_1 2 rfl rfl)
theorem dX8_carries_29 : decode cX8_carries 29 = .ok (.iload_n 1, 1) := dk_27 (dk_at dksX8_carries_1 5 rfl rfl)
theorem dX8_carries_30 : decode cX8_carries 30 = .ok (.iaload, 1) := dk_46 (dk_at dksX8_carries_1 6 rfl rfl)
theorem dX8_carries_31 : decode cX8_carries 31 = .ok (.iadd, 1) := dk_96 (dk_at dksX8_carries_1 7 rfl rfl)
theorem dX8_carries_32 : decode cX8_carries 32 = .ok (.iconst 1, 1) := dk_4 (dk_at dksX8_carries_1 8 rfl rfl)
theorem dX8_carries_33 : decode cX8_carries 33 = .ok (.isub, 1) := dk_100 (dk_at dksX8_carries_1 9 rfl rfl)
theorem dX8_carries_34 : decode cX8_carries 34 = .ok (.iconst 0, 1) := dk_3 (dk_at dksX8_carries_1 10 rfl rfl)
theorem dX8_carries_35 : decode cX8_carries 35 = .ok (.iastore, 1) := dk_79 (dk_at dksX8_carries_1 11 rfl rfl)
theorem dX8_carries_36 : decode cX8_carries 36 = .ok (.aload_n 0, 1) := dk_42 (dk_at dksX8_carries_1 12 rfl rfl)
theorem dX8_carries_37 : decode cX8_carries 37 = .ok (.getfield 30, 3) := dk_180 0 30 (dk_at dksX8_carries_1 13 rfl rfl)
theorem dX8_carries_40 : decode cX8_carries 40 = .ok (.iconst 3, 1) := dk_6 (dk_at dksX8_carries_1 16 rfl rfl)
theorem dX8_carries_41 : decode cX8_carries 41 = .ok (.iload_n 2, 1) := dk_28 (dk_at dksX8_carries_1 17 rfl rfl)
theorem dX8_carries_42 : decode cX8_carries 42 = .ok (.imul, 1) := dk_104 (dk_at dksX8_carries_1 18 rfl rfl)
theorem dX8_carries_43 : decode cX8_carries 43 = .ok (.aload_n 0, 1) := dk_42 (dk_at dksX8_carries_1 19 rfl rfl)
theorem dX8_carries_44 : decode cX8_carries 44 = .ok (.getfield 33, 3) := dk_180 0 33 (dk_at dksX8_carries_1 20 rfl rfl)
theorem dX8_carries_47 : decode cX8_carries 47 = .ok (.iload_n 2, 1) := dk_28 (dk_at dksX8_carries_1 23 rfl rfl)
theorem dX8_carries_48 : decode cX8_carries 48 = .ok (.iaload, 1) := dk_46 (dk_at dksX8_carries_2 0 rfl rfl)
theorem dX8_carries_49 : decode cX8_carries 49 = .ok (.iadd, 1) := dk_96 (dk_at dksX8_carries_2 1 rfl rfl)
theorem dX8_carries_50 : decode cX8_carries 50 = .ok (.iload_n 3, 1) := dk_29 (dk_at dksX8_carries_2 2 rfl rfl)
theorem dX8_carries_51 : decode cX8_carries 51 = .ok (.iastore, 1) := dk_79 (dk_at dksX8_carries_2 3 rfl rfl)
theorem dX8_carries_52 : decode cX8_carries 52 = .ok (.aload_n 0, 1) := dk_42 (dk_at dksX8_carries_2 4 rfl rfl)
theorem dX8_carries_53 : decode cX8_carries 53 = .ok (.getfield 33, 3) := dk_180 0 33 (dk_at dksX8_carries_2 5 rfl rfl)
theorem dX8_carries_56 : decode cX8_carries 56 = .ok (.iload_n 1, 1) := dk_27 (dk_at dksX8_carries_2 8 rfl rfl)
theorem dX8_carries_57 : decode cX8_carries 57 = .ok (.dup2, 1) := dk_92 (dk_at dksX8_carries_2 9 rfl rfl)
theorem dX8_carries_58 : decode cX8_carries 58 = .ok (.iaload, 1) := dk_46 (dk_at dksX8_carries_2 10 rfl rfl)
theorem dX8_carries_59 : decode cX8_carries 59 = .ok (.iconst 1, 1) := dk_4 (dk_at dksX8_carries_2 11 rfl rfl)
theorem dX8_carries_60 : decode cX8_carries 60 = .ok (.isub, 1) := dk_100 (dk_at dksX8_carries_2 12 rfl rfl)
theorem dX8_carries_61 : decode cX8_carries 61 = .ok (.iastore, 1) := dk_79 (dk_at dksX8_carries_2 13 rfl rfl)
theorem dX8_carries_62 : decode cX8_carries 62 = .ok (.aload_n 0, 1) := dk_42 (dk_at dksX8_carries_2 14 rfl rfl)
theorem dX8_carries_63 : decode cX8_carries 63 = .ok (.getfield 33, 3) := dk_180 0 33 (dk_at dksX8_carries_2 15 rfl rfl)
theorem dX8_carries_66 : decode cX8_carries 66 = .ok (.iload_n 2, 1) := dk_28 (dk_at dksX8_carries_2 18 rfl rfl)
theorem dX8_carries_67 : decode cX8_carries 67 = .ok (.dup2, 1) := dk_92 (dk_at dksX8_carries_2 19 rfl rfl)
theorem dX8_carries_68 : decode cX8_carries 68 = .ok (.iaload, 1) := dk_46 (dk_at dksX8_carries_2 20 rfl rfl)
theorem dX8_carries_69 : decode cX8_carries 69 = .ok (.iconst 1, 1) := dk_4 (dk_at dksX8_carries_2 21 rfl rfl)
theorem dX8_carries_70 : decode cX8_carries 70 = .ok (.iadd, 1) := dk_96 (dk_at dksX8_carries_2 22 rfl rfl)
theorem dX8_carries_71 : decode cX8_carries 71 = .ok (.iastore, 1) := dk_79 (dk_at dksX8_carries_2 23 rfl rfl)
theorem dX8_carries_72 : decode cX8_carries 72 = .ok (.aload_n 0, 1) := dk_42 (dk_at dksX8_carries_3 0 rfl rfl)
theorem dX8_carries_73 : decode cX8_carries 73 = .ok (.dup, 1) := dk_89 (dk_at dksX8_carries_3 1 rfl rfl)
theorem dX8_carries_74 : decode cX8_carries 74 = .ok (.getfield 211, 3) := dk_180 0 211 (dk_at dksX8_carries_3 2 rfl rfl)
theorem dX8_carries_77 : decode cX8_carries 77 = .ok (.iconst 1, 1) := dk_4 (dk_at dksX8_carries_3 5 rfl rfl)
theorem dX8_carries_78 : decode cX8_carries 78 = .ok (.iload_n 3, 1) := dk_29 (dk_at dksX8_carries_3 6 rfl rfl)
theorem dX8_carries_79 : decode cX8_carries 79 = .ok (.iconst 1, 1) := dk_4 (dk_at dksX8_carries_3 7 rfl rfl)
theorem dX8_carries_80 : decode cX8_carries 80 = .ok (.isub, 1) := dk_100 (dk_at dksX8_carries_3 8 rfl rfl)
theorem dX8_carries_81 : decode cX8_carries 81 = .ok (.ishl, 1) := dk_120 (dk_at dksX8_carries_3 9 rfl rfl)
theorem dX8_carries_82 : decode cX8_carries 82 = .ok (.ior, 1) := dk_128 (dk_at dksX8_carries_3 10 rfl rfl)
theorem dX8_carries_83 : decode cX8_carries 83 = .ok (.putfield 211, 3) := dk_181 0 211 (dk_at dksX8_carries_3 11 rfl rfl)
theorem dX8_carries_86 : decode cX8_carries 86 = .ok (.return_, 1) := dk_177 (dk_at dksX8_carries_3 14 rfl rfl)
abbrev cX8_keepsNow : ByteArray := prog_20_method_46_code
def yX8_keepsNow : MethodName := ⟨RX8, "keepsNow", "()V"⟩
def dkwX8_keepsNow_1 : List UInt8 := [132, 1, 1, 167, 255, 232, 42, 180, 0, 13, 16, 95, 42, 180, 0, 211, 79, 177]
abbrev dktX8_keepsNow_1 : List UInt8 := dkwX8_keepsNow_1 ++ []
def dkwX8_keepsNow_0 : List UInt8 := [3, 60, 27, 16, 15, 162, 0, 24, 42, 180, 0, 13, 16, 80, 27, 96, 42, 180, 0, 30, 27, 46, 79]
abbrev dktX8_keepsNow_0 : List UInt8 := dkwX8_keepsNow_0 ++ dktX8_keepsNow_1
theorem dksX8_keepsNow_0 : cX8_keepsNow.data.toList.drop 0 = dktX8_keepsNow_0 := by decide +kernel
theorem dksX8_keepsNow_1 : cX8_keepsNow.data.toList.drop 23 = dktX8_keepsNow_1 := dk_seg dksX8_keepsNow_0 23 rfl rfl
theorem dX8_keepsNow_0 : decode cX8_keepsNow 0 = .ok (.iconst 0, 1) := dk_3 (dk_at dksX8_keepsNow_0 0 rfl rfl)
theorem dX8_keepsNow_1 : decode cX8_keepsNow 1 = .ok (.istore_n 1, 1) := dk_60 (dk_at dksX8_keepsNow_0 1 rfl rfl)
theorem dX8_keepsNow_2 : decode cX8_keepsNow 2 = .ok (.iload_n 1, 1) := dk_27 (dk_at dksX8_keepsNow_0 2 rfl rfl)
theorem dX8_keepsNow_3 : decode cX8_keepsNow 3 = .ok (.bipush 15, 2) := dk_16 15 (dk_at dksX8_keepsNow_0 3 rfl rfl)
theorem dX8_keepsNow_5 : decode cX8_keepsNow 5 = .ok (.if_icmp .ge 24, 3) := dk_162 0 24 (dk_at dksX8_keepsNow_0 5 rfl rfl)
theorem dX8_keepsNow_8 : decode cX8_keepsNow 8 = .ok (.aload_n 0, 1) := dk_42 (dk_at dksX8_keepsNow_0 8 rfl rfl)
theorem dX8_keepsNow_9 : decode cX8_keepsNow 9 = .ok (.getfield 13, 3) := dk_180 0 13 (dk_at dksX8_keepsNow_0 9 rfl rfl)
theorem dX8_keepsNow_12 : decode cX8_keepsNow 12 = .ok (.bipush 80, 2) := dk_16 80 (dk_at dksX8_keepsNow_0 12 rfl rfl)
theorem dX8_keepsNow_14 : decode cX8_keepsNow 14 = .ok (.iload_n 1, 1) := dk_27 (dk_at dksX8_keepsNow_0 14 rfl rfl)
theorem dX8_keepsNow_15 : decode cX8_keepsNow 15 = .ok (.iadd, 1) := dk_96 (dk_at dksX8_keepsNow_0 15 rfl rfl)
theorem dX8_keepsNow_16 : decode cX8_keepsNow 16 = .ok (.aload_n 0, 1) := dk_42 (dk_at dksX8_keepsNow_0 16 rfl rfl)
theorem dX8_keepsNow_17 : decode cX8_keepsNow 17 = .ok (.getfield 30, 3) := dk_180 0 30 (dk_at dksX8_keepsNow_0 17 rfl rfl)
theorem dX8_keepsNow_20 : decode cX8_keepsNow 20 = .ok (.iload_n 1, 1) := dk_27 (dk_at dksX8_keepsNow_0 20 rfl rfl)
theorem dX8_keepsNow_21 : decode cX8_keepsNow 21 = .ok (.iaload, 1) := dk_46 (dk_at dksX8_keepsNow_0 21 rfl rfl)
theorem dX8_keepsNow_22 : decode cX8_keepsNow 22 = .ok (.iastore, 1) := dk_79 (dk_at dksX8_keepsNow_0 22 rfl rfl)
theorem dX8_keepsNow_23 : decode cX8_keepsNow 23 = .ok (.iinc 1 1, 3) := dk_132 1 1 (dk_at dksX8_keepsNow_1 0 rfl rfl)
theorem dX8_keepsNow_26 : decode cX8_keepsNow 26 = .ok (.goto (-24), 3) := dk_167 255 232 (dk_at dksX8_keepsNow_1 3 rfl rfl)
theorem dX8_keepsNow_29 : decode cX8_keepsNow 29 = .ok (.aload_n 0, 1) := dk_42 (dk_at dksX8_keepsNow_1 6 rfl rfl)
theorem dX8_keepsNow_30 : decode cX8_keepsNow 30 = .ok (.getfield 13, 3) := dk_180 0 13 (dk_at dksX8_keepsNow_1 7 rfl rfl)
theorem dX8_keepsNow_33 : decode cX8_keepsNow 33 = .ok (.bipush 95, 2) := dk_16 95 (dk_at dksX8_keepsNow_1 10 rfl rfl)
theorem dX8_keepsNow_35 : decode cX8_keepsNow 35 = .ok (.aload_n 0, 1) := dk_42 (dk_at dksX8_keepsNow_1 12 rfl rfl)
theorem dX8_keepsNow_36 : decode cX8_keepsNow 36 = .ok (.getfield 211, 3) := dk_180 0 211 (dk_at dksX8_keepsNow_1 13 rfl rfl)
theorem dX8_keepsNow_39 : decode cX8_keepsNow 39 = .ok (.iastore, 1) := dk_79 (dk_at dksX8_keepsNow_1 16 rfl rfl)
theorem dX8_keepsNow_40 : decode cX8_keepsNow 40 = .ok (.return_, 1) := dk_177 (dk_at dksX8_keepsNow_1 17 rfl rfl)
abbrev cX8_counted : ByteArray := prog_20_method_47_code
def yX8_counted : MethodName := ⟨RX8, "counted", "(I)V"⟩
def dkwX8_counted_1 : List UInt8 := [180, 0, 13, 16, 112, 46, 79, 177]
abbrev dktX8_counted_1 : List UInt8 := dkwX8_counted_1 ++ []
def dkwX8_counted_0 : List UInt8 := [42, 180, 0, 13, 16, 96, 27, 96, 92, 46, 4, 96, 79, 42, 180, 0, 13, 16, 104, 27, 96, 42]
abbrev dktX8_counted_0 : List UInt8 := dkwX8_counted_0 ++ dktX8_counted_1
theorem dksX8_counted_0 : cX8_counted.data.toList.drop 0 = dktX8_counted_0 := by decide +kernel
theorem dksX8_counted_1 : cX8_counted.data.toList.drop 22 = dktX8_counted_1 := dk_seg dksX8_counted_0 22 rfl rfl
theorem dX8_counted_0 : decode cX8_counted 0 = .ok (.aload_n 0, 1) := dk_42 (dk_at dksX8_counted_0 0 rfl rfl)
theorem dX8_counted_1 : decode cX8_counted 1 = .ok (.getfield 13, 3) := dk_180 0 13 (dk_at dksX8_counted_0 1 rfl rfl)
theorem dX8_counted_4 : decode cX8_counted 4 = .ok (.bipush 96, 2) := dk_16 96 (dk_at dksX8_counted_0 4 rfl rfl)
theorem dX8_counted_6 : decode cX8_counted 6 = .ok (.iload_n 1, 1) := dk_27 (dk_at dksX8_counted_0 6 rfl rfl)
theorem dX8_counted_7 : decode cX8_counted 7 = .ok (.iadd, 1) := dk_96 (dk_at dksX8_counted_0 7 rfl rfl)
theorem dX8_counted_8 : decode cX8_counted 8 = .ok (.dup2, 1) := dk_92 (dk_at dksX8_counted_0 8 rfl rfl)
theorem dX8_counted_9 : decode cX8_counted 9 = .ok (.iaload, 1) := dk_46 (dk_at dksX8_counted_0 9 rfl rfl)
theorem dX8_counted_10 : decode cX8_counted 10 = .ok (.iconst 1, 1) := dk_4 (dk_at dksX8_counted_0 10 rfl rfl)
theorem dX8_counted_11 : decode cX8_counted 11 = .ok (.iadd, 1) := dk_96 (dk_at dksX8_counted_0 11 rfl rfl)
theorem dX8_counted_12 : decode cX8_counted 12 = .ok (.iastore, 1) := dk_79 (dk_at dksX8_counted_0 12 rfl rfl)
theorem dX8_counted_13 : decode cX8_counted 13 = .ok (.aload_n 0, 1) := dk_42 (dk_at dksX8_counted_0 13 rfl rfl)
theorem dX8_counted_14 : decode cX8_counted 14 = .ok (.getfield 13, 3) := dk_180 0 13 (dk_at dksX8_counted_0 14 rfl rfl)
theorem dX8_counted_17 : decode cX8_counted 17 = .ok (.bipush 104, 2) := dk_16 104 (dk_at dksX8_counted_0 17 rfl rfl)
theorem dX8_counted_19 : decode cX8_counted 19 = .ok (.iload_n 1, 1) := dk_27 (dk_at dksX8_counted_0 19 rfl rfl)
theorem dX8_counted_20 : decode cX8_counted 20 = .ok (.iadd, 1) := dk_96 (dk_at dksX8_counted_0 20 rfl rfl)
theorem dX8_counted_21 : decode cX8_counted 21 = .ok (.aload_n 0, 1) := dk_42 (dk_at dksX8_counted_0 21 rfl rfl)
theorem dX8_counted_22 : decode cX8_counted 22 = .ok (.getfield 13, 3) := dk_180 0 13 (dk_at dksX8_counted_1 0 rfl rfl)
theorem dX8_counted_25 : decode cX8_counted 25 = .ok (.bipush 112, 2) := dk_16 112 (dk_at dksX8_counted_1 3 rfl rfl)
theorem dX8_counted_27 : decode cX8_counted 27 = .ok (.iaload, 1) := dk_46 (dk_at dksX8_counted_1 5 rfl rfl)
theorem dX8_counted_28 : decode cX8_counted 28 = .ok (.iastore, 1) := dk_79 (dk_at dksX8_counted_1 6 rfl rfl)
theorem dX8_counted_29 : decode cX8_counted 29 = .ok (.return_, 1) := dk_177 (dk_at dksX8_counted_1 7 rfl rfl)
abbrev cX8_exchange : ByteArray := prog_20_method_58_code
def yX8_exchange : MethodName := ⟨RX8, "exchange", "(II)I"⟩
def dkwX8_exchange_2 : List UInt8 := [182, 1, 19, 42, 21, 4, 182, 1, 22, 42, 21, 5, 182, 1, 22, 21, 4, 172]
abbrev dktX8_exchange_2 : List UInt8 := dkwX8_exchange_2 ++ []
def dkwX8_exchange_1 : List UInt8 := [172, 42, 27, 182, 0, 226, 54, 4, 42, 28, 182, 0, 226, 54, 5, 42, 27, 28, 182, 1, 25, 42]
abbrev dktX8_exchange_1 : List UInt8 := dkwX8_exchange_1 ++ dktX8_exchange_2
def dkwX8_exchange_0 : List UInt8 := [42, 3, 181, 0, 1, 42, 182, 1, 4, 42, 27, 28, 182, 1, 13, 62, 29, 153, 0, 8, 16, 246, 29, 100]
abbrev dktX8_exchange_0 : List UInt8 := dkwX8_exchange_0 ++ dktX8_exchange_1
theorem dksX8_exchange_0 : cX8_exchange.data.toList.drop 0 = dktX8_exchange_0 := by decide +kernel
theorem dksX8_exchange_1 : cX8_exchange.data.toList.drop 24 = dktX8_exchange_1 := dk_seg dksX8_exchange_0 24 rfl rfl
theorem dksX8_exchange_2 : cX8_exchange.data.toList.drop 46 = dktX8_exchange_2 := dk_seg dksX8_exchange_1 22 rfl rfl
theorem dX8_exchange_0 : decode cX8_exchange 0 = .ok (.aload_n 0, 1) := dk_42 (dk_at dksX8_exchange_0 0 rfl rfl)
theorem dX8_exchange_1 : decode cX8_exchange 1 = .ok (.iconst 0, 1) := dk_3 (dk_at dksX8_exchange_0 1 rfl rfl)
theorem dX8_exchange_2 : decode cX8_exchange 2 = .ok (.putfield 1, 3) := dk_181 0 1 (dk_at dksX8_exchange_0 2 rfl rfl)
theorem dX8_exchange_5 : decode cX8_exchange 5 = .ok (.aload_n 0, 1) := dk_42 (dk_at dksX8_exchange_0 5 rfl rfl)
theorem dX8_exchange_6 : decode cX8_exchange 6 = .ok (.invokevirtual 260, 3) := dk_182 1 4 (dk_at dksX8_exchange_0 6 rfl rfl)
theorem dX8_exchange_9 : decode cX8_exchange 9 = .ok (.aload_n 0, 1) := dk_42 (dk_at dksX8_exchange_0 9 rfl rfl)
theorem dX8_exchange_10 : decode cX8_exchange 10 = .ok (.iload_n 1, 1) := dk_27 (dk_at dksX8_exchange_0 10 rfl rfl)
theorem dX8_exchange_11 : decode cX8_exchange 11 = .ok (.iload_n 2, 1) := dk_28 (dk_at dksX8_exchange_0 11 rfl rfl)
theorem dX8_exchange_12 : decode cX8_exchange 12 = .ok (.invokevirtual 269, 3) := dk_182 1 13 (dk_at dksX8_exchange_0 12 rfl rfl)
theorem dX8_exchange_15 : decode cX8_exchange 15 = .ok (.istore_n 3, 1) := dk_62 (dk_at dksX8_exchange_0 15 rfl rfl)
theorem dX8_exchange_16 : decode cX8_exchange 16 = .ok (.iload_n 3, 1) := dk_29 (dk_at dksX8_exchange_0 16 rfl rfl)
theorem dX8_exchange_17 : decode cX8_exchange 17 = .ok (.ifCond .eq 8, 3) := dk_153 0 8 (dk_at dksX8_exchange_0 17 rfl rfl)
theorem dX8_exchange_20 : decode cX8_exchange 20 = .ok (.bipush (-10), 2) := dk_16 246 (dk_at dksX8_exchange_0 20 rfl rfl)
theorem dX8_exchange_22 : decode cX8_exchange 22 = .ok (.iload_n 3, 1) := dk_29 (dk_at dksX8_exchange_0 22 rfl rfl)
theorem dX8_exchange_23 : decode cX8_exchange 23 = .ok (.isub, 1) := dk_100 (dk_at dksX8_exchange_0 23 rfl rfl)
theorem dX8_exchange_24 : decode cX8_exchange 24 = .ok (.ireturn, 1) := dk_172 (dk_at dksX8_exchange_1 0 rfl rfl)
theorem dX8_exchange_25 : decode cX8_exchange 25 = .ok (.aload_n 0, 1) := dk_42 (dk_at dksX8_exchange_1 1 rfl rfl)
theorem dX8_exchange_26 : decode cX8_exchange 26 = .ok (.iload_n 1, 1) := dk_27 (dk_at dksX8_exchange_1 2 rfl rfl)
theorem dX8_exchange_27 : decode cX8_exchange 27 = .ok (.invokevirtual 226, 3) := dk_182 0 226 (dk_at dksX8_exchange_1 3 rfl rfl)
theorem dX8_exchange_30 : decode cX8_exchange 30 = .ok (.istore 4, 2) := dk_54 4 (dk_at dksX8_exchange_1 6 rfl rfl)
theorem dX8_exchange_32 : decode cX8_exchange 32 = .ok (.aload_n 0, 1) := dk_42 (dk_at dksX8_exchange_1 8 rfl rfl)
theorem dX8_exchange_33 : decode cX8_exchange 33 = .ok (.iload_n 2, 1) := dk_28 (dk_at dksX8_exchange_1 9 rfl rfl)
theorem dX8_exchange_34 : decode cX8_exchange 34 = .ok (.invokevirtual 226, 3) := dk_182 0 226 (dk_at dksX8_exchange_1 10 rfl rfl)
theorem dX8_exchange_37 : decode cX8_exchange 37 = .ok (.istore 5, 2) := dk_54 5 (dk_at dksX8_exchange_1 13 rfl rfl)
theorem dX8_exchange_39 : decode cX8_exchange 39 = .ok (.aload_n 0, 1) := dk_42 (dk_at dksX8_exchange_1 15 rfl rfl)
theorem dX8_exchange_40 : decode cX8_exchange 40 = .ok (.iload_n 1, 1) := dk_27 (dk_at dksX8_exchange_1 16 rfl rfl)
theorem dX8_exchange_41 : decode cX8_exchange 41 = .ok (.iload_n 2, 1) := dk_28 (dk_at dksX8_exchange_1 17 rfl rfl)
theorem dX8_exchange_42 : decode cX8_exchange 42 = .ok (.invokevirtual 281, 3) := dk_182 1 25 (dk_at dksX8_exchange_1 18 rfl rfl)
theorem dX8_exchange_45 : decode cX8_exchange 45 = .ok (.aload_n 0, 1) := dk_42 (dk_at dksX8_exchange_1 21 rfl rfl)
theorem dX8_exchange_46 : decode cX8_exchange 46 = .ok (.invokevirtual 275, 3) := dk_182 1 19 (dk_at dksX8_exchange_2 0 rfl rfl)
theorem dX8_exchange_49 : decode cX8_exchange 49 = .ok (.aload_n 0, 1) := dk_42 (dk_at dksX8_exchange_2 3 rfl rfl)
theorem dX8_exchange_50 : decode cX8_exchange 50 = .ok (.iload 4, 2) := dk_21 4 (dk_at dksX8_exchange_2 4 rfl rfl)
theorem dX8_exchange_52 : decode cX8_exchange 52 = .ok (.invokevirtual 278, 3) := dk_182 1 22 (dk_at dksX8_exchange_2 6 rfl rfl)
theorem dX8_exchange_55 : decode cX8_exchange 55 = .ok (.aload_n 0, 1) := dk_42 (dk_at dksX8_exchange_2 9 rfl rfl)
theorem dX8_exchange_56 : decode cX8_exchange 56 = .ok (.iload 5, 2) := dk_21 5 (dk_at dksX8_exchange_2 10 rfl rfl)
theorem dX8_exchange_58 : decode cX8_exchange 58 = .ok (.invokevirtual 278, 3) := dk_182 1 22 (dk_at dksX8_exchange_2 12 rfl rfl)
theorem dX8_exchange_61 : decode cX8_exchange 61 = .ok (.iload 4, 2) := dk_21 4 (dk_at dksX8_exchange_2 15 rfl rfl)
theorem dX8_exchange_63 : decode cX8_exchange 63 = .ok (.ireturn, 1) := dk_172 (dk_at dksX8_exchange_2 17 rfl rfl)
abbrev cX8_turns : ByteArray := prog_20_method_45_code
def yX8_turns : MethodName := ⟨RX8, "turns", "(II)V"⟩
def dkwX8_turns_3 : List UInt8 := [4, 42, 180, 0, 30, 21, 4, 46, 4, 100, 120, 128, 128, 181, 0, 211, 177]
abbrev dktX8_turns_3 : List UInt8 := dkwX8_turns_3 ++ []
def dkwX8_turns_2 : List UInt8 := [42, 180, 0, 30, 21, 4, 21, 5, 79, 42, 89, 180, 0, 211, 4, 42, 180, 0, 30, 29, 46, 4, 100, 120]
abbrev dktX8_turns_2 : List UInt8 := dkwX8_turns_2 ++ dktX8_turns_3
def dkwX8_turns_1 : List UInt8 := [100, 54, 4, 42, 180, 0, 30, 29, 46, 54, 5, 42, 180, 0, 30, 29, 42, 180, 0, 30, 21, 4, 46, 79]
abbrev dktX8_turns_1 : List UInt8 := dkwX8_turns_1 ++ dktX8_turns_2
def dkwX8_turns_0 : List UInt8 := [6, 27, 104, 42, 180, 0, 33, 27, 46, 96, 4, 100, 62, 6, 28, 104, 42, 180, 0, 33, 28, 46, 96, 4]
abbrev dktX8_turns_0 : List UInt8 := dkwX8_turns_0 ++ dktX8_turns_1
theorem dksX8_turns_0 : cX8_turns.data.toList.drop 0 = dktX8_turns_0 := by decide +kernel
theorem dksX8_turns_1 : cX8_turns.data.toList.drop 24 = dktX8_turns_1 := dk_seg dksX8_turns_0 24 rfl rfl
theorem dksX8_turns_2 : cX8_turns.data.toList.drop 48 = dktX8_turns_2 := dk_seg dksX8_turns_1 24 rfl rfl
theorem dksX8_turns_3 : cX8_turns.data.toList.drop 72 = dktX8_turns_3 := dk_seg dksX8_turns_2 24 rfl rfl
theorem dX8_turns_0 : decode cX8_turns 0 = .ok (.iconst 3, 1) := dk_6 (dk_at dksX8_turns_0 0 rfl rfl)
theorem dX8_turns_1 : decode cX8_turns 1 = .ok (.iload_n 1, 1) := dk_27 (dk_at dksX8_turns_0 1 rfl rfl)
theorem dX8_turns_2 : decode cX8_turns 2 = .ok (.imul, 1) := dk_104 (dk_at dksX8_turns_0 2 rfl rfl)
theorem dX8_turns_3 : decode cX8_turns 3 = .ok (.aload_n 0, 1) := dk_42 (dk_at dksX8_turns_0 3 rfl rfl)
theorem dX8_turns_4 : decode cX8_turns 4 = .ok (.getfield 33, 3) := dk_180 0 33 (dk_at dksX8_turns_0 4 rfl rfl)
theorem dX8_turns_7 : decode cX8_turns 7 = .ok (.iload_n 1, 1) := dk_27 (dk_at dksX8_turns_0 7 rfl rfl)
theorem dX8_turns_8 : decode cX8_turns 8 = .ok (.iaload, 1) := dk_46 (dk_at dksX8_turns_0 8 rfl rfl)
theorem dX8_turns_9 : decode cX8_turns 9 = .ok (.iadd, 1) := dk_96 (dk_at dksX8_turns_0 9 rfl rfl)
theorem dX8_turns_10 : decode cX8_turns 10 = .ok (.iconst 1, 1) := dk_4 (dk_at dksX8_turns_0 10 rfl rfl)
theorem dX8_turns_11 : decode cX8_turns 11 = .ok (.isub, 1) := dk_100 (dk_at dksX8_turns_0 11 rfl rfl)
theorem dX8_turns_12 : decode cX8_turns 12 = .ok (.istore_n 3, 1) := dk_62 (dk_at dksX8_turns_0 12 rfl rfl)
theorem dX8_turns_13 : decode cX8_turns 13 = .ok (.iconst 3, 1) := dk_6 (dk_at dksX8_turns_0 13 rfl rfl)
theorem dX8_turns_14 : decode cX8_turns 14 = .ok (.iload_n 2, 1) := dk_28 (dk_at dksX8_turns_0 14 rfl rfl)
theorem dX8_turns_15 : decode cX8_turns 15 = .ok (.imul, 1) := dk_104 (dk_at dksX8_turns_0 15 rfl rfl)
theorem dX8_turns_16 : decode cX8_turns 16 = .ok (.aload_n 0, 1) := dk_42 (dk_at dksX8_turns_0 16 rfl rfl)
theorem dX8_turns_17 : decode cX8_turns 17 = .ok (.getfield 33, 3) := dk_180 0 33 (dk_at dksX8_turns_0 17 rfl rfl)
theorem dX8_turns_20 : decode cX8_turns 20 = .ok (.iload_n 2, 1) := dk_28 (dk_at dksX8_turns_0 20 rfl rfl)
theorem dX8_turns_21 : decode cX8_turns 21 = .ok (.iaload, 1) := dk_46 (dk_at dksX8_turns_0 21 rfl rfl)
theorem dX8_turns_22 : decode cX8_turns 22 = .ok (.iadd, 1) := dk_96 (dk_at dksX8_turns_0 22 rfl rfl)
theorem dX8_turns_23 : decode cX8_turns 23 = .ok (.iconst 1, 1) := dk_4 (dk_at dksX8_turns_0 23 rfl rfl)
theorem dX8_turns_24 : decode cX8_turns 24 = .ok (.isub, 1) := dk_100 (dk_at dksX8_turns_1 0 rfl rfl)
theorem dX8_turns_25 : decode cX8_turns 25 = .ok (.istore 4, 2) := dk_54 4 (dk_at dksX8_turns_1 1 rfl rfl)
theorem dX8_turns_27 : decode cX8_turns 27 = .ok (.aload_n 0, 1) := dk_42 (dk_at dksX8_turns_1 3 rfl rfl)
theorem dX8_turns_28 : decode cX8_turns 28 = .ok (.getfield 30, 3) := dk_180 0 30 (dk_at dksX8_turns_1 4 rfl rfl)
theorem dX8_turns_31 : decode cX8_turns 31 = .ok (.iload_n 3, 1) := dk_29 (dk_at dksX8_turns_1 7 rfl rfl)
theorem dX8_turns_32 : decode cX8_turns 32 = .ok (.iaload, 1) := dk_46 (dk_at dksX8_turns_1 8 rfl rfl)
theorem dX8_turns_33 : decode cX8_turns 33 = .ok (.istore 5, 2) := dk_54 5 (dk_at dksX8_turns_1 9 rfl rfl)
theorem dX8_turns_35 : decode cX8_turns 35 = .ok (.aload_n 0, 1) := dk_42 (dk_at dksX8_turns_1 11 rfl rfl)
theorem dX8_turns_36 : decode cX8_turns 36 = .ok (.getfield 30, 3) := dk_180 0 30 (dk_at dksX8_turns_1 12 rfl rfl)
theorem dX8_turns_39 : decode cX8_turns 39 = .ok (.iload_n 3, 1) := dk_29 (dk_at dksX8_turns_1 15 rfl rfl)
theorem dX8_turns_40 : decode cX8_turns 40 = .ok (.aload_n 0, 1) := dk_42 (dk_at dksX8_turns_1 16 rfl rfl)
theorem dX8_turns_41 : decode cX8_turns 41 = .ok (.getfield 30, 3) := dk_180 0 30 (dk_at dksX8_turns_1 17 rfl rfl)
theorem dX8_turns_44 : decode cX8_turns 44 = .ok (.iload 4, 2) := dk_21 4 (dk_at dksX8_turns_1 20 rfl rfl)
theorem dX8_turns_46 : decode cX8_turns 46 = .ok (.iaload, 1) := dk_46 (dk_at dksX8_turns_1 22 rfl rfl)
theorem dX8_turns_47 : decode cX8_turns 47 = .ok (.iastore, 1) := dk_79 (dk_at dksX8_turns_1 23 rfl rfl)
theorem dX8_turns_48 : decode cX8_turns 48 = .ok (.aload_n 0, 1) := dk_42 (dk_at dksX8_turns_2 0 rfl rfl)
theorem dX8_turns_49 : decode cX8_turns 49 = .ok (.getfield 30, 3) := dk_180 0 30 (dk_at dksX8_turns_2 1 rfl rfl)
theorem dX8_turns_52 : decode cX8_turns 52 = .ok (.iload 4, 2) := dk_21 4 (dk_at dksX8_turns_2 4 rfl rfl)
theorem dX8_turns_54 : decode cX8_turns 54 = .ok (.iload 5, 2) := dk_21 5 (dk_at dksX8_turns_2 6 rfl rfl)
theorem dX8_turns_56 : decode cX8_turns 56 = .ok (.iastore, 1) := dk_79 (dk_at dksX8_turns_2 8 rfl rfl)
theorem dX8_turns_57 : decode cX8_turns 57 = .ok (.aload_n 0, 1) := dk_42 (dk_at dksX8_turns_2 9 rfl rfl)
theorem dX8_turns_58 : decode cX8_turns 58 = .ok (.dup, 1) := dk_89 (dk_at dksX8_turns_2 10 rfl rfl)
theorem dX8_turns_59 : decode cX8_turns 59 = .ok (.getfield 211, 3) := dk_180 0 211 (dk_at dksX8_turns_2 11 rfl rfl)
theorem dX8_turns_62 : decode cX8_turns 62 = .ok (.iconst 1, 1) := dk_4 (dk_at dksX8_turns_2 14 rfl rfl)
theorem dX8_turns_63 : decode cX8_turns 63 = .ok (.aload_n 0, 1) := dk_42 (dk_at dksX8_turns_2 15 rfl rfl)
theorem dX8_turns_64 : decode cX8_turns 64 = .ok (.getfield 30, 3) := dk_180 0 30 (dk_at dksX8_turns_2 16 rfl rfl)
theorem dX8_turns_67 : decode cX8_turns 67 = .ok (.iload_n 3, 1) := dk_29 (dk_at dksX8_turns_2 19 rfl rfl)
theorem dX8_turns_68 : decode cX8_turns 68 = .ok (.iaload, 1) := dk_46 (dk_at dksX8_turns_2 20 rfl rfl)
theorem dX8_turns_69 : decode cX8_turns 69 = .ok (.iconst 1, 1) := dk_4 (dk_at dksX8_turns_2 21 rfl rfl)
theorem dX8_turns_70 : decode cX8_turns 70 = .ok (.isub, 1) := dk_100 (dk_at dksX8_turns_2 22 rfl rfl)
theorem dX8_turns_71 : decode cX8_turns 71 = .ok (.ishl, 1) := dk_120 (dk_at dksX8_turns_2 23 rfl rfl)
theorem dX8_turns_72 : decode cX8_turns 72 = .ok (.iconst 1, 1) := dk_4 (dk_at dksX8_turns_3 0 rfl rfl)
theorem dX8_turns_73 : decode cX8_turns 73 = .ok (.aload_n 0, 1) := dk_42 (dk_at dksX8_turns_3 1 rfl rfl)
theorem dX8_turns_74 : decode cX8_turns 74 = .ok (.getfield 30, 3) := dk_180 0 30 (dk_at dksX8_turns_3 2 rfl rfl)
theorem dX8_turns_77 : decode cX8_turns 77 = .ok (.iload 4, 2) := dk_21 4 (dk_at dksX8_turns_3 5 rfl rfl)
theorem dX8_turns_79 : decode cX8_turns 79 = .ok (.iaload, 1) := dk_46 (dk_at dksX8_turns_3 7 rfl rfl)
theorem dX8_turns_80 : decode cX8_turns 80 = .ok (.iconst 1, 1) := dk_4 (dk_at dksX8_turns_3 8 rfl rfl)
theorem dX8_turns_81 : decode cX8_turns 81 = .ok (.isub, 1) := dk_100 (dk_at dksX8_turns_3 9 rfl rfl)
theorem dX8_turns_82 : decode cX8_turns 82 = .ok (.ishl, 1) := dk_120 (dk_at dksX8_turns_3 10 rfl rfl)
theorem dX8_turns_83 : decode cX8_turns 83 = .ok (.ior, 1) := dk_128 (dk_at dksX8_turns_3 11 rfl rfl)
theorem dX8_turns_84 : decode cX8_turns 84 = .ok (.ior, 1) := dk_128 (dk_at dksX8_turns_3 12 rfl rfl)
theorem dX8_turns_85 : decode cX8_turns 85 = .ok (.putfield 211, 3) := dk_181 0 211 (dk_at dksX8_turns_3 13 rfl rfl)
theorem dX8_turns_88 : decode cX8_turns 88 = .ok (.return_, 1) := dk_177 (dk_at dksX8_turns_3 16 rfl rfl)
abbrev cX8_year : ByteArray := prog_20_method_59_code
def yX8_year : MethodName := ⟨RX8, "year", "()I"⟩
def dkwX8_year_2 : List UInt8 := [46, 172]
abbrev dktX8_year_2 : List UInt8 := dkwX8_year_2 ++ []
def dkwX8_year_1 : List UInt8 := [180, 0, 13, 16, 112, 92, 46, 4, 96, 79, 42, 180, 0, 13, 16, 95, 3, 79, 42, 180, 0, 13, 16, 112]
abbrev dktX8_year_1 : List UInt8 := dkwX8_year_1 ++ dktX8_year_2
def dkwX8_year_0 : List UInt8 := [42, 3, 181, 0, 1, 42, 180, 0, 13, 16, 112, 46, 17, 3, 231, 160, 0, 6, 16, 251, 172, 42]
abbrev dktX8_year_0 : List UInt8 := dkwX8_year_0 ++ dktX8_year_1
theorem dksX8_year_0 : cX8_year.data.toList.drop 0 = dktX8_year_0 := by decide +kernel
theorem dksX8_year_1 : cX8_year.data.toList.drop 22 = dktX8_year_1 := dk_seg dksX8_year_0 22 rfl rfl
theorem dksX8_year_2 : cX8_year.data.toList.drop 46 = dktX8_year_2 := dk_seg dksX8_year_1 24 rfl rfl
theorem dX8_year_0 : decode cX8_year 0 = .ok (.aload_n 0, 1) := dk_42 (dk_at dksX8_year_0 0 rfl rfl)
theorem dX8_year_1 : decode cX8_year 1 = .ok (.iconst 0, 1) := dk_3 (dk_at dksX8_year_0 1 rfl rfl)
theorem dX8_year_2 : decode cX8_year 2 = .ok (.putfield 1, 3) := dk_181 0 1 (dk_at dksX8_year_0 2 rfl rfl)
theorem dX8_year_5 : decode cX8_year 5 = .ok (.aload_n 0, 1) := dk_42 (dk_at dksX8_year_0 5 rfl rfl)
theorem dX8_year_6 : decode cX8_year 6 = .ok (.getfield 13, 3) := dk_180 0 13 (dk_at dksX8_year_0 6 rfl rfl)
theorem dX8_year_9 : decode cX8_year 9 = .ok (.bipush 112, 2) := dk_16 112 (dk_at dksX8_year_0 9 rfl rfl)
theorem dX8_year_11 : decode cX8_year 11 = .ok (.iaload, 1) := dk_46 (dk_at dksX8_year_0 11 rfl rfl)
theorem dX8_year_12 : decode cX8_year 12 = .ok (.sipush 999, 3) := dk_17 3 231 (dk_at dksX8_year_0 12 rfl rfl)
theorem dX8_year_15 : decode cX8_year 15 = .ok (.if_icmp .ne 6, 3) := dk_160 0 6 (dk_at dksX8_year_0 15 rfl rfl)
theorem dX8_year_18 : decode cX8_year 18 = .ok (.bipush (-5), 2) := dk_16 251 (dk_at dksX8_year_0 18 rfl rfl)
theorem dX8_year_20 : decode cX8_year 20 = .ok (.ireturn, 1) := dk_172 (dk_at dksX8_year_0 20 rfl rfl)
theorem dX8_year_21 : decode cX8_year 21 = .ok (.aload_n 0, 1) := dk_42 (dk_at dksX8_year_0 21 rfl rfl)
theorem dX8_year_22 : decode cX8_year 22 = .ok (.getfield 13, 3) := dk_180 0 13 (dk_at dksX8_year_1 0 rfl rfl)
theorem dX8_year_25 : decode cX8_year 25 = .ok (.bipush 112, 2) := dk_16 112 (dk_at dksX8_year_1 3 rfl rfl)
theorem dX8_year_27 : decode cX8_year 27 = .ok (.dup2, 1) := dk_92 (dk_at dksX8_year_1 5 rfl rfl)
theorem dX8_year_28 : decode cX8_year 28 = .ok (.iaload, 1) := dk_46 (dk_at dksX8_year_1 6 rfl rfl)
theorem dX8_year_29 : decode cX8_year 29 = .ok (.iconst 1, 1) := dk_4 (dk_at dksX8_year_1 7 rfl rfl)
theorem dX8_year_30 : decode cX8_year 30 = .ok (.iadd, 1) := dk_96 (dk_at dksX8_year_1 8 rfl rfl)
theorem dX8_year_31 : decode cX8_year 31 = .ok (.iastore, 1) := dk_79 (dk_at dksX8_year_1 9 rfl rfl)
theorem dX8_year_32 : decode cX8_year 32 = .ok (.aload_n 0, 1) := dk_42 (dk_at dksX8_year_1 10 rfl rfl)
theorem dX8_year_33 : decode cX8_year 33 = .ok (.getfield 13, 3) := dk_180 0 13 (dk_at dksX8_year_1 11 rfl rfl)
theorem dX8_year_36 : decode cX8_year 36 = .ok (.bipush 95, 2) := dk_16 95 (dk_at dksX8_year_1 14 rfl rfl)
theorem dX8_year_38 : decode cX8_year 38 = .ok (.iconst 0, 1) := dk_3 (dk_at dksX8_year_1 16 rfl rfl)
theorem dX8_year_39 : decode cX8_year 39 = .ok (.iastore, 1) := dk_79 (dk_at dksX8_year_1 17 rfl rfl)
theorem dX8_year_40 : decode cX8_year 40 = .ok (.aload_n 0, 1) := dk_42 (dk_at dksX8_year_1 18 rfl rfl)
theorem dX8_year_41 : decode cX8_year 41 = .ok (.getfield 13, 3) := dk_180 0 13 (dk_at dksX8_year_1 19 rfl rfl)
theorem dX8_year_44 : decode cX8_year 44 = .ok (.bipush 112, 2) := dk_16 112 (dk_at dksX8_year_1 22 rfl rfl)
theorem dX8_year_46 : decode cX8_year 46 = .ok (.iaload, 1) := dk_46 (dk_at dksX8_year_2 0 rfl rfl)
theorem dX8_year_47 : decode cX8_year 47 = .ok (.ireturn, 1) := dk_172 (dk_at dksX8_year_2 1 rfl rfl)
abbrev cX8_flood : ByteArray := prog_20_method_60_code
def yX8_flood : MethodName := ⟨RX8, "flood", "(I)I"⟩
def dkwX8_flood_9 : List UInt8 := [172]
abbrev dktX8_flood_9 : List UInt8 := dkwX8_flood_9 ++ []
def dkwX8_flood_8 : List UInt8 := [16, 78, 46, 4, 160, 0, 10, 42, 180, 0, 211, 167, 0, 4, 28, 181, 0, 211, 42, 182, 1, 19, 21, 4]
abbrev dktX8_flood_8 : List UInt8 := dkwX8_flood_8 ++ dktX8_flood_9
def dkwX8_flood_7 : List UInt8 := [182, 1, 16, 42, 21, 8, 182, 1, 22, 132, 4, 1, 132, 5, 1, 167, 255, 102, 42, 42, 180, 0, 13]
abbrev dktX8_flood_7 : List UInt8 := dkwX8_flood_7 ++ dktX8_flood_8
def dkwX8_flood_6 : List UInt8 := [180, 0, 13, 16, 15, 21, 8, 96, 46, 182, 0, 236, 153, 0, 6, 167, 0, 20, 42, 21, 5, 21, 7]
abbrev dktX8_flood_6 : List UInt8 := dkwX8_flood_6 ++ dktX8_flood_7
def dkwX8_flood_5 : List UInt8 := [167, 0, 57, 42, 21, 5, 182, 0, 226, 54, 8, 42, 21, 7, 42, 180, 0, 33, 21, 7, 46, 42]
abbrev dktX8_flood_5 : List UInt8 := dkwX8_flood_5 ++ dktX8_flood_6
def dkwX8_flood_4 : List UInt8 := [153, 0, 79, 42, 180, 0, 33, 21, 7, 46, 42, 180, 0, 13, 4, 21, 7, 96, 46, 160, 0, 6]
abbrev dktX8_flood_4 : List UInt8 := dkwX8_flood_4 ++ dktX8_flood_5
def dkwX8_flood_3 : List UInt8 := [21, 5, 4, 100, 167, 0, 7, 21, 5, 4, 96, 54, 7, 21, 6, 153, 0, 88, 42, 21, 7, 182, 0, 223]
abbrev dktX8_flood_3 : List UInt8 := dkwX8_flood_3 ++ dktX8_flood_4
def dkwX8_flood_2 : List UInt8 := [19, 1, 28, 29, 104, 17, 48, 57, 96, 62, 29, 16, 16, 124, 6, 112, 54, 6, 21, 6, 4, 160, 0, 10]
abbrev dktX8_flood_2 : List UInt8 := dkwX8_flood_2 ++ dktX8_flood_3
def dkwX8_flood_1 : List UInt8 := [42, 180, 0, 13, 3, 46, 162, 0, 149, 42, 180, 0, 33, 21, 5, 46, 154, 0, 6, 167, 0, 130]
abbrev dktX8_flood_1 : List UInt8 := dkwX8_flood_1 ++ dktX8_flood_2
def dkwX8_flood_0 : List UInt8 := [42, 3, 181, 0, 1, 42, 182, 1, 4, 42, 180, 0, 211, 61, 27, 62, 3, 54, 4, 3, 54, 5, 21, 5]
abbrev dktX8_flood_0 : List UInt8 := dkwX8_flood_0 ++ dktX8_flood_1
theorem dksX8_flood_0 : cX8_flood.data.toList.drop 0 = dktX8_flood_0 := by decide +kernel
theorem dksX8_flood_1 : cX8_flood.data.toList.drop 24 = dktX8_flood_1 := dk_seg dksX8_flood_0 24 rfl rfl
theorem dksX8_flood_2 : cX8_flood.data.toList.drop 46 = dktX8_flood_2 := dk_seg dksX8_flood_1 22 rfl rfl
theorem dksX8_flood_3 : cX8_flood.data.toList.drop 70 = dktX8_flood_3 := dk_seg dksX8_flood_2 24 rfl rfl
theorem dksX8_flood_4 : cX8_flood.data.toList.drop 94 = dktX8_flood_4 := dk_seg dksX8_flood_3 24 rfl rfl
theorem dksX8_flood_5 : cX8_flood.data.toList.drop 116 = dktX8_flood_5 := dk_seg dksX8_flood_4 22 rfl rfl
theorem dksX8_flood_6 : cX8_flood.data.toList.drop 138 = dktX8_flood_6 := dk_seg dksX8_flood_5 22 rfl rfl
theorem dksX8_flood_7 : cX8_flood.data.toList.drop 161 = dktX8_flood_7 := dk_seg dksX8_flood_6 23 rfl rfl
theorem dksX8_flood_8 : cX8_flood.data.toList.drop 184 = dktX8_flood_8 := dk_seg dksX8_flood_7 23 rfl rfl
theorem dksX8_flood_9 : cX8_flood.data.toList.drop 208 = dktX8_flood_9 := dk_seg dksX8_flood_8 24 rfl rfl
theorem dX8_flood_0 : decode cX8_flood 0 = .ok (.aload_n 0, 1) := dk_42 (dk_at dksX8_flood_0 0 rfl rfl)
theorem dX8_flood_1 : decode cX8_flood 1 = .ok (.iconst 0, 1) := dk_3 (dk_at dksX8_flood_0 1 rfl rfl)
theorem dX8_flood_2 : decode cX8_flood 2 = .ok (.putfield 1, 3) := dk_181 0 1 (dk_at dksX8_flood_0 2 rfl rfl)
theorem dX8_flood_5 : decode cX8_flood 5 = .ok (.aload_n 0, 1) := dk_42 (dk_at dksX8_flood_0 5 rfl rfl)
theorem dX8_flood_6 : decode cX8_flood 6 = .ok (.invokevirtual 260, 3) := dk_182 1 4 (dk_at dksX8_flood_0 6 rfl rfl)
theorem dX8_flood_9 : decode cX8_flood 9 = .ok (.aload_n 0, 1) := dk_42 (dk_at dksX8_flood_0 9 rfl rfl)
theorem dX8_flood_10 : decode cX8_flood 10 = .ok (.getfield 211, 3) := dk_180 0 211 (dk_at dksX8_flood_0 10 rfl rfl)
theorem dX8_flood_13 : decode cX8_flood 13 = .ok (.istore_n 2, 1) := dk_61 (dk_at dksX8_flood_0 13 rfl rfl)
theorem dX8_flood_14 : decode cX8_flood 14 = .ok (.iload_n 1, 1) := dk_27 (dk_at dksX8_flood_0 14 rfl rfl)
theorem dX8_flood_15 : decode cX8_flood 15 = .ok (.istore_n 3, 1) := dk_62 (dk_at dksX8_flood_0 15 rfl rfl)
theorem dX8_flood_16 : decode cX8_flood 16 = .ok (.iconst 0, 1) := dk_3 (dk_at dksX8_flood_0 16 rfl rfl)
theorem dX8_flood_17 : decode cX8_flood 17 = .ok (.istore 4, 2) := dk_54 4 (dk_at dksX8_flood_0 17 rfl rfl)
theorem dX8_flood_19 : decode cX8_flood 19 = .ok (.iconst 0, 1) := dk_3 (dk_at dksX8_flood_0 19 rfl rfl)
theorem dX8_flood_20 : decode cX8_flood 20 = .ok (.istore 5, 2) := dk_54 5 (dk_at dksX8_flood_0 20 rfl rfl)
theorem dX8_flood_22 : decode cX8_flood 22 = .ok (.iload 5, 2) := dk_21 5 (dk_at dksX8_flood_0 22 rfl rfl)
theorem dX8_flood_24 : decode cX8_flood 24 = .ok (.aload_n 0, 1) := dk_42 (dk_at dksX8_flood_1 0 rfl rfl)
theorem dX8_flood_25 : decode cX8_flood 25 = .ok (.getfield 13, 3) := dk_180 0 13 (dk_at dksX8_flood_1 1 rfl rfl)
theorem dX8_flood_28 : decode cX8_flood 28 = .ok (.iconst 0, 1) := dk_3 (dk_at dksX8_flood_1 4 rfl rfl)
theorem dX8_flood_29 : decode cX8_flood 29 = .ok (.iaload, 1) := dk_46 (dk_at dksX8_flood_1 5 rfl rfl)
theorem dX8_flood_30 : decode cX8_flood 30 = .ok (.if_icmp .ge 149, 3) := dk_162 0 149 (dk_at dksX8_flood_1 6 rfl rfl)
theorem dX8_flood_33 : decode cX8_flood 33 = .ok (.aload_n 0, 1) := dk_42 (dk_at dksX8_flood_1 9 rfl rfl)
theorem dX8_flood_34 : decode cX8_flood 34 = .ok (.getfield 33, 3) := dk_180 0 33 (dk_at dksX8_flood_1 10 rfl rfl)
theorem dX8_flood_37 : decode cX8_flood 37 = .ok (.iload 5, 2) := dk_21 5 (dk_at dksX8_flood_1 13 rfl rfl)
theorem dX8_flood_39 : decode cX8_flood 39 = .ok (.iaload, 1) := dk_46 (dk_at dksX8_flood_1 15 rfl rfl)
theorem dX8_flood_40 : decode cX8_flood 40 = .ok (.ifCond .ne 6, 3) := dk_154 0 6 (dk_at dksX8_flood_1 16 rfl rfl)
theorem dX8_flood_43 : decode cX8_flood 43 = .ok (.goto 130, 3) := dk_167 0 130 (dk_at dksX8_flood_1 19 rfl rfl)
theorem dX8_flood_46 : decode cX8_flood 46 = .ok (.ldc_w 284, 3) := dk_19 1 28 (dk_at dksX8_flood_2 0 rfl rfl)
theorem dX8_flood_49 : decode cX8_flood 49 = .ok (.iload_n 3, 1) := dk_29 (dk_at dksX8_flood_2 3 rfl rfl)
theorem dX8_flood_50 : decode cX8_flood 50 = .ok (.imul, 1) := dk_104 (dk_at dksX8_flood_2 4 rfl rfl)
theorem dX8_flood_51 : decode cX8_flood 51 = .ok (.sipush 12345, 3) := dk_17 48 57 (dk_at dksX8_flood_2 5 rfl rfl)
theorem dX8_flood_54 : decode cX8_flood 54 = .ok (.iadd, 1) := dk_96 (dk_at dksX8_flood_2 8 rfl rfl)
theorem dX8_flood_55 : decode cX8_flood 55 = .ok (.istore_n 3, 1) := dk_62 (dk_at dksX8_flood_2 9 rfl rfl)
theorem dX8_flood_56 : decode cX8_flood 56 = .ok (.iload_n 3, 1) := dk_29 (dk_at dksX8_flood_2 10 rfl rfl)
theorem dX8_flood_57 : decode cX8_flood 57 = .ok (.bipush 16, 2) := dk_16 16 (dk_at dksX8_flood_2 11 rfl rfl)
theorem dX8_flood_59 : decode cX8_flood 59 = .ok (.iushr, 1) := dk_124 (dk_at dksX8_flood_2 13 rfl rfl)
theorem dX8_flood_60 : decode cX8_flood 60 = .ok (.iconst 3, 1) := dk_6 (dk_at dksX8_flood_2 14 rfl rfl)
theorem dX8_flood_61 : decode cX8_flood 61 = .ok (.irem, 1) := dk_112 (dk_at dksX8_flood_2 15 rfl rfl)
theorem dX8_flood_62 : decode cX8_flood 62 = .ok (.istore 6, 2) := dk_54 6 (dk_at dksX8_flood_2 16 rfl rfl)
theorem dX8_flood_64 : decode cX8_flood 64 = .ok (.iload 6, 2) := dk_21 6 (dk_at dksX8_flood_2 18 rfl rfl)
theorem dX8_flood_66 : decode cX8_flood 66 = .ok (.iconst 1, 1) := dk_4 (dk_at dksX8_flood_2 20 rfl rfl)
theorem dX8_flood_67 : decode cX8_flood 67 = .ok (.if_icmp .ne 10, 3) := dk_160 0 10 (dk_at dksX8_flood_2 21 rfl rfl)
theorem dX8_flood_70 : decode cX8_flood 70 = .ok (.iload 5, 2) := dk_21 5 (dk_at dksX8_flood_3 0 rfl rfl)
theorem dX8_flood_72 : decode cX8_flood 72 = .ok (.iconst 1, 1) := dk_4 (dk_at dksX8_flood_3 2 rfl rfl)
theorem dX8_flood_73 : decode cX8_flood 73 = .ok (.isub, 1) := dk_100 (dk_at dksX8_flood_3 3 rfl rfl)
theorem dX8_flood_74 : decode cX8_flood 74 = .ok (.goto 7, 3) := dk_167 0 7 (dk_at dksX8_flood_3 4 rfl rfl)
theorem dX8_flood_77 : decode cX8_flood 77 = .ok (.iload 5, 2) := dk_21 5 (dk_at dksX8_flood_3 7 rfl rfl)
theorem dX8_flood_79 : decode cX8_flood 79 = .ok (.iconst 1, 1) := dk_4 (dk_at dksX8_flood_3 9 rfl rfl)
theorem dX8_flood_80 : decode cX8_flood 80 = .ok (.iadd, 1) := dk_96 (dk_at dksX8_flood_3 10 rfl rfl)
theorem dX8_flood_81 : decode cX8_flood 81 = .ok (.istore 7, 2) := dk_54 7 (dk_at dksX8_flood_3 11 rfl rfl)
theorem dX8_flood_83 : decode cX8_flood 83 = .ok (.iload 6, 2) := dk_21 6 (dk_at dksX8_flood_3 13 rfl rfl)
theorem dX8_flood_85 : decode cX8_flood 85 = .ok (.ifCond .eq 88, 3) := dk_153 0 88 (dk_at dksX8_flood_3 15 rfl rfl)
theorem dX8_flood_88 : decode cX8_flood 88 = .ok (.aload_n 0, 1) := dk_42 (dk_at dksX8_flood_3 18 rfl rfl)
theorem dX8_flood_89 : decode cX8_flood 89 = .ok (.iload 7, 2) := dk_21 7 (dk_at dksX8_flood_3 19 rfl rfl)
theorem dX8_flood_91 : decode cX8_flood 91 = .ok (.invokevirtual 223, 3) := dk_182 0 223 (dk_at dksX8_flood_3 21 rfl rfl)
theorem dX8_flood_94 : decode cX8_flood 94 = .ok (.ifCond .eq 79, 3) := dk_153 0 79 (dk_at dksX8_flood_4 0 rfl rfl)
theorem dX8_flood_97 : decode cX8_flood 97 = .ok (.aload_n 0, 1) := dk_42 (dk_at dksX8_flood_4 3 rfl rfl)
theorem dX8_flood_98 : decode cX8_flood 98 = .ok (.getfield 33, 3) := dk_180 0 33 (dk_at dksX8_flood_4 4 rfl rfl)
theorem dX8_flood_101 : decode cX8_flood 101 = .ok (.iload 7, 2) := dk_21 7 (dk_at dksX8_flood_4 7 rfl rfl)
theorem dX8_flood_103 : decode cX8_flood 103 = .ok (.iaload, 1) := dk_46 (dk_at dksX8_flood_4 9 rfl rfl)
theorem dX8_flood_104 : decode cX8_flood 104 = .ok (.aload_n 0, 1) := dk_42 (dk_at dksX8_flood_4 10 rfl rfl)
theorem dX8_flood_105 : decode cX8_flood 105 = .ok (.getfield 13, 3) := dk_180 0 13 (dk_at dksX8_flood_4 11 rfl rfl)
theorem dX8_flood_108 : decode cX8_flood 108 = .ok (.iconst 1, 1) := dk_4 (dk_at dksX8_flood_4 14 rfl rfl)
theorem dX8_flood_109 : decode cX8_flood 109 = .ok (.iload 7, 2) := dk_21 7 (dk_at dksX8_flood_4 15 rfl rfl)
theorem dX8_flood_111 : decode cX8_flood 111 = .ok (.iadd, 1) := dk_96 (dk_at dksX8_flood_4 17 rfl rfl)
theorem dX8_flood_112 : decode cX8_flood 112 = .ok (.iaload, 1) := dk_46 (dk_at dksX8_flood_4 18 rfl rfl)
theorem dX8_flood_113 : decode cX8_flood 113 = .ok (.if_icmp .ne 6, 3) := dk_160 0 6 (dk_at dksX8_flood_4 19 rfl rfl)
theorem dX8_flood_116 : decode cX8_flood 116 = .ok (.goto 57, 3) := dk_167 0 57 (dk_at dksX8_flood_5 0 rfl rfl)
theorem dX8_flood_119 : decode cX8_flood 119 = .ok (.aload_n 0, 1) := dk_42 (dk_at dksX8_flood_5 3 rfl rfl)
theorem dX8_flood_120 : decode cX8_flood 120 = .ok (.iload 5, 2) := dk_21 5 (dk_at dksX8_flood_5 4 rfl rfl)
theorem dX8_flood_122 : decode cX8_flood 122 = .ok (.invokevirtual 226, 3) := dk_182 0 226 (dk_at dksX8_flood_5 6 rfl rfl)
theorem dX8_flood_125 : decode cX8_flood 125 = .ok (.istore 8, 2) := dk_54 8 (dk_at dksX8_flood_5 9 rfl rfl)
theorem dX8_flood_127 : decode cX8_flood 127 = .ok (.aload_n 0, 1) := dk_42 (dk_at dksX8_flood_5 11 rfl rfl)
theorem dX8_flood_128 : decode cX8_flood 128 = .ok (.iload 7, 2) := dk_21 7 (dk_at dksX8_flood_5 12 rfl rfl)
theorem dX8_flood_130 : decode cX8_flood 130 = .ok (.aload_n 0, 1) := dk_42 (dk_at dksX8_flood_5 14 rfl rfl)
theorem dX8_flood_131 : decode cX8_flood 131 = .ok (.getfield 33, 3) := dk_180 0 33 (dk_at dksX8_flood_5 15 rfl rfl)
theorem dX8_flood_134 : decode cX8_flood 134 = .ok (.iload 7, 2) := dk_21 7 (dk_at dksX8_flood_5 18 rfl rfl)
theorem dX8_flood_136 : decode cX8_flood 136 = .ok (.iaload, 1) := dk_46 (dk_at dksX8_flood_5 20 rfl rfl)
theorem dX8_flood_137 : decode cX8_flood 137 = .ok (.aload_n 0, 1) := dk_42 (dk_at dksX8_flood_5 21 rfl rfl)
theorem dX8_flood_138 : decode cX8_flood 138 = .ok (.getfield 13, 3) := dk_180 0 13 (dk_at dksX8_flood_6 0 rfl rfl)
theorem dX8_flood_141 : decode cX8_flood 141 = .ok (.bipush 15, 2) := dk_16 15 (dk_at dksX8_flood_6 3 rfl rfl)
theorem dX8_flood_143 : decode cX8_flood 143 = .ok (.iload 8, 2) := dk_21 8 (dk_at dksX8_flood_6 5 rfl rfl)
theorem dX8_flood_145 : decode cX8_flood 145 = .ok (.iadd, 1) := dk_96 (dk_at dksX8_flood_6 7 rfl rfl)
theorem dX8_flood_146 : decode cX8_flood 146 = .ok (.iaload, 1) := dk_46 (dk_at dksX8_flood_6 8 rfl rfl)
theorem dX8_flood_147 : decode cX8_flood 147 = .ok (.invokevirtual 236, 3) := dk_182 0 236 (dk_at dksX8_flood_6 9 rfl rfl)
theorem dX8_flood_150 : decode cX8_flood 150 = .ok (.ifCond .eq 6, 3) := dk_153 0 6 (dk_at dksX8_flood_6 12 rfl rfl)
theorem dX8_flood_153 : decode cX8_flood 153 = .ok (.goto 20, 3) := dk_167 0 20 (dk_at dksX8_flood_6 15 rfl rfl)
theorem dX8_flood_156 : decode cX8_flood 156 = .ok (.aload_n 0, 1) := dk_42 (dk_at dksX8_flood_6 18 rfl rfl)
theorem dX8_flood_157 : decode cX8_flood 157 = .ok (.iload 5, 2) := dk_21 5 (dk_at dksX8_flood_6 19 rfl rfl)
theorem dX8_flood_159 : decode cX8_flood 159 = .ok (.iload 7, 2) := dk_21 7 (dk_at dksX8_flood_6 21 rfl rfl)
theorem dX8_flood_161 : decode cX8_flood 161 = .ok (.invokevirtual 272, 3) := dk_182 1 16 (dk_at dksX8_flood_7 0 rfl rfl)
theorem dX8_flood_164 : decode cX8_flood 164 = .ok (.aload_n 0, 1) := dk_42 (dk_at dksX8_flood_7 3 rfl rfl)
theorem dX8_flood_165 : decode cX8_flood 165 = .ok (.iload 8, 2) := dk_21 8 (dk_at dksX8_flood_7 4 rfl rfl)
theorem dX8_flood_167 : decode cX8_flood 167 = .ok (.invokevirtual 278, 3) := dk_182 1 22 (dk_at dksX8_flood_7 6 rfl rfl)
theorem dX8_flood_170 : decode cX8_flood 170 = .ok (.iinc 4 1, 3) := dk_132 4 1 (dk_at dksX8_flood_7 9 rfl rfl)
theorem dX8_flood_173 : decode cX8_flood 173 = .ok (.iinc 5 1, 3) := dk_132 5 1 (dk_at dksX8_flood_7 12 rfl rfl)
theorem dX8_flood_176 : decode cX8_flood 176 = .ok (.goto (-154), 3) := dk_167 255 102 (dk_at dksX8_flood_7 15 rfl rfl)
theorem dX8_flood_179 : decode cX8_flood 179 = .ok (.aload_n 0, 1) := dk_42 (dk_at dksX8_flood_7 18 rfl rfl)
theorem dX8_flood_180 : decode cX8_flood 180 = .ok (.aload_n 0, 1) := dk_42 (dk_at dksX8_flood_7 19 rfl rfl)
theorem dX8_flood_181 : decode cX8_flood 181 = .ok (.getfield 13, 3) := dk_180 0 13 (dk_at dksX8_flood_7 20 rfl rfl)
theorem dX8_flood_184 : decode cX8_flood 184 = .ok (.bipush 78, 2) := dk_16 78 (dk_at dksX8_flood_8 0 rfl rfl)
theorem dX8_flood_186 : decode cX8_flood 186 = .ok (.iaload, 1) := dk_46 (dk_at dksX8_flood_8 2 rfl rfl)
theorem dX8_flood_187 : decode cX8_flood 187 = .ok (.iconst 1, 1) := dk_4 (dk_at dksX8_flood_8 3 rfl rfl)
theorem dX8_flood_188 : decode cX8_flood 188 = .ok (.if_icmp .ne 10, 3) := dk_160 0 10 (dk_at dksX8_flood_8 4 rfl rfl)
theorem dX8_flood_191 : decode cX8_flood 191 = .ok (.aload_n 0, 1) := dk_42 (dk_at dksX8_flood_8 7 rfl rfl)
theorem dX8_flood_192 : decode cX8_flood 192 = .ok (.getfield 211, 3) := dk_180 0 211 (dk_at dksX8_flood_8 8 rfl rfl)
theorem dX8_flood_195 : decode cX8_flood 195 = .ok (.goto 4, 3) := dk_167 0 4 (dk_at dksX8_flood_8 11 rfl rfl)
theorem dX8_flood_198 : decode cX8_flood 198 = .ok (.iload_n 2, 1) := dk_28 (dk_at dksX8_flood_8 14 rfl rfl)
theorem dX8_flood_199 : decode cX8_flood 199 = .ok (.putfield 211, 3) := dk_181 0 211 (dk_at dksX8_flood_8 15 rfl rfl)
theorem dX8_flood_202 : decode cX8_flood 202 = .ok (.aload_n 0, 1) := dk_42 (dk_at dksX8_flood_8 18 rfl rfl)
theorem dX8_flood_203 : decode cX8_flood 203 = .ok (.invokevirtual 275, 3) := dk_182 1 19 (dk_at dksX8_flood_8 19 rfl rfl)
theorem dX8_flood_206 : decode cX8_flood 206 = .ok (.iload 4, 2) := dk_21 4 (dk_at dksX8_flood_8 22 rfl rfl)
theorem dX8_flood_208 : decode cX8_flood 208 = .ok (.ireturn, 1) := dk_172 (dk_at dksX8_flood_9 0 rfl rfl)
abbrev cX8_steal : ByteArray := prog_20_method_62_code
def yX8_steal : MethodName := ⟨RX8, "steal", "(I)I"⟩
def dkwX8_steal_2 : List UInt8 := [79, 42, 180, 0, 13, 16, 95, 92, 46, 4, 27, 120, 2, 130, 126, 79, 28, 172]
abbrev dktX8_steal_2 : List UInt8 := dkwX8_steal_2 ++ []
def dkwX8_steal_1 : List UInt8 := [172, 42, 27, 182, 1, 29, 61, 28, 2, 160, 0, 6, 16, 251, 172, 42, 180, 0, 13, 16, 80, 28, 96, 3]
abbrev dktX8_steal_1 : List UInt8 := dkwX8_steal_1 ++ dktX8_steal_2
def dkwX8_steal_0 : List UInt8 := [42, 3, 181, 0, 1, 42, 27, 182, 0, 250, 153, 0, 12, 42, 27, 182, 0, 255, 2, 160, 0, 6, 16, 254]
abbrev dktX8_steal_0 : List UInt8 := dkwX8_steal_0 ++ dktX8_steal_1
theorem dksX8_steal_0 : cX8_steal.data.toList.drop 0 = dktX8_steal_0 := by decide +kernel
theorem dksX8_steal_1 : cX8_steal.data.toList.drop 24 = dktX8_steal_1 := dk_seg dksX8_steal_0 24 rfl rfl
theorem dksX8_steal_2 : cX8_steal.data.toList.drop 48 = dktX8_steal_2 := dk_seg dksX8_steal_1 24 rfl rfl
theorem dX8_steal_0 : decode cX8_steal 0 = .ok (.aload_n 0, 1) := dk_42 (dk_at dksX8_steal_0 0 rfl rfl)
theorem dX8_steal_1 : decode cX8_steal 1 = .ok (.iconst 0, 1) := dk_3 (dk_at dksX8_steal_0 1 rfl rfl)
theorem dX8_steal_2 : decode cX8_steal 2 = .ok (.putfield 1, 3) := dk_181 0 1 (dk_at dksX8_steal_0 2 rfl rfl)
theorem dX8_steal_5 : decode cX8_steal 5 = .ok (.aload_n 0, 1) := dk_42 (dk_at dksX8_steal_0 5 rfl rfl)
theorem dX8_steal_6 : decode cX8_steal 6 = .ok (.iload_n 1, 1) := dk_27 (dk_at dksX8_steal_0 6 rfl rfl)
theorem dX8_steal_7 : decode cX8_steal 7 = .ok (.invokevirtual 250, 3) := dk_182 0 250 (dk_at dksX8_steal_0 7 rfl rfl)
theorem dX8_steal_10 : decode cX8_steal 10 = .ok (.ifCond .eq 12, 3) := dk_153 0 12 (dk_at dksX8_steal_0 10 rfl rfl)
theorem dX8_steal_13 : decode cX8_steal 13 = .ok (.aload_n 0, 1) := dk_42 (dk_at dksX8_steal_0 13 rfl rfl)
theorem dX8_steal_14 : decode cX8_steal 14 = .ok (.iload_n 1, 1) := dk_27 (dk_at dksX8_steal_0 14 rfl rfl)
theorem dX8_steal_15 : decode cX8_steal 15 = .ok (.invokevirtual 255, 3) := dk_182 0 255 (dk_at dksX8_steal_0 15 rfl rfl)
theorem dX8_steal_18 : decode cX8_steal 18 = .ok (.iconst (-1), 1) := dk_2 (dk_at dksX8_steal_0 18 rfl rfl)
theorem dX8_steal_19 : decode cX8_steal 19 = .ok (.if_icmp .ne 6, 3) := dk_160 0 6 (dk_at dksX8_steal_0 19 rfl rfl)
theorem dX8_steal_22 : decode cX8_steal 22 = .ok (.bipush (-2), 2) := dk_16 254 (dk_at dksX8_steal_0 22 rfl rfl)
theorem dX8_steal_24 : decode cX8_steal 24 = .ok (.ireturn, 1) := dk_172 (dk_at dksX8_steal_1 0 rfl rfl)
theorem dX8_steal_25 : decode cX8_steal 25 = .ok (.aload_n 0, 1) := dk_42 (dk_at dksX8_steal_1 1 rfl rfl)
theorem dX8_steal_26 : decode cX8_steal 26 = .ok (.iload_n 1, 1) := dk_27 (dk_at dksX8_steal_1 2 rfl rfl)
theorem dX8_steal_27 : decode cX8_steal 27 = .ok (.invokevirtual 285, 3) := dk_182 1 29 (dk_at dksX8_steal_1 3 rfl rfl)
theorem dX8_steal_30 : decode cX8_steal 30 = .ok (.istore_n 2, 1) := dk_61 (dk_at dksX8_steal_1 6 rfl rfl)
theorem dX8_steal_31 : decode cX8_steal 31 = .ok (.iload_n 2, 1) := dk_28 (dk_at dksX8_steal_1 7 rfl rfl)
theorem dX8_steal_32 : decode cX8_steal 32 = .ok (.iconst (-1), 1) := dk_2 (dk_at dksX8_steal_1 8 rfl rfl)
theorem dX8_steal_33 : decode cX8_steal 33 = .ok (.if_icmp .ne 6, 3) := dk_160 0 6 (dk_at dksX8_steal_1 9 rfl rfl)
theorem dX8_steal_36 : decode cX8_steal 36 = .ok (.bipush (-5), 2) := dk_16 251 (dk_at dksX8_steal_1 12 rfl rfl)
theorem dX8_steal_38 : decode cX8_steal 38 = .ok (.ireturn, 1) := dk_172 (dk_at dksX8_steal_1 14 rfl rfl)
theorem dX8_steal_39 : decode cX8_steal 39 = .ok (.aload_n 0, 1) := dk_42 (dk_at dksX8_steal_1 15 rfl rfl)
theorem dX8_steal_40 : decode cX8_steal 40 = .ok (.getfield 13, 3) := dk_180 0 13 (dk_at dksX8_steal_1 16 rfl rfl)
theorem dX8_steal_43 : decode cX8_steal 43 = .ok (.bipush 80, 2) := dk_16 80 (dk_at dksX8_steal_1 19 rfl rfl)
theorem dX8_steal_45 : decode cX8_steal 45 = .ok (.iload_n 2, 1) := dk_28 (dk_at dksX8_steal_1 21 rfl rfl)
theorem dX8_steal_46 : decode cX8_steal 46 = .ok (.iadd, 1) := dk_96 (dk_at dksX8_steal_1 22 rfl rfl)
theorem dX8_steal_47 : decode cX8_steal 47 = .ok (.iconst 0, 1) := dk_3 (dk_at dksX8_steal_1 23 rfl rfl)
theorem dX8_steal_48 : decode cX8_steal 48 = .ok (.iastore, 1) := dk_79 (dk_at dksX8_steal_2 0 rfl rfl)
theorem dX8_steal_49 : decode cX8_steal 49 = .ok (.aload_n 0, 1) := dk_42 (dk_at dksX8_steal_2 1 rfl rfl)
theorem dX8_steal_50 : decode cX8_steal 50 = .ok (.getfield 13, 3) := dk_180 0 13 (dk_at dksX8_steal_2 2 rfl rfl)
theorem dX8_steal_53 : decode cX8_steal 53 = .ok (.bipush 95, 2) := dk_16 95 (dk_at dksX8_steal_2 5 rfl rfl)
theorem dX8_steal_55 : decode cX8_steal 55 = .ok (.dup2, 1) := dk_92 (dk_at dksX8_steal_2 7 rfl rfl)
theorem dX8_steal_56 : decode cX8_steal 56 = .ok (.iaload, 1) := dk_46 (dk_at dksX8_steal_2 8 rfl rfl)
theorem dX8_steal_57 : decode cX8_steal 57 = .ok (.iconst 1, 1) := dk_4 (dk_at dksX8_steal_2 9 rfl rfl)
theorem dX8_steal_58 : decode cX8_steal 58 = .ok (.iload_n 1, 1) := dk_27 (dk_at dksX8_steal_2 10 rfl rfl)
theorem dX8_steal_59 : decode cX8_steal 59 = .ok (.ishl, 1) := dk_120 (dk_at dksX8_steal_2 11 rfl rfl)
theorem dX8_steal_60 : decode cX8_steal 60 = .ok (.iconst (-1), 1) := dk_2 (dk_at dksX8_steal_2 12 rfl rfl)
theorem dX8_steal_61 : decode cX8_steal 61 = .ok (.ixor, 1) := dk_130 (dk_at dksX8_steal_2 13 rfl rfl)
theorem dX8_steal_62 : decode cX8_steal 62 = .ok (.iand, 1) := dk_126 (dk_at dksX8_steal_2 14 rfl rfl)
theorem dX8_steal_63 : decode cX8_steal 63 = .ok (.iastore, 1) := dk_79 (dk_at dksX8_steal_2 15 rfl rfl)
theorem dX8_steal_64 : decode cX8_steal 64 = .ok (.iload_n 2, 1) := dk_28 (dk_at dksX8_steal_2 16 rfl rfl)
theorem dX8_steal_65 : decode cX8_steal 65 = .ok (.ireturn, 1) := dk_172 (dk_at dksX8_steal_2 17 rfl rfl)
abbrev cX8_topPlace : ByteArray := prog_20_method_61_code
def yX8_topPlace : MethodName := ⟨RX8, "topPlace", "(I)I"⟩
def dkwX8_topPlace_1 : List UInt8 := [28, 96, 4, 96, 46, 158, 0, 7, 2, 167, 0, 4, 28, 172]
abbrev dktX8_topPlace_1 : List UInt8 := dkwX8_topPlace_1 ++ []
def dkwX8_topPlace_0 : List UInt8 := [42, 27, 182, 0, 255, 61, 28, 2, 159, 0, 24, 28, 6, 112, 5, 162, 0, 21, 42, 180, 0, 13, 16, 80]
abbrev dktX8_topPlace_0 : List UInt8 := dkwX8_topPlace_0 ++ dktX8_topPlace_1
theorem dksX8_topPlace_0 : cX8_topPlace.data.toList.drop 0 = dktX8_topPlace_0 := by decide +kernel
theorem dksX8_topPlace_1 : cX8_topPlace.data.toList.drop 24 = dktX8_topPlace_1 := dk_seg dksX8_topPlace_0 24 rfl rfl
theorem dX8_topPlace_0 : decode cX8_topPlace 0 = .ok (.aload_n 0, 1) := dk_42 (dk_at dksX8_topPlace_0 0 rfl rfl)
theorem dX8_topPlace_1 : decode cX8_topPlace 1 = .ok (.iload_n 1, 1) := dk_27 (dk_at dksX8_topPlace_0 1 rfl rfl)
theorem dX8_topPlace_2 : decode cX8_topPlace 2 = .ok (.invokevirtual 255, 3) := dk_182 0 255 (dk_at dksX8_topPlace_0 2 rfl rfl)
theorem dX8_topPlace_5 : decode cX8_topPlace 5 = .ok (.istore_n 2, 1) := dk_61 (dk_at dksX8_topPlace_0 5 rfl rfl)
theorem dX8_topPlace_6 : decode cX8_topPlace 6 = .ok (.iload_n 2, 1) := dk_28 (dk_at dksX8_topPlace_0 6 rfl rfl)
theorem dX8_topPlace_7 : decode cX8_topPlace 7 = .ok (.iconst (-1), 1) := dk_2 (dk_at dksX8_topPlace_0 7 rfl rfl)
theorem dX8_topPlace_8 : decode cX8_topPlace 8 = .ok (.if_icmp .eq 24, 3) := dk_159 0 24 (dk_at dksX8_topPlace_0 8 rfl rfl)
theorem dX8_topPlace_11 : decode cX8_topPlace 11 = .ok (.iload_n 2, 1) := dk_28 (dk_at dksX8_topPlace_0 11 rfl rfl)
theorem dX8_topPlace_12 : decode cX8_topPlace 12 = .ok (.iconst 3, 1) := dk_6 (dk_at dksX8_topPlace_0 12 rfl rfl)
theorem dX8_topPlace_13 : decode cX8_topPlace 13 = .ok (.irem, 1) := dk_112 (dk_at dksX8_topPlace_0 13 rfl rfl)
theorem dX8_topPlace_14 : decode cX8_topPlace 14 = .ok (.iconst 2, 1) := dk_5 (dk_at dksX8_topPlace_0 14 rfl rfl)
theorem dX8_topPlace_15 : decode cX8_topPlace 15 = .ok (.if_icmp .ge 21, 3) := dk_162 0 21 (dk_at dksX8_topPlace_0 15 rfl rfl)
theorem dX8_topPlace_18 : decode cX8_topPlace 18 = .ok (.aload_n 0, 1) := dk_42 (dk_at dksX8_topPlace_0 18 rfl rfl)
theorem dX8_topPlace_19 : decode cX8_topPlace 19 = .ok (.getfield 13, 3) := dk_180 0 13 (dk_at dksX8_topPlace_0 19 rfl rfl)
theorem dX8_topPlace_22 : decode cX8_topPlace 22 = .ok (.bipush 80, 2) := dk_16 80 (dk_at dksX8_topPlace_0 22 rfl rfl)
theorem dX8_topPlace_24 : decode cX8_topPlace 24 = .ok (.iload_n 2, 1) := dk_28 (dk_at dksX8_topPlace_1 0 rfl rfl)
theorem dX8_topPlace_25 : decode cX8_topPlace 25 = .ok (.iadd, 1) := dk_96 (dk_at dksX8_topPlace_1 1 rfl rfl)
theorem dX8_topPlace_26 : decode cX8_topPlace 26 = .ok (.iconst 1, 1) := dk_4 (dk_at dksX8_topPlace_1 2 rfl rfl)
theorem dX8_topPlace_27 : decode cX8_topPlace 27 = .ok (.iadd, 1) := dk_96 (dk_at dksX8_topPlace_1 3 rfl rfl)
theorem dX8_topPlace_28 : decode cX8_topPlace 28 = .ok (.iaload, 1) := dk_46 (dk_at dksX8_topPlace_1 4 rfl rfl)
theorem dX8_topPlace_29 : decode cX8_topPlace 29 = .ok (.ifCond .le 7, 3) := dk_158 0 7 (dk_at dksX8_topPlace_1 5 rfl rfl)
theorem dX8_topPlace_32 : decode cX8_topPlace 32 = .ok (.iconst (-1), 1) := dk_2 (dk_at dksX8_topPlace_1 8 rfl rfl)
theorem dX8_topPlace_33 : decode cX8_topPlace 33 = .ok (.goto 4, 3) := dk_167 0 4 (dk_at dksX8_topPlace_1 9 rfl rfl)
theorem dX8_topPlace_36 : decode cX8_topPlace 36 = .ok (.iload_n 2, 1) := dk_28 (dk_at dksX8_topPlace_1 12 rfl rfl)
theorem dX8_topPlace_37 : decode cX8_topPlace 37 = .ok (.ireturn, 1) := dk_172 (dk_at dksX8_topPlace_1 13 rfl rfl)
abbrev cX8_done : ByteArray := prog_20_method_68_code
def yX8_done : MethodName := ⟨RX8, "done", "(I)I"⟩
def dkwX8_done_1 : List UInt8 := [153, 0, 7, 4, 167, 0, 4, 3, 172]
abbrev dktX8_done_1 : List UInt8 := dkwX8_done_1 ++ []
def dkwX8_done_0 : List UInt8 := [42, 3, 181, 0, 1, 27, 184, 1, 40, 154, 0, 6, 16, 254, 172, 42, 182, 1, 4, 42, 27, 182, 1, 43]
abbrev dktX8_done_0 : List UInt8 := dkwX8_done_0 ++ dktX8_done_1
theorem dksX8_done_0 : cX8_done.data.toList.drop 0 = dktX8_done_0 := by decide +kernel
theorem dksX8_done_1 : cX8_done.data.toList.drop 24 = dktX8_done_1 := dk_seg dksX8_done_0 24 rfl rfl
theorem dX8_done_0 : decode cX8_done 0 = .ok (.aload_n 0, 1) := dk_42 (dk_at dksX8_done_0 0 rfl rfl)
theorem dX8_done_1 : decode cX8_done 1 = .ok (.iconst 0, 1) := dk_3 (dk_at dksX8_done_0 1 rfl rfl)
theorem dX8_done_2 : decode cX8_done 2 = .ok (.putfield 1, 3) := dk_181 0 1 (dk_at dksX8_done_0 2 rfl rfl)
theorem dX8_done_5 : decode cX8_done 5 = .ok (.iload_n 1, 1) := dk_27 (dk_at dksX8_done_0 5 rfl rfl)
theorem dX8_done_6 : decode cX8_done 6 = .ok (.invokestatic 296, 3) := dk_184 1 40 (dk_at dksX8_done_0 6 rfl rfl)
theorem dX8_done_9 : decode cX8_done 9 = .ok (.ifCond .ne 6, 3) := dk_154 0 6 (dk_at dksX8_done_0 9 rfl rfl)
theorem dX8_done_12 : decode cX8_done 12 = .ok (.bipush (-2), 2) := dk_16 254 (dk_at dksX8_done_0 12 rfl rfl)
theorem dX8_done_14 : decode cX8_done 14 = .ok (.ireturn, 1) := dk_172 (dk_at dksX8_done_0 14 rfl rfl)
theorem dX8_done_15 : decode cX8_done 15 = .ok (.aload_n 0, 1) := dk_42 (dk_at dksX8_done_0 15 rfl rfl)
theorem dX8_done_16 : decode cX8_done 16 = .ok (.invokevirtual 260, 3) := dk_182 1 4 (dk_at dksX8_done_0 16 rfl rfl)
theorem dX8_done_19 : decode cX8_done 19 = .ok (.aload_n 0, 1) := dk_42 (dk_at dksX8_done_0 19 rfl rfl)
theorem dX8_done_20 : decode cX8_done 20 = .ok (.iload_n 1, 1) := dk_27 (dk_at dksX8_done_0 20 rfl rfl)
theorem dX8_done_21 : decode cX8_done 21 = .ok (.invokevirtual 299, 3) := dk_182 1 43 (dk_at dksX8_done_0 21 rfl rfl)
theorem dX8_done_24 : decode cX8_done 24 = .ok (.ifCond .eq 7, 3) := dk_153 0 7 (dk_at dksX8_done_1 0 rfl rfl)
theorem dX8_done_27 : decode cX8_done 27 = .ok (.iconst 1, 1) := dk_4 (dk_at dksX8_done_1 3 rfl rfl)
theorem dX8_done_28 : decode cX8_done 28 = .ok (.goto 4, 3) := dk_167 0 4 (dk_at dksX8_done_1 4 rfl rfl)
theorem dX8_done_31 : decode cX8_done 31 = .ok (.iconst 0, 1) := dk_3 (dk_at dksX8_done_1 7 rfl rfl)
theorem dX8_done_32 : decode cX8_done 32 = .ok (.ireturn, 1) := dk_172 (dk_at dksX8_done_1 8 rfl rfl)
abbrev cX8_isWho : ByteArray := prog_20_method_63_code
def yX8_isWho : MethodName := ⟨RX8, "isWho", "(I)Z"⟩
def dkwX8_isWho_0 : List UInt8 := [26, 133, 20, 1, 32, 10, 184, 0, 153, 172]
abbrev dktX8_isWho_0 : List UInt8 := dkwX8_isWho_0 ++ []
theorem dksX8_isWho_0 : cX8_isWho.data.toList.drop 0 = dktX8_isWho_0 := by decide +kernel
theorem dX8_isWho_0 : decode cX8_isWho 0 = .ok (.iload_n 0, 1) := dk_26 (dk_at dksX8_isWho_0 0 rfl rfl)
theorem dX8_isWho_1 : decode cX8_isWho 1 = .ok (.i2l, 1) := dk_133 (dk_at dksX8_isWho_0 1 rfl rfl)
theorem dX8_isWho_2 : decode cX8_isWho 2 = .ok (.ldc2_w 288, 3) := dk_20 1 32 (dk_at dksX8_isWho_0 2 rfl rfl)
theorem dX8_isWho_5 : decode cX8_isWho 5 = .ok (.lconst 1, 1) := dk_10 (dk_at dksX8_isWho_0 5 rfl rfl)
theorem dX8_isWho_6 : decode cX8_isWho 6 = .ok (.invokestatic 153, 3) := dk_184 0 153 (dk_at dksX8_isWho_0 6 rfl rfl)
theorem dX8_isWho_9 : decode cX8_isWho 9 = .ok (.ireturn, 1) := dk_172 (dk_at dksX8_isWho_0 9 rfl rfl)
abbrev cX8_isDone : ByteArray := prog_20_method_67_code
def yX8_isDone : MethodName := ⟨RX8, "isDone", "(I)Z"⟩
def dkwX8_isDone_3 : List UInt8 := [132, 3, 1, 167, 255, 229, 132, 2, 1, 167, 255, 179, 4, 172]
abbrev dktX8_isDone_3 : List UInt8 := dkwX8_isDone_3 ++ []
def dkwX8_isDone_2 : List UInt8 := [180, 0, 33, 28, 46, 162, 0, 23, 42, 6, 28, 104, 29, 96, 182, 1, 37, 154, 0, 5, 3, 172]
abbrev dktX8_isDone_2 : List UInt8 := dkwX8_isDone_2 ++ dktX8_isDone_3
def dkwX8_isDone_1 : List UInt8 := [42, 180, 0, 33, 28, 46, 42, 180, 0, 13, 16, 31, 28, 96, 46, 159, 0, 5, 3, 172, 3, 62, 29, 42]
abbrev dktX8_isDone_1 : List UInt8 := dkwX8_isDone_1 ++ dktX8_isDone_2
def dkwX8_isDone_0 : List UInt8 := [3, 61, 28, 42, 180, 0, 13, 3, 46, 162, 0, 73, 42, 28, 27, 182, 1, 34, 154, 0, 6, 167, 0, 55]
abbrev dktX8_isDone_0 : List UInt8 := dkwX8_isDone_0 ++ dktX8_isDone_1
theorem dksX8_isDone_0 : cX8_isDone.data.toList.drop 0 = dktX8_isDone_0 := by decide +kernel
theorem dksX8_isDone_1 : cX8_isDone.data.toList.drop 24 = dktX8_isDone_1 := dk_seg dksX8_isDone_0 24 rfl rfl
theorem dksX8_isDone_2 : cX8_isDone.data.toList.drop 48 = dktX8_isDone_2 := dk_seg dksX8_isDone_1 24 rfl rfl
theorem dksX8_isDone_3 : cX8_isDone.data.toList.drop 70 = dktX8_isDone_3 := dk_seg dksX8_isDone_2 22 rfl rfl
theorem dX8_isDone_0 : decode cX8_isDone 0 = .ok (.iconst 0, 1) := dk_3 (dk_at dksX8_isDone_0 0 rfl rfl)
theorem dX8_isDone_1 : decode cX8_isDone 1 = .ok (.istore_n 2, 1) := dk_61 (dk_at dksX8_isDone_0 1 rfl rfl)
theorem dX8_isDone_2 : decode cX8_isDone 2 = .ok (.iload_n 2, 1) := dk_28 (dk_at dksX8_isDone_0 2 rfl rfl)
theorem dX8_isDone_3 : decode cX8_isDone 3 = .ok (.aload_n 0, 1) := dk_42 (dk_at dksX8_isDone_0 3 rfl rfl)
theorem dX8_isDone_4 : decode cX8_isDone 4 = .ok (.getfield 13, 3) := dk_180 0 13 (dk_at dksX8_isDone_0 4 rfl rfl)
theorem dX8_isDone_7 : decode cX8_isDone 7 = .ok (.iconst 0, 1) := dk_3 (dk_at dksX8_isDone_0 7 rfl rfl)
theorem dX8_isDone_8 : decode cX8_isDone 8 = .ok (.iaload, 1) := dk_46 (dk_at dksX8_isDone_0 8 rfl rfl)
theorem dX8_isDone_9 : decode cX8_isDone 9 = .ok (.if_icmp .ge 73, 3) := dk_162 0 73 (dk_at dksX8_isDone_0 9 rfl rfl)
theorem dX8_isDone_12 : decode cX8_isDone 12 = .ok (.aload_n 0, 1) := dk_42 (dk_at dksX8_isDone_0 12 rfl rfl)
theorem dX8_isDone_13 : decode cX8_isDone 13 = .ok (.iload_n 2, 1) := dk_28 (dk_at dksX8_isDone_0 13 rfl rfl)
theorem dX8_isDone_14 : decode cX8_isDone 14 = .ok (.iload_n 1, 1) := dk_27 (dk_at dksX8_isDone_0 14 rfl rfl)
theorem dX8_isDone_15 : decode cX8_isDone 15 = .ok (.invokevirtual 290, 3) := dk_182 1 34 (dk_at dksX8_isDone_0 15 rfl rfl)
theorem dX8_isDone_18 : decode cX8_isDone 18 = .ok (.ifCond .ne 6, 3) := dk_154 0 6 (dk_at dksX8_isDone_0 18 rfl rfl)
theorem dX8_isDone_21 : decode cX8_isDone 21 = .ok (.goto 55, 3) := dk_167 0 55 (dk_at dksX8_isDone_0 21 rfl rfl)
theorem dX8_isDone_24 : decode cX8_isDone 24 = .ok (.aload_n 0, 1) := dk_42 (dk_at dksX8_isDone_1 0 rfl rfl)
theorem dX8_isDone_25 : decode cX8_isDone 25 = .ok (.getfield 33, 3) := dk_180 0 33 (dk_at dksX8_isDone_1 1 rfl rfl)
theorem dX8_isDone_28 : decode cX8_isDone 28 = .ok (.iload_n 2, 1) := dk_28 (dk_at dksX8_isDone_1 4 rfl rfl)
theorem dX8_isDone_29 : decode cX8_isDone 29 = .ok (.iaload, 1) := dk_46 (dk_at dksX8_isDone_1 5 rfl rfl)
theorem dX8_isDone_30 : decode cX8_isDone 30 = .ok (.aload_n 0, 1) := dk_42 (dk_at dksX8_isDone_1 6 rfl rfl)
theorem dX8_isDone_31 : decode cX8_isDone 31 = .ok (.getfield 13, 3) := dk_180 0 13 (dk_at dksX8_isDone_1 7 rfl rfl)
theorem dX8_isDone_34 : decode cX8_isDone 34 = .ok (.bipush 31, 2) := dk_16 31 (dk_at dksX8_isDone_1 10 rfl rfl)
theorem dX8_isDone_36 : decode cX8_isDone 36 = .ok (.iload_n 2, 1) := dk_28 (dk_at dksX8_isDone_1 12 rfl rfl)
theorem dX8_isDone_37 : decode cX8_isDone 37 = .ok (.iadd, 1) := dk_96 (dk_at dksX8_isDone_1 13 rfl rfl)
theorem dX8_isDone_38 : decode cX8_isDone 38 = .ok (.iaload, 1) := dk_46 (dk_at dksX8_isDone_1 14 rfl rfl)
theorem dX8_isDone_39 : decode cX8_isDone 39 = .ok (.if_icmp .eq 5, 3) := dk_159 0 5 (dk_at dksX8_isDone_1 15 rfl rfl)
theorem dX8_isDone_42 : decode cX8_isDone 42 = .ok (.iconst 0, 1) := dk_3 (dk_at dksX8_isDone_1 18 rfl rfl)
theorem dX8_isDone_43 : decode cX8_isDone 43 = .ok (.ireturn, 1) := dk_172 (dk_at dksX8_isDone_1 19 rfl rfl)
theorem dX8_isDone_44 : decode cX8_isDone 44 = .ok (.iconst 0, 1) := dk_3 (dk_at dksX8_isDone_1 20 rfl rfl)
theorem dX8_isDone_45 : decode cX8_isDone 45 = .ok (.istore_n 3, 1) := dk_62 (dk_at dksX8_isDone_1 21 rfl rfl)
theorem dX8_isDone_46 : decode cX8_isDone 46 = .ok (.iload_n 3, 1) := dk_29 (dk_at dksX8_isDone_1 22 rfl rfl)
theorem dX8_isDone_47 : decode cX8_isDone 47 = .ok (.aload_n 0, 1) := dk_42 (dk_at dksX8_isDone_1 23 rfl rfl)
theorem dX8_isDone_48 : decode cX8_isDone 48 = .ok (.getfield 33, 3) := dk_180 0 33 (dk_at dksX8_isDone_2 0 rfl rfl)
theorem dX8_isDone_51 : decode cX8_isDone 51 = .ok (.iload_n 2, 1) := dk_28 (dk_at dksX8_isDone_2 3 rfl rfl)
theorem dX8_isDone_52 : decode cX8_isDone 52 = .ok (.iaload, 1) := dk_46 (dk_at dksX8_isDone_2 4 rfl rfl)
theorem dX8_isDone_53 : decode cX8_isDone 53 = .ok (.if_icmp .ge 23, 3) := dk_162 0 23 (dk_at dksX8_isDone_2 5 rfl rfl)
theorem dX8_isDone_56 : decode cX8_isDone 56 = .ok (.aload_n 0, 1) := dk_42 (dk_at dksX8_isDone_2 8 rfl rfl)
theorem dX8_isDone_57 : decode cX8_isDone 57 = .ok (.iconst 3, 1) := dk_6 (dk_at dksX8_isDone_2 9 rfl rfl)
theorem dX8_isDone_58 : decode cX8_isDone 58 = .ok (.iload_n 2, 1) := dk_28 (dk_at dksX8_isDone_2 10 rfl rfl)
theorem dX8_isDone_59 : decode cX8_isDone 59 = .ok (.imul, 1) := dk_104 (dk_at dksX8_isDone_2 11 rfl rfl)
theorem dX8_isDone_60 : decode cX8_isDone 60 = .ok (.iload_n 3, 1) := dk_29 (dk_at dksX8_isDone_2 12 rfl rfl)
theorem dX8_isDone_61 : decode cX8_isDone 61 = .ok (.iadd, 1) := dk_96 (dk_at dksX8_isDone_2 13 rfl rfl)
theorem dX8_isDone_62 : decode cX8_isDone 62 = .ok (.invokevirtual 293, 3) := dk_182 1 37 (dk_at dksX8_isDone_2 14 rfl rfl)
theorem dX8_isDone_65 : decode cX8_isDone 65 = .ok (.ifCond .ne 5, 3) := dk_154 0 5 (dk_at dksX8_isDone_2 17 rfl rfl)
theorem dX8_isDone_68 : decode cX8_isDone 68 = .ok (.iconst 0, 1) := dk_3 (dk_at dksX8_isDone_2 20 rfl rfl)
theorem dX8_isDone_69 : decode cX8_isDone 69 = .ok (.ireturn, 1) := dk_172 (dk_at dksX8_isDone_2 21 rfl rfl)
theorem dX8_isDone_70 : decode cX8_isDone 70 = .ok (.iinc 3 1, 3) := dk_132 3 1 (dk_at dksX8_isDone_3 0 rfl rfl)
theorem dX8_isDone_73 : decode cX8_isDone 73 = .ok (.goto (-27), 3) := dk_167 255 229 (dk_at dksX8_isDone_3 3 rfl rfl)
theorem dX8_isDone_76 : decode cX8_isDone 76 = .ok (.iinc 2 1, 3) := dk_132 2 1 (dk_at dksX8_isDone_3 6 rfl rfl)
theorem dX8_isDone_79 : decode cX8_isDone 79 = .ok (.goto (-77), 3) := dk_167 255 179 (dk_at dksX8_isDone_3 9 rfl rfl)
theorem dX8_isDone_82 : decode cX8_isDone 82 = .ok (.iconst 1, 1) := dk_4 (dk_at dksX8_isDone_3 12 rfl rfl)
theorem dX8_isDone_83 : decode cX8_isDone 83 = .ok (.ireturn, 1) := dk_172 (dk_at dksX8_isDone_3 13 rfl rfl)
abbrev cX8_isWished : ByteArray := prog_20_method_64_code
def yX8_isWished : MethodName := ⟨RX8, "isWished", "(II)Z"⟩
def dkwX8_isWished_1 : List UInt8 := [27, 96, 46, 28, 160, 0, 7, 4, 167, 0, 4, 3, 172]
abbrev dktX8_isWished_1 : List UInt8 := dkwX8_isWished_1 ++ []
def dkwX8_isWished_0 : List UInt8 := [42, 180, 0, 13, 16, 31, 27, 96, 46, 2, 159, 0, 25, 28, 2, 159, 0, 16, 42, 180, 0, 13, 16, 36]
abbrev dktX8_isWished_0 : List UInt8 := dkwX8_isWished_0 ++ dktX8_isWished_1
theorem dksX8_isWished_0 : cX8_isWished.data.toList.drop 0 = dktX8_isWished_0 := by decide +kernel
theorem dksX8_isWished_1 : cX8_isWished.data.toList.drop 24 = dktX8_isWished_1 := dk_seg dksX8_isWished_0 24 rfl rfl
theorem dX8_isWished_0 : decode cX8_isWished 0 = .ok (.aload_n 0, 1) := dk_42 (dk_at dksX8_isWished_0 0 rfl rfl)
theorem dX8_isWished_1 : decode cX8_isWished 1 = .ok (.getfield 13, 3) := dk_180 0 13 (dk_at dksX8_isWished_0 1 rfl rfl)
theorem dX8_isWished_4 : decode cX8_isWished 4 = .ok (.bipush 31, 2) := dk_16 31 (dk_at dksX8_isWished_0 4 rfl rfl)
theorem dX8_isWished_6 : decode cX8_isWished 6 = .ok (.iload_n 1, 1) := dk_27 (dk_at dksX8_isWished_0 6 rfl rfl)
theorem dX8_isWished_7 : decode cX8_isWished 7 = .ok (.iadd, 1) := dk_96 (dk_at dksX8_isWished_0 7 rfl rfl)
theorem dX8_isWished_8 : decode cX8_isWished 8 = .ok (.iaload, 1) := dk_46 (dk_at dksX8_isWished_0 8 rfl rfl)
theorem dX8_isWished_9 : decode cX8_isWished 9 = .ok (.iconst (-1), 1) := dk_2 (dk_at dksX8_isWished_0 9 rfl rfl)
theorem dX8_isWished_10 : decode cX8_isWished 10 = .ok (.if_icmp .eq 25, 3) := dk_159 0 25 (dk_at dksX8_isWished_0 10 rfl rfl)
theorem dX8_isWished_13 : decode cX8_isWished 13 = .ok (.iload_n 2, 1) := dk_28 (dk_at dksX8_isWished_0 13 rfl rfl)
theorem dX8_isWished_14 : decode cX8_isWished 14 = .ok (.iconst (-1), 1) := dk_2 (dk_at dksX8_isWished_0 14 rfl rfl)
theorem dX8_isWished_15 : decode cX8_isWished 15 = .ok (.if_icmp .eq 16, 3) := dk_159 0 16 (dk_at dksX8_isWished_0 15 rfl rfl)
theorem dX8_isWished_18 : decode cX8_isWished 18 = .ok (.aload_n 0, 1) := dk_42 (dk_at dksX8_isWished_0 18 rfl rfl)
theorem dX8_isWished_19 : decode cX8_isWished 19 = .ok (.getfield 13, 3) := dk_180 0 13 (dk_at dksX8_isWished_0 19 rfl rfl)
theorem dX8_isWished_22 : decode cX8_isWished 22 = .ok (.bipush 36, 2) := dk_16 36 (dk_at dksX8_isWished_0 22 rfl rfl)
theorem dX8_isWished_24 : decode cX8_isWished 24 = .ok (.iload_n 1, 1) := dk_27 (dk_at dksX8_isWished_1 0 rfl rfl)
theorem dX8_isWished_25 : decode cX8_isWished 25 = .ok (.iadd, 1) := dk_96 (dk_at dksX8_isWished_1 1 rfl rfl)
theorem dX8_isWished_26 : decode cX8_isWished 26 = .ok (.iaload, 1) := dk_46 (dk_at dksX8_isWished_1 2 rfl rfl)
theorem dX8_isWished_27 : decode cX8_isWished 27 = .ok (.iload_n 2, 1) := dk_28 (dk_at dksX8_isWished_1 3 rfl rfl)
theorem dX8_isWished_28 : decode cX8_isWished 28 = .ok (.if_icmp .ne 7, 3) := dk_160 0 7 (dk_at dksX8_isWished_1 4 rfl rfl)
theorem dX8_isWished_31 : decode cX8_isWished 31 = .ok (.iconst 1, 1) := dk_4 (dk_at dksX8_isWished_1 7 rfl rfl)
theorem dX8_isWished_32 : decode cX8_isWished 32 = .ok (.goto 4, 3) := dk_167 0 4 (dk_at dksX8_isWished_1 8 rfl rfl)
theorem dX8_isWished_35 : decode cX8_isWished 35 = .ok (.iconst 0, 1) := dk_3 (dk_at dksX8_isWished_1 11 rfl rfl)
theorem dX8_isWished_36 : decode cX8_isWished 36 = .ok (.ireturn, 1) := dk_172 (dk_at dksX8_isWished_1 12 rfl rfl)
abbrev cX8_isRight : ByteArray := prog_20_method_65_code
def yX8_isRight : MethodName := ⟨RX8, "isRight", "(I)Z"⟩
def dkwX8_isRight_1 : List UInt8 := [42, 180, 0, 30, 27, 46, 96, 4, 100, 46, 160, 0, 7, 4, 167, 0, 4, 3, 172]
abbrev dktX8_isRight_1 : List UInt8 := dkwX8_isRight_1 ++ []
def dkwX8_isRight_0 : List UInt8 := [42, 180, 0, 30, 27, 46, 158, 0, 35, 42, 180, 0, 13, 16, 41, 27, 96, 46, 42, 180, 0, 13, 16, 7]
abbrev dktX8_isRight_0 : List UInt8 := dkwX8_isRight_0 ++ dktX8_isRight_1
theorem dksX8_isRight_0 : cX8_isRight.data.toList.drop 0 = dktX8_isRight_0 := by decide +kernel
theorem dksX8_isRight_1 : cX8_isRight.data.toList.drop 24 = dktX8_isRight_1 := dk_seg dksX8_isRight_0 24 rfl rfl
theorem dX8_isRight_0 : decode cX8_isRight 0 = .ok (.aload_n 0, 1) := dk_42 (dk_at dksX8_isRight_0 0 rfl rfl)
theorem dX8_isRight_1 : decode cX8_isRight 1 = .ok (.getfield 30, 3) := dk_180 0 30 (dk_at dksX8_isRight_0 1 rfl rfl)
theorem dX8_isRight_4 : decode cX8_isRight 4 = .ok (.iload_n 1, 1) := dk_27 (dk_at dksX8_isRight_0 4 rfl rfl)
theorem dX8_isRight_5 : decode cX8_isRight 5 = .ok (.iaload, 1) := dk_46 (dk_at dksX8_isRight_0 5 rfl rfl)
theorem dX8_isRight_6 : decode cX8_isRight 6 = .ok (.ifCond .le 35, 3) := dk_158 0 35 (dk_at dksX8_isRight_0 6 rfl rfl)
theorem dX8_isRight_9 : decode cX8_isRight 9 = .ok (.aload_n 0, 1) := dk_42 (dk_at dksX8_isRight_0 9 rfl rfl)
theorem dX8_isRight_10 : decode cX8_isRight 10 = .ok (.getfield 13, 3) := dk_180 0 13 (dk_at dksX8_isRight_0 10 rfl rfl)
theorem dX8_isRight_13 : decode cX8_isRight 13 = .ok (.bipush 41, 2) := dk_16 41 (dk_at dksX8_isRight_0 13 rfl rfl)
theorem dX8_isRight_15 : decode cX8_isRight 15 = .ok (.iload_n 1, 1) := dk_27 (dk_at dksX8_isRight_0 15 rfl rfl)
theorem dX8_isRight_16 : decode cX8_isRight 16 = .ok (.iadd, 1) := dk_96 (dk_at dksX8_isRight_0 16 rfl rfl)
theorem dX8_isRight_17 : decode cX8_isRight 17 = .ok (.iaload, 1) := dk_46 (dk_at dksX8_isRight_0 17 rfl rfl)
theorem dX8_isRight_18 : decode cX8_isRight 18 = .ok (.aload_n 0, 1) := dk_42 (dk_at dksX8_isRight_0 18 rfl rfl)
theorem dX8_isRight_19 : decode cX8_isRight 19 = .ok (.getfield 13, 3) := dk_180 0 13 (dk_at dksX8_isRight_0 19 rfl rfl)
theorem dX8_isRight_22 : decode cX8_isRight 22 = .ok (.bipush 7, 2) := dk_16 7 (dk_at dksX8_isRight_0 22 rfl rfl)
theorem dX8_isRight_24 : decode cX8_isRight 24 = .ok (.aload_n 0, 1) := dk_42 (dk_at dksX8_isRight_1 0 rfl rfl)
theorem dX8_isRight_25 : decode cX8_isRight 25 = .ok (.getfield 30, 3) := dk_180 0 30 (dk_at dksX8_isRight_1 1 rfl rfl)
theorem dX8_isRight_28 : decode cX8_isRight 28 = .ok (.iload_n 1, 1) := dk_27 (dk_at dksX8_isRight_1 4 rfl rfl)
theorem dX8_isRight_29 : decode cX8_isRight 29 = .ok (.iaload, 1) := dk_46 (dk_at dksX8_isRight_1 5 rfl rfl)
theorem dX8_isRight_30 : decode cX8_isRight 30 = .ok (.iadd, 1) := dk_96 (dk_at dksX8_isRight_1 6 rfl rfl)
theorem dX8_isRight_31 : decode cX8_isRight 31 = .ok (.iconst 1, 1) := dk_4 (dk_at dksX8_isRight_1 7 rfl rfl)
theorem dX8_isRight_32 : decode cX8_isRight 32 = .ok (.isub, 1) := dk_100 (dk_at dksX8_isRight_1 8 rfl rfl)
theorem dX8_isRight_33 : decode cX8_isRight 33 = .ok (.iaload, 1) := dk_46 (dk_at dksX8_isRight_1 9 rfl rfl)
theorem dX8_isRight_34 : decode cX8_isRight 34 = .ok (.if_icmp .ne 7, 3) := dk_160 0 7 (dk_at dksX8_isRight_1 10 rfl rfl)
theorem dX8_isRight_37 : decode cX8_isRight 37 = .ok (.iconst 1, 1) := dk_4 (dk_at dksX8_isRight_1 13 rfl rfl)
theorem dX8_isRight_38 : decode cX8_isRight 38 = .ok (.goto 4, 3) := dk_167 0 4 (dk_at dksX8_isRight_1 14 rfl rfl)
theorem dX8_isRight_41 : decode cX8_isRight 41 = .ok (.iconst 0, 1) := dk_3 (dk_at dksX8_isRight_1 17 rfl rfl)
theorem dX8_isRight_42 : decode cX8_isRight 42 = .ok (.ireturn, 1) := dk_172 (dk_at dksX8_isRight_1 18 rfl rfl)
abbrev cX8_right : ByteArray := prog_20_method_69_code
def yX8_right : MethodName := ⟨RX8, "right", "(I)I"⟩
def dkwX8_right_1 : List UInt8 := [172]
abbrev dktX8_right_1 : List UInt8 := dkwX8_right_1 ++ []
def dkwX8_right_0 : List UInt8 := [42, 3, 181, 0, 1, 27, 184, 1, 40, 154, 0, 6, 16, 254, 172, 42, 182, 1, 4, 42, 27, 182, 1, 46]
abbrev dktX8_right_0 : List UInt8 := dkwX8_right_0 ++ dktX8_right_1
theorem dksX8_right_0 : cX8_right.data.toList.drop 0 = dktX8_right_0 := by decide +kernel
theorem dksX8_right_1 : cX8_right.data.toList.drop 24 = dktX8_right_1 := dk_seg dksX8_right_0 24 rfl rfl
theorem dX8_right_0 : decode cX8_right 0 = .ok (.aload_n 0, 1) := dk_42 (dk_at dksX8_right_0 0 rfl rfl)
theorem dX8_right_1 : decode cX8_right 1 = .ok (.iconst 0, 1) := dk_3 (dk_at dksX8_right_0 1 rfl rfl)
theorem dX8_right_2 : decode cX8_right 2 = .ok (.putfield 1, 3) := dk_181 0 1 (dk_at dksX8_right_0 2 rfl rfl)
theorem dX8_right_5 : decode cX8_right 5 = .ok (.iload_n 1, 1) := dk_27 (dk_at dksX8_right_0 5 rfl rfl)
theorem dX8_right_6 : decode cX8_right 6 = .ok (.invokestatic 296, 3) := dk_184 1 40 (dk_at dksX8_right_0 6 rfl rfl)
theorem dX8_right_9 : decode cX8_right 9 = .ok (.ifCond .ne 6, 3) := dk_154 0 6 (dk_at dksX8_right_0 9 rfl rfl)
theorem dX8_right_12 : decode cX8_right 12 = .ok (.bipush (-2), 2) := dk_16 254 (dk_at dksX8_right_0 12 rfl rfl)
theorem dX8_right_14 : decode cX8_right 14 = .ok (.ireturn, 1) := dk_172 (dk_at dksX8_right_0 14 rfl rfl)
theorem dX8_right_15 : decode cX8_right 15 = .ok (.aload_n 0, 1) := dk_42 (dk_at dksX8_right_0 15 rfl rfl)
theorem dX8_right_16 : decode cX8_right 16 = .ok (.invokevirtual 260, 3) := dk_182 1 4 (dk_at dksX8_right_0 16 rfl rfl)
theorem dX8_right_19 : decode cX8_right 19 = .ok (.aload_n 0, 1) := dk_42 (dk_at dksX8_right_0 19 rfl rfl)
theorem dX8_right_20 : decode cX8_right 20 = .ok (.iload_n 1, 1) := dk_27 (dk_at dksX8_right_0 20 rfl rfl)
theorem dX8_right_21 : decode cX8_right 21 = .ok (.invokevirtual 302, 3) := dk_182 1 46 (dk_at dksX8_right_0 21 rfl rfl)
theorem dX8_right_24 : decode cX8_right 24 = .ok (.ireturn, 1) := dk_172 (dk_at dksX8_right_1 0 rfl rfl)
abbrev cX8_rights : ByteArray := prog_20_method_66_code
def yX8_rights : MethodName := ⟨RX8, "rights", "(I)I"⟩
def dkwX8_rights_1 : List UInt8 := [182, 1, 37, 153, 0, 7, 4, 167, 0, 4, 3, 96, 61, 132, 3, 1, 167, 255, 220, 28, 172]
abbrev dktX8_rights_1 : List UInt8 := dkwX8_rights_1 ++ []
def dkwX8_rights_0 : List UInt8 := [3, 61, 3, 62, 29, 16, 15, 162, 0, 36, 28, 42, 29, 6, 108, 27, 182, 1, 34, 153, 0, 15, 42, 29]
abbrev dktX8_rights_0 : List UInt8 := dkwX8_rights_0 ++ dktX8_rights_1
theorem dksX8_rights_0 : cX8_rights.data.toList.drop 0 = dktX8_rights_0 := by decide +kernel
theorem dksX8_rights_1 : cX8_rights.data.toList.drop 24 = dktX8_rights_1 := dk_seg dksX8_rights_0 24 rfl rfl
theorem dX8_rights_0 : decode cX8_rights 0 = .ok (.iconst 0, 1) := dk_3 (dk_at dksX8_rights_0 0 rfl rfl)
theorem dX8_rights_1 : decode cX8_rights 1 = .ok (.istore_n 2, 1) := dk_61 (dk_at dksX8_rights_0 1 rfl rfl)
theorem dX8_rights_2 : decode cX8_rights 2 = .ok (.iconst 0, 1) := dk_3 (dk_at dksX8_rights_0 2 rfl rfl)
theorem dX8_rights_3 : decode cX8_rights 3 = .ok (.istore_n 3, 1) := dk_62 (dk_at dksX8_rights_0 3 rfl rfl)
theorem dX8_rights_4 : decode cX8_rights 4 = .ok (.iload_n 3, 1) := dk_29 (dk_at dksX8_rights_0 4 rfl rfl)
theorem dX8_rights_5 : decode cX8_rights 5 = .ok (.bipush 15, 2) := dk_16 15 (dk_at dksX8_rights_0 5 rfl rfl)
theorem dX8_rights_7 : decode cX8_rights 7 = .ok (.if_icmp .ge 36, 3) := dk_162 0 36 (dk_at dksX8_rights_0 7 rfl rfl)
theorem dX8_rights_10 : decode cX8_rights 10 = .ok (.iload_n 2, 1) := dk_28 (dk_at dksX8_rights_0 10 rfl rfl)
theorem dX8_rights_11 : decode cX8_rights 11 = .ok (.aload_n 0, 1) := dk_42 (dk_at dksX8_rights_0 11 rfl rfl)
theorem dX8_rights_12 : decode cX8_rights 12 = .ok (.iload_n 3, 1) := dk_29 (dk_at dksX8_rights_0 12 rfl rfl)
theorem dX8_rights_13 : decode cX8_rights 13 = .ok (.iconst 3, 1) := dk_6 (dk_at dksX8_rights_0 13 rfl rfl)
theorem dX8_rights_14 : decode cX8_rights 14 = .ok (.idiv, 1) := dk_108 (dk_at dksX8_rights_0 14 rfl rfl)
theorem dX8_rights_15 : decode cX8_rights 15 = .ok (.iload_n 1, 1) := dk_27 (dk_at dksX8_rights_0 15 rfl rfl)
theorem dX8_rights_16 : decode cX8_rights 16 = .ok (.invokevirtual 290, 3) := dk_182 1 34 (dk_at dksX8_rights_0 16 rfl rfl)
theorem dX8_rights_19 : decode cX8_rights 19 = .ok (.ifCond .eq 15, 3) := dk_153 0 15 (dk_at dksX8_rights_0 19 rfl rfl)
theorem dX8_rights_22 : decode cX8_rights 22 = .ok (.aload_n 0, 1) := dk_42 (dk_at dksX8_rights_0 22 rfl rfl)
theorem dX8_rights_23 : decode cX8_rights 23 = .ok (.iload_n 3, 1) := dk_29 (dk_at dksX8_rights_0 23 rfl rfl)
theorem dX8_rights_24 : decode cX8_rights 24 = .ok (.invokevirtual 293, 3) := dk_182 1 37 (dk_at dksX8_rights_1 0 rfl rfl)
theorem dX8_rights_27 : decode cX8_rights 27 = .ok (.ifCond .eq 7, 3) := dk_153 0 7 (dk_at dksX8_rights_1 3 rfl rfl)
theorem dX8_rights_30 : decode cX8_rights 30 = .ok (.iconst 1, 1) := dk_4 (dk_at dksX8_rights_1 6 rfl rfl)
theorem dX8_rights_31 : decode cX8_rights 31 = .ok (.goto 4, 3) := dk_167 0 4 (dk_at dksX8_rights_1 7 rfl rfl)
theorem dX8_rights_34 : decode cX8_rights 34 = .ok (.iconst 0, 1) := dk_3 (dk_at dksX8_rights_1 10 rfl rfl)
theorem dX8_rights_35 : decode cX8_rights 35 = .ok (.iadd, 1) := dk_96 (dk_at dksX8_rights_1 11 rfl rfl)
theorem dX8_rights_36 : decode cX8_rights 36 = .ok (.istore_n 2, 1) := dk_61 (dk_at dksX8_rights_1 12 rfl rfl)
theorem dX8_rights_37 : decode cX8_rights 37 = .ok (.iinc 3 1, 3) := dk_132 3 1 (dk_at dksX8_rights_1 13 rfl rfl)
theorem dX8_rights_40 : decode cX8_rights 40 = .ok (.goto (-36), 3) := dk_167 255 220 (dk_at dksX8_rights_1 16 rfl rfl)
theorem dX8_rights_43 : decode cX8_rights 43 = .ok (.iload_n 2, 1) := dk_28 (dk_at dksX8_rights_1 19 rfl rfl)
theorem dX8_rights_44 : decode cX8_rights 44 = .ok (.ireturn, 1) := dk_172 (dk_at dksX8_rights_1 20 rfl rfl)
abbrev cX8_judge : ByteArray := prog_20_method_72_code
def yX8_judge : MethodName := ⟨RX8, "judge", "(II)I"⟩
def dkwX8_judge_4 : List UInt8 := [42, 180, 1, 49, 42, 180, 0, 13, 16, 112, 46, 100, 172]
abbrev dktX8_judge_4 : List UInt8 := dkwX8_judge_4 ++ []
def dkwX8_judge_3 : List UInt8 := [4, 160, 0, 10, 42, 180, 1, 56, 167, 0, 28, 28, 5, 160, 0, 11, 42, 2, 182, 1, 46, 167, 0, 15]
abbrev dktX8_judge_3 : List UInt8 := dkwX8_judge_3 ++ dktX8_judge_4
def dkwX8_judge_2 : List UInt8 := [182, 1, 65, 62, 28, 154, 0, 18, 42, 180, 1, 56, 154, 0, 7, 2, 167, 0, 44, 29, 167, 0, 40, 28]
abbrev dktX8_judge_2 : List UInt8 := dkwX8_judge_2 ++ dktX8_judge_3
def dkwX8_judge_1 : List UInt8 := [184, 0, 153, 154, 0, 6, 16, 254, 172, 42, 180, 0, 77, 27, 46, 2, 160, 0, 6, 16, 250, 172, 42, 27]
abbrev dktX8_judge_1 : List UInt8 := dkwX8_judge_1 ++ dktX8_judge_2
def dkwX8_judge_0 : List UInt8 := [42, 3, 181, 0, 1, 27, 133, 9, 20, 1, 63, 184, 0, 153, 153, 0, 15, 28, 133, 9, 20, 1, 63]
abbrev dktX8_judge_0 : List UInt8 := dkwX8_judge_0 ++ dktX8_judge_1
theorem dksX8_judge_0 : cX8_judge.data.toList.drop 0 = dktX8_judge_0 := by decide +kernel
theorem dksX8_judge_1 : cX8_judge.data.toList.drop 23 = dktX8_judge_1 := dk_seg dksX8_judge_0 23 rfl rfl
theorem dksX8_judge_2 : cX8_judge.data.toList.drop 47 = dktX8_judge_2 := dk_seg dksX8_judge_1 24 rfl rfl
theorem dksX8_judge_3 : cX8_judge.data.toList.drop 71 = dktX8_judge_3 := dk_seg dksX8_judge_2 24 rfl rfl
theorem dksX8_judge_4 : cX8_judge.data.toList.drop 95 = dktX8_judge_4 := dk_seg dksX8_judge_3 24 rfl rfl
theorem dX8_judge_0 : decode cX8_judge 0 = .ok (.aload_n 0, 1) := dk_42 (dk_at dksX8_judge_0 0 rfl rfl)
theorem dX8_judge_1 : decode cX8_judge 1 = .ok (.iconst 0, 1) := dk_3 (dk_at dksX8_judge_0 1 rfl rfl)
theorem dX8_judge_2 : decode cX8_judge 2 = .ok (.putfield 1, 3) := dk_181 0 1 (dk_at dksX8_judge_0 2 rfl rfl)
theorem dX8_judge_5 : decode cX8_judge 5 = .ok (.iload_n 1, 1) := dk_27 (dk_at dksX8_judge_0 5 rfl rfl)
theorem dX8_judge_6 : decode cX8_judge 6 = .ok (.i2l, 1) := dk_133 (dk_at dksX8_judge_0 6 rfl rfl)
theorem dX8_judge_7 : decode cX8_judge 7 = .ok (.lconst 0, 1) := dk_9 (dk_at dksX8_judge_0 7 rfl rfl)
theorem dX8_judge_8 : decode cX8_judge 8 = .ok (.ldc2_w 319, 3) := dk_20 1 63 (dk_at dksX8_judge_0 8 rfl rfl)
theorem dX8_judge_11 : decode cX8_judge 11 = .ok (.invokestatic 153, 3) := dk_184 0 153 (dk_at dksX8_judge_0 11 rfl rfl)
theorem dX8_judge_14 : decode cX8_judge 14 = .ok (.ifCond .eq 15, 3) := dk_153 0 15 (dk_at dksX8_judge_0 14 rfl rfl)
theorem dX8_judge_17 : decode cX8_judge 17 = .ok (.iload_n 2, 1) := dk_28 (dk_at dksX8_judge_0 17 rfl rfl)
theorem dX8_judge_18 : decode cX8_judge 18 = .ok (.i2l, 1) := dk_133 (dk_at dksX8_judge_0 18 rfl rfl)
theorem dX8_judge_19 : decode cX8_judge 19 = .ok (.lconst 0, 1) := dk_9 (dk_at dksX8_judge_0 19 rfl rfl)
theorem dX8_judge_20 : decode cX8_judge 20 = .ok (.ldc2_w 319, 3) := dk_20 1 63 (dk_at dksX8_judge_0 20 rfl rfl)
theorem dX8_judge_23 : decode cX8_judge 23 = .ok (.invokestatic 153, 3) := dk_184 0 153 (dk_at dksX8_judge_1 0 rfl rfl)
theorem dX8_judge_26 : decode cX8_judge 26 = .ok (.ifCond .ne 6, 3) := dk_154 0 6 (dk_at dksX8_judge_1 3 rfl rfl)
theorem dX8_judge_29 : decode cX8_judge 29 = .ok (.bipush (-2), 2) := dk_16 254 (dk_at dksX8_judge_1 6 rfl rfl)
theorem dX8_judge_31 : decode cX8_judge 31 = .ok (.ireturn, 1) := dk_172 (dk_at dksX8_judge_1 8 rfl rfl)
theorem dX8_judge_32 : decode cX8_judge 32 = .ok (.aload_n 0, 1) := dk_42 (dk_at dksX8_judge_1 9 rfl rfl)
theorem dX8_judge_33 : decode cX8_judge 33 = .ok (.getfield 77, 3) := dk_180 0 77 (dk_at dksX8_judge_1 10 rfl rfl)
theorem dX8_judge_36 : decode cX8_judge 36 = .ok (.iload_n 1, 1) := dk_27 (dk_at dksX8_judge_1 13 rfl rfl)
theorem dX8_judge_37 : decode cX8_judge 37 = .ok (.iaload, 1) := dk_46 (dk_at dksX8_judge_1 14 rfl rfl)
theorem dX8_judge_38 : decode cX8_judge 38 = .ok (.iconst (-1), 1) := dk_2 (dk_at dksX8_judge_1 15 rfl rfl)
theorem dX8_judge_39 : decode cX8_judge 39 = .ok (.if_icmp .ne 6, 3) := dk_160 0 6 (dk_at dksX8_judge_1 16 rfl rfl)
theorem dX8_judge_42 : decode cX8_judge 42 = .ok (.bipush (-6), 2) := dk_16 250 (dk_at dksX8_judge_1 19 rfl rfl)
theorem dX8_judge_44 : decode cX8_judge 44 = .ok (.ireturn, 1) := dk_172 (dk_at dksX8_judge_1 21 rfl rfl)
theorem dX8_judge_45 : decode cX8_judge 45 = .ok (.aload_n 0, 1) := dk_42 (dk_at dksX8_judge_1 22 rfl rfl)
theorem dX8_judge_46 : decode cX8_judge 46 = .ok (.iload_n 1, 1) := dk_27 (dk_at dksX8_judge_1 23 rfl rfl)
theorem dX8_judge_47 : decode cX8_judge 47 = .ok (.invokevirtual 321, 3) := dk_182 1 65 (dk_at dksX8_judge_2 0 rfl rfl)
theorem dX8_judge_50 : decode cX8_judge 50 = .ok (.istore_n 3, 1) := dk_62 (dk_at dksX8_judge_2 3 rfl rfl)
theorem dX8_judge_51 : decode cX8_judge 51 = .ok (.iload_n 2, 1) := dk_28 (dk_at dksX8_judge_2 4 rfl rfl)
theorem dX8_judge_52 : decode cX8_judge 52 = .ok (.ifCond .ne 18, 3) := dk_154 0 18 (dk_at dksX8_judge_2 5 rfl rfl)
theorem dX8_judge_55 : decode cX8_judge 55 = .ok (.aload_n 0, 1) := dk_42 (dk_at dksX8_judge_2 8 rfl rfl)
theorem dX8_judge_56 : decode cX8_judge 56 = .ok (.getfield 312, 3) := dk_180 1 56 (dk_at dksX8_judge_2 9 rfl rfl)
theorem dX8_judge_59 : decode cX8_judge 59 = .ok (.ifCond .ne 7, 3) := dk_154 0 7 (dk_at dksX8_judge_2 12 rfl rfl)
theorem dX8_judge_62 : decode cX8_judge 62 = .ok (.iconst (-1), 1) := dk_2 (dk_at dksX8_judge_2 15 rfl rfl)
theorem dX8_judge_63 : decode cX8_judge 63 = .ok (.goto 44, 3) := dk_167 0 44 (dk_at dksX8_judge_2 16 rfl rfl)
theorem dX8_judge_66 : decode cX8_judge 66 = .ok (.iload_n 3, 1) := dk_29 (dk_at dksX8_judge_2 19 rfl rfl)
theorem dX8_judge_67 : decode cX8_judge 67 = .ok (.goto 40, 3) := dk_167 0 40 (dk_at dksX8_judge_2 20 rfl rfl)
theorem dX8_judge_70 : decode cX8_judge 70 = .ok (.iload_n 2, 1) := dk_28 (dk_at dksX8_judge_2 23 rfl rfl)
theorem dX8_judge_71 : decode cX8_judge 71 = .ok (.iconst 1, 1) := dk_4 (dk_at dksX8_judge_3 0 rfl rfl)
theorem dX8_judge_72 : decode cX8_judge 72 = .ok (.if_icmp .ne 10, 3) := dk_160 0 10 (dk_at dksX8_judge_3 1 rfl rfl)
theorem dX8_judge_75 : decode cX8_judge 75 = .ok (.aload_n 0, 1) := dk_42 (dk_at dksX8_judge_3 4 rfl rfl)
theorem dX8_judge_76 : decode cX8_judge 76 = .ok (.getfield 312, 3) := dk_180 1 56 (dk_at dksX8_judge_3 5 rfl rfl)
theorem dX8_judge_79 : decode cX8_judge 79 = .ok (.goto 28, 3) := dk_167 0 28 (dk_at dksX8_judge_3 8 rfl rfl)
theorem dX8_judge_82 : decode cX8_judge 82 = .ok (.iload_n 2, 1) := dk_28 (dk_at dksX8_judge_3 11 rfl rfl)
theorem dX8_judge_83 : decode cX8_judge 83 = .ok (.iconst 2, 1) := dk_5 (dk_at dksX8_judge_3 12 rfl rfl)
theorem dX8_judge_84 : decode cX8_judge 84 = .ok (.if_icmp .ne 11, 3) := dk_160 0 11 (dk_at dksX8_judge_3 13 rfl rfl)
theorem dX8_judge_87 : decode cX8_judge 87 = .ok (.aload_n 0, 1) := dk_42 (dk_at dksX8_judge_3 16 rfl rfl)
theorem dX8_judge_88 : decode cX8_judge 88 = .ok (.iconst (-1), 1) := dk_2 (dk_at dksX8_judge_3 17 rfl rfl)
theorem dX8_judge_89 : decode cX8_judge 89 = .ok (.invokevirtual 302, 3) := dk_182 1 46 (dk_at dksX8_judge_3 18 rfl rfl)
theorem dX8_judge_92 : decode cX8_judge 92 = .ok (.goto 15, 3) := dk_167 0 15 (dk_at dksX8_judge_3 21 rfl rfl)
theorem dX8_judge_95 : decode cX8_judge 95 = .ok (.aload_n 0, 1) := dk_42 (dk_at dksX8_judge_4 0 rfl rfl)
theorem dX8_judge_96 : decode cX8_judge 96 = .ok (.getfield 305, 3) := dk_180 1 49 (dk_at dksX8_judge_4 1 rfl rfl)
theorem dX8_judge_99 : decode cX8_judge 99 = .ok (.aload_n 0, 1) := dk_42 (dk_at dksX8_judge_4 4 rfl rfl)
theorem dX8_judge_100 : decode cX8_judge 100 = .ok (.getfield 13, 3) := dk_180 0 13 (dk_at dksX8_judge_4 5 rfl rfl)
theorem dX8_judge_103 : decode cX8_judge 103 = .ok (.bipush 112, 2) := dk_16 112 (dk_at dksX8_judge_4 8 rfl rfl)
theorem dX8_judge_105 : decode cX8_judge 105 = .ok (.iaload, 1) := dk_46 (dk_at dksX8_judge_4 10 rfl rfl)
theorem dX8_judge_106 : decode cX8_judge 106 = .ok (.isub, 1) := dk_100 (dk_at dksX8_judge_4 11 rfl rfl)
theorem dX8_judge_107 : decode cX8_judge 107 = .ok (.ireturn, 1) := dk_172 (dk_at dksX8_judge_4 12 rfl rfl)
abbrev cX8_goes : ByteArray := prog_20_method_71_code
def yX8_goes : MethodName := ⟨RX8, "goes", "(I)I"⟩
def dkwX8_goes_3 : List UInt8 := [172]
abbrev dktX8_goes_3 : List UInt8 := dkwX8_goes_3 ++ []
def dkwX8_goes_2 : List UInt8 := [181, 1, 56, 42, 180, 1, 56, 153, 0, 5, 28, 172, 132, 2, 1, 167, 255, 215, 42, 180, 0, 80, 27, 46]
abbrev dktX8_goes_2 : List UInt8 := dkwX8_goes_2 ++ dktX8_goes_3
def dkwX8_goes_1 : List UInt8 := [180, 0, 80, 27, 46, 162, 0, 37, 42, 42, 42, 180, 0, 83, 16, 40, 27, 104, 28, 96, 47, 182, 1, 59]
abbrev dktX8_goes_1 : List UInt8 := dkwX8_goes_1 ++ dktX8_goes_2
def dkwX8_goes_0 : List UInt8 := [42, 182, 1, 4, 42, 42, 180, 0, 13, 16, 112, 46, 181, 1, 49, 42, 3, 181, 1, 56, 3, 61, 28, 42]
abbrev dktX8_goes_0 : List UInt8 := dkwX8_goes_0 ++ dktX8_goes_1
theorem dksX8_goes_0 : cX8_goes.data.toList.drop 0 = dktX8_goes_0 := by decide +kernel
theorem dksX8_goes_1 : cX8_goes.data.toList.drop 24 = dktX8_goes_1 := dk_seg dksX8_goes_0 24 rfl rfl
theorem dksX8_goes_2 : cX8_goes.data.toList.drop 48 = dktX8_goes_2 := dk_seg dksX8_goes_1 24 rfl rfl
theorem dksX8_goes_3 : cX8_goes.data.toList.drop 72 = dktX8_goes_3 := dk_seg dksX8_goes_2 24 rfl rfl
theorem dX8_goes_0 : decode cX8_goes 0 = .ok (.aload_n 0, 1) := dk_42 (dk_at dksX8_goes_0 0 rfl rfl)
theorem dX8_goes_1 : decode cX8_goes 1 = .ok (.invokevirtual 260, 3) := dk_182 1 4 (dk_at dksX8_goes_0 1 rfl rfl)
theorem dX8_goes_4 : decode cX8_goes 4 = .ok (.aload_n 0, 1) := dk_42 (dk_at dksX8_goes_0 4 rfl rfl)
theorem dX8_goes_5 : decode cX8_goes 5 = .ok (.aload_n 0, 1) := dk_42 (dk_at dksX8_goes_0 5 rfl rfl)
theorem dX8_goes_6 : decode cX8_goes 6 = .ok (.getfield 13, 3) := dk_180 0 13 (dk_at dksX8_goes_0 6 rfl rfl)
theorem dX8_goes_9 : decode cX8_goes 9 = .ok (.bipush 112, 2) := dk_16 112 (dk_at dksX8_goes_0 9 rfl rfl)
theorem dX8_goes_11 : decode cX8_goes 11 = .ok (.iaload, 1) := dk_46 (dk_at dksX8_goes_0 11 rfl rfl)
theorem dX8_goes_12 : decode cX8_goes 12 = .ok (.putfield 305, 3) := dk_181 1 49 (dk_at dksX8_goes_0 12 rfl rfl)
theorem dX8_goes_15 : decode cX8_goes 15 = .ok (.aload_n 0, 1) := dk_42 (dk_at dksX8_goes_0 15 rfl rfl)
theorem dX8_goes_16 : decode cX8_goes 16 = .ok (.iconst 0, 1) := dk_3 (dk_at dksX8_goes_0 16 rfl rfl)
theorem dX8_goes_17 : decode cX8_goes 17 = .ok (.putfield 312, 3) := dk_181 1 56 (dk_at dksX8_goes_0 17 rfl rfl)
theorem dX8_goes_20 : decode cX8_goes 20 = .ok (.iconst 0, 1) := dk_3 (dk_at dksX8_goes_0 20 rfl rfl)
theorem dX8_goes_21 : decode cX8_goes 21 = .ok (.istore_n 2, 1) := dk_61 (dk_at dksX8_goes_0 21 rfl rfl)
theorem dX8_goes_22 : decode cX8_goes 22 = .ok (.iload_n 2, 1) := dk_28 (dk_at dksX8_goes_0 22 rfl rfl)
theorem dX8_goes_23 : decode cX8_goes 23 = .ok (.aload_n 0, 1) := dk_42 (dk_at dksX8_goes_0 23 rfl rfl)
theorem dX8_goes_24 : decode cX8_goes 24 = .ok (.getfield 80, 3) := dk_180 0 80 (dk_at dksX8_goes_1 0 rfl rfl)
theorem dX8_goes_27 : decode cX8_goes 27 = .ok (.iload_n 1, 1) := dk_27 (dk_at dksX8_goes_1 3 rfl rfl)
theorem dX8_goes_28 : decode cX8_goes 28 = .ok (.iaload, 1) := dk_46 (dk_at dksX8_goes_1 4 rfl rfl)
theorem dX8_goes_29 : decode cX8_goes 29 = .ok (.if_icmp .ge 37, 3) := dk_162 0 37 (dk_at dksX8_goes_1 5 rfl rfl)
theorem dX8_goes_32 : decode cX8_goes 32 = .ok (.aload_n 0, 1) := dk_42 (dk_at dksX8_goes_1 8 rfl rfl)
theorem dX8_goes_33 : decode cX8_goes 33 = .ok (.aload_n 0, 1) := dk_42 (dk_at dksX8_goes_1 9 rfl rfl)
theorem dX8_goes_34 : decode cX8_goes 34 = .ok (.aload_n 0, 1) := dk_42 (dk_at dksX8_goes_1 10 rfl rfl)
theorem dX8_goes_35 : decode cX8_goes 35 = .ok (.getfield 83, 3) := dk_180 0 83 (dk_at dksX8_goes_1 11 rfl rfl)
theorem dX8_goes_38 : decode cX8_goes 38 = .ok (.bipush 40, 2) := dk_16 40 (dk_at dksX8_goes_1 14 rfl rfl)
theorem dX8_goes_40 : decode cX8_goes 40 = .ok (.iload_n 1, 1) := dk_27 (dk_at dksX8_goes_1 16 rfl rfl)
theorem dX8_goes_41 : decode cX8_goes 41 = .ok (.imul, 1) := dk_104 (dk_at dksX8_goes_1 17 rfl rfl)
theorem dX8_goes_42 : decode cX8_goes 42 = .ok (.iload_n 2, 1) := dk_28 (dk_at dksX8_goes_1 18 rfl rfl)
theorem dX8_goes_43 : decode cX8_goes 43 = .ok (.iadd, 1) := dk_96 (dk_at dksX8_goes_1 19 rfl rfl)
theorem dX8_goes_44 : decode cX8_goes 44 = .ok (.laload, 1) := dk_47 (dk_at dksX8_goes_1 20 rfl rfl)
theorem dX8_goes_45 : decode cX8_goes 45 = .ok (.invokevirtual 315, 3) := dk_182 1 59 (dk_at dksX8_goes_1 21 rfl rfl)
theorem dX8_goes_48 : decode cX8_goes 48 = .ok (.putfield 312, 3) := dk_181 1 56 (dk_at dksX8_goes_2 0 rfl rfl)
theorem dX8_goes_51 : decode cX8_goes 51 = .ok (.aload_n 0, 1) := dk_42 (dk_at dksX8_goes_2 3 rfl rfl)
theorem dX8_goes_52 : decode cX8_goes 52 = .ok (.getfield 312, 3) := dk_180 1 56 (dk_at dksX8_goes_2 4 rfl rfl)
theorem dX8_goes_55 : decode cX8_goes 55 = .ok (.ifCond .eq 5, 3) := dk_153 0 5 (dk_at dksX8_goes_2 7 rfl rfl)
theorem dX8_goes_58 : decode cX8_goes 58 = .ok (.iload_n 2, 1) := dk_28 (dk_at dksX8_goes_2 10 rfl rfl)
theorem dX8_goes_59 : decode cX8_goes 59 = .ok (.ireturn, 1) := dk_172 (dk_at dksX8_goes_2 11 rfl rfl)
theorem dX8_goes_60 : decode cX8_goes 60 = .ok (.iinc 2 1, 3) := dk_132 2 1 (dk_at dksX8_goes_2 12 rfl rfl)
theorem dX8_goes_63 : decode cX8_goes 63 = .ok (.goto (-41), 3) := dk_167 255 215 (dk_at dksX8_goes_2 15 rfl rfl)
theorem dX8_goes_66 : decode cX8_goes 66 = .ok (.aload_n 0, 1) := dk_42 (dk_at dksX8_goes_2 18 rfl rfl)
theorem dX8_goes_67 : decode cX8_goes 67 = .ok (.getfield 80, 3) := dk_180 0 80 (dk_at dksX8_goes_2 19 rfl rfl)
theorem dX8_goes_70 : decode cX8_goes 70 = .ok (.iload_n 1, 1) := dk_27 (dk_at dksX8_goes_2 22 rfl rfl)
theorem dX8_goes_71 : decode cX8_goes 71 = .ok (.iaload, 1) := dk_46 (dk_at dksX8_goes_2 23 rfl rfl)
theorem dX8_goes_72 : decode cX8_goes 72 = .ok (.ireturn, 1) := dk_172 (dk_at dksX8_goes_3 0 rfl rfl)
abbrev cX8_does : ByteArray := prog_20_method_70_code
def yX8_does : MethodName := ⟨RX8, "does", "(J)I"⟩
def dkwX8_does_5 : List UInt8 := [167, 0, 15, 21, 5, 154, 0, 10, 42, 29, 21, 4, 182, 1, 25, 21, 5, 172]
abbrev dktX8_does_5 : List UInt8 := dkwX8_does_5 ++ []
def dkwX8_does_4 : List UInt8 := [54, 5, 21, 5, 154, 0, 21, 31, 20, 1, 54, 148, 156, 0, 13, 42, 29, 21, 4, 182, 1, 16]
abbrev dktX8_does_4 : List UInt8 := dkwX8_does_4 ++ dktX8_does_5
def dkwX8_does_3 : List UInt8 := [20, 1, 54, 148, 156, 0, 13, 42, 29, 21, 4, 182, 1, 10, 167, 0, 10, 42, 29, 21, 4, 182, 1, 13]
abbrev dktX8_does_3 : List UInt8 := dkwX8_does_3 ++ dktX8_does_4
def dkwX8_does_2 : List UInt8 := [154, 0, 5, 4, 172, 31, 136, 16, 100, 112, 16, 10, 108, 62, 31, 136, 16, 10, 112, 54, 4, 31]
abbrev dktX8_does_2 : List UInt8 := dkwX8_does_2 ++ dktX8_does_3
def dkwX8_does_1 : List UInt8 := [180, 1, 49, 4, 96, 181, 1, 49, 42, 3, 181, 0, 211, 3, 172, 31, 9, 20, 1, 52, 184, 0, 153]
abbrev dktX8_does_1 : List UInt8 := dkwX8_does_1 ++ dktX8_does_2
def dkwX8_does_0 : List UInt8 := [31, 20, 1, 32, 148, 154, 0, 32, 42, 180, 1, 49, 17, 3, 231, 160, 0, 5, 4, 172, 42, 89]
abbrev dktX8_does_0 : List UInt8 := dkwX8_does_0 ++ dktX8_does_1
theorem dksX8_does_0 : cX8_does.data.toList.drop 0 = dktX8_does_0 := by decide +kernel
theorem dksX8_does_1 : cX8_does.data.toList.drop 22 = dktX8_does_1 := dk_seg dksX8_does_0 22 rfl rfl
theorem dksX8_does_2 : cX8_does.data.toList.drop 45 = dktX8_does_2 := dk_seg dksX8_does_1 23 rfl rfl
theorem dksX8_does_3 : cX8_does.data.toList.drop 67 = dktX8_does_3 := dk_seg dksX8_does_2 22 rfl rfl
theorem dksX8_does_4 : cX8_does.data.toList.drop 91 = dktX8_does_4 := dk_seg dksX8_does_3 24 rfl rfl
theorem dksX8_does_5 : cX8_does.data.toList.drop 113 = dktX8_does_5 := dk_seg dksX8_does_4 22 rfl rfl
theorem dX8_does_0 : decode cX8_does 0 = .ok (.lload_n 1, 1) := dk_31 (dk_at dksX8_does_0 0 rfl rfl)
theorem dX8_does_1 : decode cX8_does 1 = .ok (.ldc2_w 288, 3) := dk_20 1 32 (dk_at dksX8_does_0 1 rfl rfl)
theorem dX8_does_4 : decode cX8_does 4 = .ok (.lcmp, 1) := dk_148 (dk_at dksX8_does_0 4 rfl rfl)
theorem dX8_does_5 : decode cX8_does 5 = .ok (.ifCond .ne 32, 3) := dk_154 0 32 (dk_at dksX8_does_0 5 rfl rfl)
theorem dX8_does_8 : decode cX8_does 8 = .ok (.aload_n 0, 1) := dk_42 (dk_at dksX8_does_0 8 rfl rfl)
theorem dX8_does_9 : decode cX8_does 9 = .ok (.getfield 305, 3) := dk_180 1 49 (dk_at dksX8_does_0 9 rfl rfl)
theorem dX8_does_12 : decode cX8_does 12 = .ok (.sipush 999, 3) := dk_17 3 231 (dk_at dksX8_does_0 12 rfl rfl)
theorem dX8_does_15 : decode cX8_does 15 = .ok (.if_icmp .ne 5, 3) := dk_160 0 5 (dk_at dksX8_does_0 15 rfl rfl)
theorem dX8_does_18 : decode cX8_does 18 = .ok (.iconst 1, 1) := dk_4 (dk_at dksX8_does_0 18 rfl rfl)
theorem dX8_does_19 : decode cX8_does 19 = .ok (.ireturn, 1) := dk_172 (dk_at dksX8_does_0 19 rfl rfl)
theorem dX8_does_20 : decode cX8_does 20 = .ok (.aload_n 0, 1) := dk_42 (dk_at dksX8_does_0 20 rfl rfl)
theorem dX8_does_21 : decode cX8_does 21 = .ok (.dup, 1) := dk_89 (dk_at dksX8_does_0 21 rfl rfl)
theorem dX8_does_22 : decode cX8_does 22 = .ok (.getfield 305, 3) := dk_180 1 49 (dk_at dksX8_does_1 0 rfl rfl)
theorem dX8_does_25 : decode cX8_does 25 = .ok (.iconst 1, 1) := dk_4 (dk_at dksX8_does_1 3 rfl rfl)
theorem dX8_does_26 : decode cX8_does 26 = .ok (.iadd, 1) := dk_96 (dk_at dksX8_does_1 4 rfl rfl)
theorem dX8_does_27 : decode cX8_does 27 = .ok (.putfield 305, 3) := dk_181 1 49 (dk_at dksX8_does_1 5 rfl rfl)
theorem dX8_does_30 : decode cX8_does 30 = .ok (.aload_n 0, 1) := dk_42 (dk_at dksX8_does_1 8 rfl rfl)
theorem dX8_does_31 : decode cX8_does 31 = .ok (.iconst 0, 1) := dk_3 (dk_at dksX8_does_1 9 rfl rfl)
theorem dX8_does_32 : decode cX8_does 32 = .ok (.putfield 211, 3) := dk_181 0 211 (dk_at dksX8_does_1 10 rfl rfl)
theorem dX8_does_35 : decode cX8_does 35 = .ok (.iconst 0, 1) := dk_3 (dk_at dksX8_does_1 13 rfl rfl)
theorem dX8_does_36 : decode cX8_does 36 = .ok (.ireturn, 1) := dk_172 (dk_at dksX8_does_1 14 rfl rfl)
theorem dX8_does_37 : decode cX8_does 37 = .ok (.lload_n 1, 1) := dk_31 (dk_at dksX8_does_1 15 rfl rfl)
theorem dX8_does_38 : decode cX8_does 38 = .ok (.lconst 0, 1) := dk_9 (dk_at dksX8_does_1 16 rfl rfl)
theorem dX8_does_39 : decode cX8_does 39 = .ok (.ldc2_w 308, 3) := dk_20 1 52 (dk_at dksX8_does_1 17 rfl rfl)
theorem dX8_does_42 : decode cX8_does 42 = .ok (.invokestatic 153, 3) := dk_184 0 153 (dk_at dksX8_does_1 20 rfl rfl)
theorem dX8_does_45 : decode cX8_does 45 = .ok (.ifCond .ne 5, 3) := dk_154 0 5 (dk_at dksX8_does_2 0 rfl rfl)
theorem dX8_does_48 : decode cX8_does 48 = .ok (.iconst 1, 1) := dk_4 (dk_at dksX8_does_2 3 rfl rfl)
theorem dX8_does_49 : decode cX8_does 49 = .ok (.ireturn, 1) := dk_172 (dk_at dksX8_does_2 4 rfl rfl)
theorem dX8_does_50 : decode cX8_does 50 = .ok (.lload_n 1, 1) := dk_31 (dk_at dksX8_does_2 5 rfl rfl)
theorem dX8_does_51 : decode cX8_does 51 = .ok (.l2i, 1) := dk_136 (dk_at dksX8_does_2 6 rfl rfl)
theorem dX8_does_52 : decode cX8_does 52 = .ok (.bipush 100, 2) := dk_16 100 (dk_at dksX8_does_2 7 rfl rfl)
theorem dX8_does_54 : decode cX8_does 54 = .ok (.irem, 1) := dk_112 (dk_at dksX8_does_2 9 rfl rfl)
theorem dX8_does_55 : decode cX8_does 55 = .ok (.bipush 10, 2) := dk_16 10 (dk_at dksX8_does_2 10 rfl rfl)
theorem dX8_does_57 : decode cX8_does 57 = .ok (.idiv, 1) := dk_108 (dk_at dksX8_does_2 12 rfl rfl)
theorem dX8_does_58 : decode cX8_does 58 = .ok (.istore_n 3, 1) := dk_62 (dk_at dksX8_does_2 13 rfl rfl)
theorem dX8_does_59 : decode cX8_does 59 = .ok (.lload_n 1, 1) := dk_31 (dk_at dksX8_does_2 14 rfl rfl)
theorem dX8_does_60 : decode cX8_does 60 = .ok (.l2i, 1) := dk_136 (dk_at dksX8_does_2 15 rfl rfl)
theorem dX8_does_61 : decode cX8_does 61 = .ok (.bipush 10, 2) := dk_16 10 (dk_at dksX8_does_2 16 rfl rfl)
theorem dX8_does_63 : decode cX8_does 63 = .ok (.irem, 1) := dk_112 (dk_at dksX8_does_2 18 rfl rfl)
theorem dX8_does_64 : decode cX8_does 64 = .ok (.istore 4, 2) := dk_54 4 (dk_at dksX8_does_2 19 rfl rfl)
theorem dX8_does_66 : decode cX8_does 66 = .ok (.lload_n 1, 1) := dk_31 (dk_at dksX8_does_2 21 rfl rfl)
theorem dX8_does_67 : decode cX8_does 67 = .ok (.ldc2_w 310, 3) := dk_20 1 54 (dk_at dksX8_does_3 0 rfl rfl)
theorem dX8_does_70 : decode cX8_does 70 = .ok (.lcmp, 1) := dk_148 (dk_at dksX8_does_3 3 rfl rfl)
theorem dX8_does_71 : decode cX8_does 71 = .ok (.ifCond .ge 13, 3) := dk_156 0 13 (dk_at dksX8_does_3 4 rfl rfl)
theorem dX8_does_74 : decode cX8_does 74 = .ok (.aload_n 0, 1) := dk_42 (dk_at dksX8_does_3 7 rfl rfl)
theorem dX8_does_75 : decode cX8_does 75 = .ok (.iload_n 3, 1) := dk_29 (dk_at dksX8_does_3 8 rfl rfl)
theorem dX8_does_76 : decode cX8_does 76 = .ok (.iload 4, 2) := dk_21 4 (dk_at dksX8_does_3 9 rfl rfl)
theorem dX8_does_78 : decode cX8_does 78 = .ok (.invokevirtual 266, 3) := dk_182 1 10 (dk_at dksX8_does_3 11 rfl rfl)
theorem dX8_does_81 : decode cX8_does 81 = .ok (.goto 10, 3) := dk_167 0 10 (dk_at dksX8_does_3 14 rfl rfl)
theorem dX8_does_84 : decode cX8_does 84 = .ok (.aload_n 0, 1) := dk_42 (dk_at dksX8_does_3 17 rfl rfl)
theorem dX8_does_85 : decode cX8_does 85 = .ok (.iload_n 3, 1) := dk_29 (dk_at dksX8_does_3 18 rfl rfl)
theorem dX8_does_86 : decode cX8_does 86 = .ok (.iload 4, 2) := dk_21 4 (dk_at dksX8_does_3 19 rfl rfl)
theorem dX8_does_88 : decode cX8_does 88 = .ok (.invokevirtual 269, 3) := dk_182 1 13 (dk_at dksX8_does_3 21 rfl rfl)
theorem dX8_does_91 : decode cX8_does 91 = .ok (.istore 5, 2) := dk_54 5 (dk_at dksX8_does_4 0 rfl rfl)
theorem dX8_does_93 : decode cX8_does 93 = .ok (.iload 5, 2) := dk_21 5 (dk_at dksX8_does_4 2 rfl rfl)
theorem dX8_does_95 : decode cX8_does 95 = .ok (.ifCond .ne 21, 3) := dk_154 0 21 (dk_at dksX8_does_4 4 rfl rfl)
theorem dX8_does_98 : decode cX8_does 98 = .ok (.lload_n 1, 1) := dk_31 (dk_at dksX8_does_4 7 rfl rfl)
theorem dX8_does_99 : decode cX8_does 99 = .ok (.ldc2_w 310, 3) := dk_20 1 54 (dk_at dksX8_does_4 8 rfl rfl)
theorem dX8_does_102 : decode cX8_does 102 = .ok (.lcmp, 1) := dk_148 (dk_at dksX8_does_4 11 rfl rfl)
theorem dX8_does_103 : decode cX8_does 103 = .ok (.ifCond .ge 13, 3) := dk_156 0 13 (dk_at dksX8_does_4 12 rfl rfl)
theorem dX8_does_106 : decode cX8_does 106 = .ok (.aload_n 0, 1) := dk_42 (dk_at dksX8_does_4 15 rfl rfl)
theorem dX8_does_107 : decode cX8_does 107 = .ok (.iload_n 3, 1) := dk_29 (dk_at dksX8_does_4 16 rfl rfl)
theorem dX8_does_108 : decode cX8_does 108 = .ok (.iload 4, 2) := dk_21 4 (dk_at dksX8_does_4 17 rfl rfl)
theorem dX8_does_110 : decode cX8_does 110 = .ok (.invokevirtual 272, 3) := dk_182 1 16 (dk_at dksX8_does_4 19 rfl rfl)
theorem dX8_does_113 : decode cX8_does 113 = .ok (.goto 15, 3) := dk_167 0 15 (dk_at dksX8_does_5 0 rfl rfl)
theorem dX8_does_116 : decode cX8_does 116 = .ok (.iload 5, 2) := dk_21 5 (dk_at dksX8_does_5 3 rfl rfl)
theorem dX8_does_118 : decode cX8_does 118 = .ok (.ifCond .ne 10, 3) := dk_154 0 10 (dk_at dksX8_does_5 5 rfl rfl)
theorem dX8_does_121 : decode cX8_does 121 = .ok (.aload_n 0, 1) := dk_42 (dk_at dksX8_does_5 8 rfl rfl)
theorem dX8_does_122 : decode cX8_does 122 = .ok (.iload_n 3, 1) := dk_29 (dk_at dksX8_does_5 9 rfl rfl)
theorem dX8_does_123 : decode cX8_does 123 = .ok (.iload 4, 2) := dk_21 4 (dk_at dksX8_does_5 10 rfl rfl)
theorem dX8_does_125 : decode cX8_does 125 = .ok (.invokevirtual 281, 3) := dk_182 1 25 (dk_at dksX8_does_5 12 rfl rfl)
theorem dX8_does_128 : decode cX8_does 128 = .ok (.iload 5, 2) := dk_21 5 (dk_at dksX8_does_5 15 rfl rfl)
theorem dX8_does_130 : decode cX8_does 130 = .ok (.ireturn, 1) := dk_172 (dk_at dksX8_does_5 17 rfl rfl)
abbrev cX8_perform : ByteArray := prog_20_method_73_code
def yX8_perform : MethodName := ⟨RX8, "perform", "(I)I"⟩
def dkwX8_perform_5 : List UInt8 := [22, 4, 136, 16, 10, 112, 182, 1, 74, 87, 132, 3, 1, 167, 255, 169, 28, 172]
abbrev dktX8_perform_5 : List UInt8 := dkwX8_perform_5 ++ []
def dkwX8_perform_4 : List UInt8 := [22, 4, 136, 16, 10, 112, 182, 1, 71, 87, 167, 0, 23, 42, 22, 4, 136, 16, 100, 112, 16, 10, 108]
abbrev dktX8_perform_4 : List UInt8 := dkwX8_perform_4 ++ dktX8_perform_5
def dkwX8_perform_3 : List UInt8 := [182, 1, 68, 87, 167, 0, 52, 22, 4, 20, 1, 54, 148, 156, 0, 23, 42, 22, 4, 136, 16, 10, 108]
abbrev dktX8_perform_3 : List UInt8 := dkwX8_perform_3 ++ dktX8_perform_4
def dkwX8_perform_2 : List UInt8 := [180, 0, 83, 16, 40, 27, 104, 29, 96, 47, 55, 4, 22, 4, 20, 1, 32, 148, 154, 0, 11, 42]
abbrev dktX8_perform_2 : List UInt8 := dkwX8_perform_2 ++ dktX8_perform_3
def dkwX8_perform_1 : List UInt8 := [27, 46, 2, 160, 0, 6, 16, 250, 172, 42, 27, 182, 1, 65, 61, 3, 62, 29, 28, 162, 0, 88, 42]
abbrev dktX8_perform_1 : List UInt8 := dkwX8_perform_1 ++ dktX8_perform_2
def dkwX8_perform_0 : List UInt8 := [42, 3, 181, 0, 1, 27, 133, 9, 20, 1, 63, 184, 0, 153, 154, 0, 6, 16, 254, 172, 42, 180, 0, 77]
abbrev dktX8_perform_0 : List UInt8 := dkwX8_perform_0 ++ dktX8_perform_1
theorem dksX8_perform_0 : cX8_perform.data.toList.drop 0 = dktX8_perform_0 := by decide +kernel
theorem dksX8_perform_1 : cX8_perform.data.toList.drop 24 = dktX8_perform_1 := dk_seg dksX8_perform_0 24 rfl rfl
theorem dksX8_perform_2 : cX8_perform.data.toList.drop 47 = dktX8_perform_2 := dk_seg dksX8_perform_1 23 rfl rfl
theorem dksX8_perform_3 : cX8_perform.data.toList.drop 69 = dktX8_perform_3 := dk_seg dksX8_perform_2 22 rfl rfl
theorem dksX8_perform_4 : cX8_perform.data.toList.drop 92 = dktX8_perform_4 := dk_seg dksX8_perform_3 23 rfl rfl
theorem dksX8_perform_5 : cX8_perform.data.toList.drop 115 = dktX8_perform_5 := dk_seg dksX8_perform_4 23 rfl rfl
theorem dX8_perform_0 : decode cX8_perform 0 = .ok (.aload_n 0, 1) := dk_42 (dk_at dksX8_perform_0 0 rfl rfl)
theorem dX8_perform_1 : decode cX8_perform 1 = .ok (.iconst 0, 1) := dk_3 (dk_at dksX8_perform_0 1 rfl rfl)
theorem dX8_perform_2 : decode cX8_perform 2 = .ok (.putfield 1, 3) := dk_181 0 1 (dk_at dksX8_perform_0 2 rfl rfl)
theorem dX8_perform_5 : decode cX8_perform 5 = .ok (.iload_n 1, 1) := dk_27 (dk_at dksX8_perform_0 5 rfl rfl)
theorem dX8_perform_6 : decode cX8_perform 6 = .ok (.i2l, 1) := dk_133 (dk_at dksX8_perform_0 6 rfl rfl)
theorem dX8_perform_7 : decode cX8_perform 7 = .ok (.lconst 0, 1) := dk_9 (dk_at dksX8_perform_0 7 rfl rfl)
theorem dX8_perform_8 : decode cX8_perform 8 = .ok (.ldc2_w 319, 3) := dk_20 1 63 (dk_at dksX8_perform_0 8 rfl rfl)
theorem dX8_perform_11 : decode cX8_perform 11 = .ok (.invokestatic 153, 3) := dk_184 0 153 (dk_at dksX8_perform_0 11 rfl rfl)
theorem dX8_perform_14 : decode cX8_perform 14 = .ok (.ifCond .ne 6, 3) := dk_154 0 6 (dk_at dksX8_perform_0 14 rfl rfl)
theorem dX8_perform_17 : decode cX8_perform 17 = .ok (.bipush (-2), 2) := dk_16 254 (dk_at dksX8_perform_0 17 rfl rfl)
theorem dX8_perform_19 : decode cX8_perform 19 = .ok (.ireturn, 1) := dk_172 (dk_at dksX8_perform_0 19 rfl rfl)
theorem dX8_perform_20 : decode cX8_perform 20 = .ok (.aload_n 0, 1) := dk_42 (dk_at dksX8_perform_0 20 rfl rfl)
theorem dX8_perform_21 : decode cX8_perform 21 = .ok (.getfield 77, 3) := dk_180 0 77 (dk_at dksX8_perform_0 21 rfl rfl)
theorem dX8_perform_24 : decode cX8_perform 24 = .ok (.iload_n 1, 1) := dk_27 (dk_at dksX8_perform_1 0 rfl rfl)
theorem dX8_perform_25 : decode cX8_perform 25 = .ok (.iaload, 1) := dk_46 (dk_at dksX8_perform_1 1 rfl rfl)
theorem dX8_perform_26 : decode cX8_perform 26 = .ok (.iconst (-1), 1) := dk_2 (dk_at dksX8_perform_1 2 rfl rfl)
theorem dX8_perform_27 : decode cX8_perform 27 = .ok (.if_icmp .ne 6, 3) := dk_160 0 6 (dk_at dksX8_perform_1 3 rfl rfl)
theorem dX8_perform_30 : decode cX8_perform 30 = .ok (.bipush (-6), 2) := dk_16 250 (dk_at dksX8_perform_1 6 rfl rfl)
theorem dX8_perform_32 : decode cX8_perform 32 = .ok (.ireturn, 1) := dk_172 (dk_at dksX8_perform_1 8 rfl rfl)
theorem dX8_perform_33 : decode cX8_perform 33 = .ok (.aload_n 0, 1) := dk_42 (dk_at dksX8_perform_1 9 rfl rfl)
theorem dX8_perform_34 : decode cX8_perform 34 = .ok (.iload_n 1, 1) := dk_27 (dk_at dksX8_perform_1 10 rfl rfl)
theorem dX8_perform_35 : decode cX8_perform 35 = .ok (.invokevirtual 321, 3) := dk_182 1 65 (dk_at dksX8_perform_1 11 rfl rfl)
theorem dX8_perform_38 : decode cX8_perform 38 = .ok (.istore_n 2, 1) := dk_61 (dk_at dksX8_perform_1 14 rfl rfl)
theorem dX8_perform_39 : decode cX8_perform 39 = .ok (.iconst 0, 1) := dk_3 (dk_at dksX8_perform_1 15 rfl rfl)
theorem dX8_perform_40 : decode cX8_perform 40 = .ok (.istore_n 3, 1) := dk_62 (dk_at dksX8_perform_1 16 rfl rfl)
theorem dX8_perform_41 : decode cX8_perform 41 = .ok (.iload_n 3, 1) := dk_29 (dk_at dksX8_perform_1 17 rfl rfl)
theorem dX8_perform_42 : decode cX8_perform 42 = .ok (.iload_n 2, 1) := dk_28 (dk_at dksX8_perform_1 18 rfl rfl)
theorem dX8_perform_43 : decode cX8_perform 43 = .ok (.if_icmp .ge 88, 3) := dk_162 0 88 (dk_at dksX8_perform_1 19 rfl rfl)
theorem dX8_perform_46 : decode cX8_perform 46 = .ok (.aload_n 0, 1) := dk_42 (dk_at dksX8_perform_1 22 rfl rfl)
theorem dX8_perform_47 : decode cX8_perform 47 = .ok (.getfield 83, 3) := dk_180 0 83 (dk_at dksX8_perform_2 0 rfl rfl)
theorem dX8_perform_50 : decode cX8_perform 50 = .ok (.bipush 40, 2) := dk_16 40 (dk_at dksX8_perform_2 3 rfl rfl)
theorem dX8_perform_52 : decode cX8_perform 52 = .ok (.iload_n 1, 1) := dk_27 (dk_at dksX8_perform_2 5 rfl rfl)
theorem dX8_perform_53 : decode cX8_perform 53 = .ok (.imul, 1) := dk_104 (dk_at dksX8_perform_2 6 rfl rfl)
theorem dX8_perform_54 : decode cX8_perform 54 = .ok (.iload_n 3, 1) := dk_29 (dk_at dksX8_perform_2 7 rfl rfl)
theorem dX8_perform_55 : decode cX8_perform 55 = .ok (.iadd, 1) := dk_96 (dk_at dksX8_perform_2 8 rfl rfl)
theorem dX8_perform_56 : decode cX8_perform 56 = .ok (.laload, 1) := dk_47 (dk_at dksX8_perform_2 9 rfl rfl)
theorem dX8_perform_57 : decode cX8_perform 57 = .ok (.lstore 4, 2) := dk_55 4 (dk_at dksX8_perform_2 10 rfl rfl)
theorem dX8_perform_59 : decode cX8_perform 59 = .ok (.lload 4, 2) := dk_22 4 (dk_at dksX8_perform_2 12 rfl rfl)
theorem dX8_perform_61 : decode cX8_perform 61 = .ok (.ldc2_w 288, 3) := dk_20 1 32 (dk_at dksX8_perform_2 14 rfl rfl)
theorem dX8_perform_64 : decode cX8_perform 64 = .ok (.lcmp, 1) := dk_148 (dk_at dksX8_perform_2 17 rfl rfl)
theorem dX8_perform_65 : decode cX8_perform 65 = .ok (.ifCond .ne 11, 3) := dk_154 0 11 (dk_at dksX8_perform_2 18 rfl rfl)
theorem dX8_perform_68 : decode cX8_perform 68 = .ok (.aload_n 0, 1) := dk_42 (dk_at dksX8_perform_2 21 rfl rfl)
theorem dX8_perform_69 : decode cX8_perform 69 = .ok (.invokevirtual 324, 3) := dk_182 1 68 (dk_at dksX8_perform_3 0 rfl rfl)
theorem dX8_perform_72 : decode cX8_perform 72 = .ok (.pop, 1) := dk_87 (dk_at dksX8_perform_3 3 rfl rfl)
theorem dX8_perform_73 : decode cX8_perform 73 = .ok (.goto 52, 3) := dk_167 0 52 (dk_at dksX8_perform_3 4 rfl rfl)
theorem dX8_perform_76 : decode cX8_perform 76 = .ok (.lload 4, 2) := dk_22 4 (dk_at dksX8_perform_3 7 rfl rfl)
theorem dX8_perform_78 : decode cX8_perform 78 = .ok (.ldc2_w 310, 3) := dk_20 1 54 (dk_at dksX8_perform_3 9 rfl rfl)
theorem dX8_perform_81 : decode cX8_perform 81 = .ok (.lcmp, 1) := dk_148 (dk_at dksX8_perform_3 12 rfl rfl)
theorem dX8_perform_82 : decode cX8_perform 82 = .ok (.ifCond .ge 23, 3) := dk_156 0 23 (dk_at dksX8_perform_3 13 rfl rfl)
theorem dX8_perform_85 : decode cX8_perform 85 = .ok (.aload_n 0, 1) := dk_42 (dk_at dksX8_perform_3 16 rfl rfl)
theorem dX8_perform_86 : decode cX8_perform 86 = .ok (.lload 4, 2) := dk_22 4 (dk_at dksX8_perform_3 17 rfl rfl)
theorem dX8_perform_88 : decode cX8_perform 88 = .ok (.l2i, 1) := dk_136 (dk_at dksX8_perform_3 19 rfl rfl)
theorem dX8_perform_89 : decode cX8_perform 89 = .ok (.bipush 10, 2) := dk_16 10 (dk_at dksX8_perform_3 20 rfl rfl)
theorem dX8_perform_91 : decode cX8_perform 91 = .ok (.idiv, 1) := dk_108 (dk_at dksX8_perform_3 22 rfl rfl)
theorem dX8_perform_92 : decode cX8_perform 92 = .ok (.lload 4, 2) := dk_22 4 (dk_at dksX8_perform_4 0 rfl rfl)
theorem dX8_perform_94 : decode cX8_perform 94 = .ok (.l2i, 1) := dk_136 (dk_at dksX8_perform_4 2 rfl rfl)
theorem dX8_perform_95 : decode cX8_perform 95 = .ok (.bipush 10, 2) := dk_16 10 (dk_at dksX8_perform_4 3 rfl rfl)
theorem dX8_perform_97 : decode cX8_perform 97 = .ok (.irem, 1) := dk_112 (dk_at dksX8_perform_4 5 rfl rfl)
theorem dX8_perform_98 : decode cX8_perform 98 = .ok (.invokevirtual 327, 3) := dk_182 1 71 (dk_at dksX8_perform_4 6 rfl rfl)
theorem dX8_perform_101 : decode cX8_perform 101 = .ok (.pop, 1) := dk_87 (dk_at dksX8_perform_4 9 rfl rfl)
theorem dX8_perform_102 : decode cX8_perform 102 = .ok (.goto 23, 3) := dk_167 0 23 (dk_at dksX8_perform_4 10 rfl rfl)
theorem dX8_perform_105 : decode cX8_perform 105 = .ok (.aload_n 0, 1) := dk_42 (dk_at dksX8_perform_4 13 rfl rfl)
theorem dX8_perform_106 : decode cX8_perform 106 = .ok (.lload 4, 2) := dk_22 4 (dk_at dksX8_perform_4 14 rfl rfl)
theorem dX8_perform_108 : decode cX8_perform 108 = .ok (.l2i, 1) := dk_136 (dk_at dksX8_perform_4 16 rfl rfl)
theorem dX8_perform_109 : decode cX8_perform 109 = .ok (.bipush 100, 2) := dk_16 100 (dk_at dksX8_perform_4 17 rfl rfl)
theorem dX8_perform_111 : decode cX8_perform 111 = .ok (.irem, 1) := dk_112 (dk_at dksX8_perform_4 19 rfl rfl)
theorem dX8_perform_112 : decode cX8_perform 112 = .ok (.bipush 10, 2) := dk_16 10 (dk_at dksX8_perform_4 20 rfl rfl)
theorem dX8_perform_114 : decode cX8_perform 114 = .ok (.idiv, 1) := dk_108 (dk_at dksX8_perform_4 22 rfl rfl)
theorem dX8_perform_115 : decode cX8_perform 115 = .ok (.lload 4, 2) := dk_22 4 (dk_at dksX8_perform_5 0 rfl rfl)
theorem dX8_perform_117 : decode cX8_perform 117 = .ok (.l2i, 1) := dk_136 (dk_at dksX8_perform_5 2 rfl rfl)
theorem dX8_perform_118 : decode cX8_perform 118 = .ok (.bipush 10, 2) := dk_16 10 (dk_at dksX8_perform_5 3 rfl rfl)
theorem dX8_perform_120 : decode cX8_perform 120 = .ok (.irem, 1) := dk_112 (dk_at dksX8_perform_5 5 rfl rfl)
theorem dX8_perform_121 : decode cX8_perform 121 = .ok (.invokevirtual 330, 3) := dk_182 1 74 (dk_at dksX8_perform_5 6 rfl rfl)
theorem dX8_perform_124 : decode cX8_perform 124 = .ok (.pop, 1) := dk_87 (dk_at dksX8_perform_5 9 rfl rfl)
theorem dX8_perform_125 : decode cX8_perform 125 = .ok (.iinc 3 1, 3) := dk_132 3 1 (dk_at dksX8_perform_5 10 rfl rfl)
theorem dX8_perform_128 : decode cX8_perform 128 = .ok (.goto (-87), 3) := dk_167 255 169 (dk_at dksX8_perform_5 13 rfl rfl)
theorem dX8_perform_131 : decode cX8_perform 131 = .ok (.iload_n 2, 1) := dk_28 (dk_at dksX8_perform_5 16 rfl rfl)
theorem dX8_perform_132 : decode cX8_perform 132 = .ok (.ireturn, 1) := dk_172 (dk_at dksX8_perform_5 17 rfl rfl)
abbrev cX8_match : ByteArray := prog_20_method_77_code
def yX8_match : MethodName := ⟨RX8, "match", "(I)I"⟩
def dkwX8_match_3 : List UInt8 := [132, 3, 1, 167, 255, 226, 28, 172]
abbrev dktX8_match_3 : List UInt8 := dkwX8_match_3 ++ []
def dkwX8_match_2 : List UInt8 := [16, 6, 46, 162, 0, 25, 28, 42, 29, 182, 1, 87, 153, 0, 7, 4, 167, 0, 4, 3, 96, 61]
abbrev dktX8_match_2 : List UInt8 := dkwX8_match_2 ++ dktX8_match_3
def dkwX8_match_1 : List UInt8 := [182, 1, 84, 27, 2, 159, 0, 10, 42, 180, 0, 46, 27, 46, 172, 3, 61, 3, 62, 29, 42, 180, 0, 13]
abbrev dktX8_match_1 : List UInt8 := dkwX8_match_1 ++ dktX8_match_2
def dkwX8_match_0 : List UInt8 := [42, 3, 181, 0, 1, 27, 2, 159, 0, 14, 42, 27, 182, 0, 250, 154, 0, 6, 16, 254, 172, 42]
abbrev dktX8_match_0 : List UInt8 := dkwX8_match_0 ++ dktX8_match_1
theorem dksX8_match_0 : cX8_match.data.toList.drop 0 = dktX8_match_0 := by decide +kernel
theorem dksX8_match_1 : cX8_match.data.toList.drop 22 = dktX8_match_1 := dk_seg dksX8_match_0 22 rfl rfl
theorem dksX8_match_2 : cX8_match.data.toList.drop 46 = dktX8_match_2 := dk_seg dksX8_match_1 24 rfl rfl
theorem dksX8_match_3 : cX8_match.data.toList.drop 68 = dktX8_match_3 := dk_seg dksX8_match_2 22 rfl rfl
theorem dX8_match_0 : decode cX8_match 0 = .ok (.aload_n 0, 1) := dk_42 (dk_at dksX8_match_0 0 rfl rfl)
theorem dX8_match_1 : decode cX8_match 1 = .ok (.iconst 0, 1) := dk_3 (dk_at dksX8_match_0 1 rfl rfl)
theorem dX8_match_2 : decode cX8_match 2 = .ok (.putfield 1, 3) := dk_181 0 1 (dk_at dksX8_match_0 2 rfl rfl)
theorem dX8_match_5 : decode cX8_match 5 = .ok (.iload_n 1, 1) := dk_27 (dk_at dksX8_match_0 5 rfl rfl)
theorem dX8_match_6 : decode cX8_match 6 = .ok (.iconst (-1), 1) := dk_2 (dk_at dksX8_match_0 6 rfl rfl)
theorem dX8_match_7 : decode cX8_match 7 = .ok (.if_icmp .eq 14, 3) := dk_159 0 14 (dk_at dksX8_match_0 7 rfl rfl)
theorem dX8_match_10 : decode cX8_match 10 = .ok (.aload_n 0, 1) := dk_42 (dk_at dksX8_match_0 10 rfl rfl)
theorem dX8_match_11 : decode cX8_match 11 = .ok (.iload_n 1, 1) := dk_27 (dk_at dksX8_match_0 11 rfl rfl)
theorem dX8_match_12 : decode cX8_match 12 = .ok (.invokevirtual 250, 3) := dk_182 0 250 (dk_at dksX8_match_0 12 rfl rfl)
theorem dX8_match_15 : decode cX8_match 15 = .ok (.ifCond .ne 6, 3) := dk_154 0 6 (dk_at dksX8_match_0 15 rfl rfl)
theorem dX8_match_18 : decode cX8_match 18 = .ok (.bipush (-2), 2) := dk_16 254 (dk_at dksX8_match_0 18 rfl rfl)
theorem dX8_match_20 : decode cX8_match 20 = .ok (.ireturn, 1) := dk_172 (dk_at dksX8_match_0 20 rfl rfl)
theorem dX8_match_21 : decode cX8_match 21 = .ok (.aload_n 0, 1) := dk_42 (dk_at dksX8_match_0 21 rfl rfl)
theorem dX8_match_22 : decode cX8_match 22 = .ok (.invokevirtual 340, 3) := dk_182 1 84 (dk_at dksX8_match_1 0 rfl rfl)
theorem dX8_match_25 : decode cX8_match 25 = .ok (.iload_n 1, 1) := dk_27 (dk_at dksX8_match_1 3 rfl rfl)
theorem dX8_match_26 : decode cX8_match 26 = .ok (.iconst (-1), 1) := dk_2 (dk_at dksX8_match_1 4 rfl rfl)
theorem dX8_match_27 : decode cX8_match 27 = .ok (.if_icmp .eq 10, 3) := dk_159 0 10 (dk_at dksX8_match_1 5 rfl rfl)
theorem dX8_match_30 : decode cX8_match 30 = .ok (.aload_n 0, 1) := dk_42 (dk_at dksX8_match_1 8 rfl rfl)
theorem dX8_match_31 : decode cX8_match 31 = .ok (.getfield 46, 3) := dk_180 0 46 (dk_at dksX8_match_1 9 rfl rfl)
theorem dX8_match_34 : decode cX8_match 34 = .ok (.iload_n 1, 1) := dk_27 (dk_at dksX8_match_1 12 rfl rfl)
theorem dX8_match_35 : decode cX8_match 35 = .ok (.iaload, 1) := dk_46 (dk_at dksX8_match_1 13 rfl rfl)
theorem dX8_match_36 : decode cX8_match 36 = .ok (.ireturn, 1) := dk_172 (dk_at dksX8_match_1 14 rfl rfl)
theorem dX8_match_37 : decode cX8_match 37 = .ok (.iconst 0, 1) := dk_3 (dk_at dksX8_match_1 15 rfl rfl)
theorem dX8_match_38 : decode cX8_match 38 = .ok (.istore_n 2, 1) := dk_61 (dk_at dksX8_match_1 16 rfl rfl)
theorem dX8_match_39 : decode cX8_match 39 = .ok (.iconst 0, 1) := dk_3 (dk_at dksX8_match_1 17 rfl rfl)
theorem dX8_match_40 : decode cX8_match 40 = .ok (.istore_n 3, 1) := dk_62 (dk_at dksX8_match_1 18 rfl rfl)
theorem dX8_match_41 : decode cX8_match 41 = .ok (.iload_n 3, 1) := dk_29 (dk_at dksX8_match_1 19 rfl rfl)
theorem dX8_match_42 : decode cX8_match 42 = .ok (.aload_n 0, 1) := dk_42 (dk_at dksX8_match_1 20 rfl rfl)
theorem dX8_match_43 : decode cX8_match 43 = .ok (.getfield 13, 3) := dk_180 0 13 (dk_at dksX8_match_1 21 rfl rfl)
theorem dX8_match_46 : decode cX8_match 46 = .ok (.bipush 6, 2) := dk_16 6 (dk_at dksX8_match_2 0 rfl rfl)
theorem dX8_match_48 : decode cX8_match 48 = .ok (.iaload, 1) := dk_46 (dk_at dksX8_match_2 2 rfl rfl)
theorem dX8_match_49 : decode cX8_match 49 = .ok (.if_icmp .ge 25, 3) := dk_162 0 25 (dk_at dksX8_match_2 3 rfl rfl)
theorem dX8_match_52 : decode cX8_match 52 = .ok (.iload_n 2, 1) := dk_28 (dk_at dksX8_match_2 6 rfl rfl)
theorem dX8_match_53 : decode cX8_match 53 = .ok (.aload_n 0, 1) := dk_42 (dk_at dksX8_match_2 7 rfl rfl)
theorem dX8_match_54 : decode cX8_match 54 = .ok (.iload_n 3, 1) := dk_29 (dk_at dksX8_match_2 8 rfl rfl)
theorem dX8_match_55 : decode cX8_match 55 = .ok (.invokevirtual 343, 3) := dk_182 1 87 (dk_at dksX8_match_2 9 rfl rfl)
theorem dX8_match_58 : decode cX8_match 58 = .ok (.ifCond .eq 7, 3) := dk_153 0 7 (dk_at dksX8_match_2 12 rfl rfl)
theorem dX8_match_61 : decode cX8_match 61 = .ok (.iconst 1, 1) := dk_4 (dk_at dksX8_match_2 15 rfl rfl)
theorem dX8_match_62 : decode cX8_match 62 = .ok (.goto 4, 3) := dk_167 0 4 (dk_at dksX8_match_2 16 rfl rfl)
theorem dX8_match_65 : decode cX8_match 65 = .ok (.iconst 0, 1) := dk_3 (dk_at dksX8_match_2 19 rfl rfl)
theorem dX8_match_66 : decode cX8_match 66 = .ok (.iadd, 1) := dk_96 (dk_at dksX8_match_2 20 rfl rfl)
theorem dX8_match_67 : decode cX8_match 67 = .ok (.istore_n 2, 1) := dk_61 (dk_at dksX8_match_2 21 rfl rfl)
theorem dX8_match_68 : decode cX8_match 68 = .ok (.iinc 3 1, 3) := dk_132 3 1 (dk_at dksX8_match_3 0 rfl rfl)
theorem dX8_match_71 : decode cX8_match 71 = .ok (.goto (-30), 3) := dk_167 255 226 (dk_at dksX8_match_3 3 rfl rfl)
theorem dX8_match_74 : decode cX8_match 74 = .ok (.iload_n 2, 1) := dk_28 (dk_at dksX8_match_3 6 rfl rfl)
theorem dX8_match_75 : decode cX8_match 75 = .ok (.ireturn, 1) := dk_172 (dk_at dksX8_match_3 7 rfl rfl)
abbrev cX8_matches : ByteArray := prog_20_method_75_code
def yX8_matches : MethodName := ⟨RX8, "matches", "()V"⟩
def dkwX8_matches_17 : List UInt8 := [177]
abbrev dktX8_matches_17 : List UInt8 := dkwX8_matches_17 ++ []
def dkwX8_matches_16 : List UInt8 := [2, 160, 0, 7, 3, 167, 0, 11, 4, 42, 180, 0, 46, 28, 46, 120, 128, 60, 132, 2, 1, 167, 255, 80]
abbrev dktX8_matches_16 : List UInt8 := dkwX8_matches_16 ++ dktX8_matches_17
def dkwX8_matches_15 : List UInt8 := [160, 0, 11, 42, 180, 0, 46, 28, 21, 4, 79, 132, 4, 1, 167, 255, 145, 27, 42, 180, 0, 46, 28, 46]
abbrev dktX8_matches_15 : List UInt8 := dkwX8_matches_15 ++ dktX8_matches_16
def dkwX8_matches_14 : List UInt8 := [104, 27, 4, 21, 4, 120, 128, 96, 46, 96, 42, 180, 0, 43, 28, 19, 1, 77, 104, 27, 96, 46]
abbrev dktX8_matches_14 : List UInt8 := dkwX8_matches_14 ++ dktX8_matches_15
def dkwX8_matches_13 : List UInt8 := [159, 0, 6, 167, 0, 54, 42, 28, 21, 4, 29, 182, 1, 80, 42, 180, 0, 43, 28, 4, 96, 19, 1, 77]
abbrev dktX8_matches_13 : List UInt8 := dkwX8_matches_13 ++ dktX8_matches_14
def dkwX8_matches_12 : List UInt8 := [4, 159, 0, 79, 42, 180, 0, 13, 16, 41, 21, 4, 96, 46, 42, 180, 0, 13, 16, 7, 28, 96, 46]
abbrev dktX8_matches_12 : List UInt8 := dkwX8_matches_12 ++ dktX8_matches_13
def dkwX8_matches_11 : List UInt8 := [162, 0, 110, 29, 2, 159, 0, 105, 42, 180, 0, 46, 28, 46, 2, 160, 0, 95, 27, 21, 4, 122, 4, 126]
abbrev dktX8_matches_11 : List UInt8 := dkwX8_matches_11 ++ dktX8_matches_12
def dkwX8_matches_10 : List UInt8 := [42, 28, 182, 0, 255, 167, 0, 4, 2, 62, 42, 180, 0, 46, 28, 2, 79, 3, 54, 4, 21, 4, 16, 15]
abbrev dktX8_matches_10 : List UInt8 := dkwX8_matches_10 ++ dktX8_matches_11
def dkwX8_matches_9 : List UInt8 := [132, 1, 255, 167, 255, 71, 3, 60, 3, 61, 28, 16, 8, 162, 0, 176, 42, 28, 182, 0, 250, 153, 0, 11]
abbrev dktX8_matches_9 : List UInt8 := dkwX8_matches_9 ++ dktX8_matches_10
def dkwX8_matches_8 : List UInt8 := [167, 255, 160, 42, 180, 0, 43, 27, 19, 1, 77, 104, 29, 96, 21, 4, 79, 132, 3, 1, 167, 255, 101]
abbrev dktX8_matches_8 : List UInt8 := dkwX8_matches_8 ++ dktX8_matches_9
def dkwX8_matches_7 : List UInt8 := [46, 96, 54, 6, 21, 6, 21, 4, 162, 0, 8, 21, 6, 167, 0, 5, 21, 4, 54, 4, 132, 5, 1]
abbrev dktX8_matches_7 : List UInt8 := dkwX8_matches_7 ++ dktX8_matches_8
def dkwX8_matches_6 : List UInt8 := [21, 5, 28, 182, 1, 80, 42, 180, 0, 43, 27, 4, 96, 19, 1, 77, 104, 29, 4, 21, 5, 120, 128, 96]
abbrev dktX8_matches_6 : List UInt8 := dkwX8_matches_6 ++ dktX8_matches_7
def dkwX8_matches_5 : List UInt8 := [16, 41, 21, 5, 96, 46, 42, 180, 0, 13, 16, 7, 27, 96, 46, 159, 0, 6, 167, 0, 49, 42, 27]
abbrev dktX8_matches_5 : List UInt8 := dkwX8_matches_5 ++ dktX8_matches_6
def dkwX8_matches_4 : List UInt8 := [16, 15, 162, 0, 95, 28, 2, 159, 0, 90, 29, 21, 5, 122, 4, 126, 4, 159, 0, 74, 42, 180, 0, 13]
abbrev dktX8_matches_4 : List UInt8 := dkwX8_matches_4 ++ dktX8_matches_5
def dkwX8_matches_3 : List UInt8 := [104, 29, 96, 46, 28, 2, 160, 0, 7, 3, 167, 0, 6, 19, 1, 79, 96, 54, 4, 3, 54, 5, 21, 5]
abbrev dktX8_matches_3 : List UInt8 := dkwX8_matches_3 ++ dktX8_matches_4
def dkwX8_matches_2 : List UInt8 := [167, 0, 4, 2, 61, 3, 62, 29, 19, 1, 77, 162, 0, 154, 42, 180, 0, 43, 27, 4, 96, 19, 1, 77]
abbrev dktX8_matches_2 : List UInt8 := dkwX8_matches_2 ++ dktX8_matches_3
def dkwX8_matches_1 : List UInt8 := [167, 255, 235, 16, 7, 60, 27, 155, 0, 187, 42, 27, 182, 0, 250, 153, 0, 11, 42, 27, 182, 0, 255]
abbrev dktX8_matches_1 : List UInt8 := dkwX8_matches_1 ++ dktX8_matches_2
def dkwX8_matches_0 : List UInt8 := [3, 60, 27, 19, 1, 77, 162, 0, 20, 42, 180, 0, 43, 19, 1, 78, 27, 96, 3, 79, 132, 1, 1]
abbrev dktX8_matches_0 : List UInt8 := dkwX8_matches_0 ++ dktX8_matches_1
theorem dksX8_matches_0 : cX8_matches.data.toList.drop 0 = dktX8_matches_0 := by decide +kernel
theorem dksX8_matches_1 : cX8_matches.data.toList.drop 23 = dktX8_matches_1 := dk_seg dksX8_matches_0 23 rfl rfl
theorem dksX8_matches_2 : cX8_matches.data.toList.drop 46 = dktX8_matches_2 := dk_seg dksX8_matches_1 23 rfl rfl
theorem dksX8_matches_3 : cX8_matches.data.toList.drop 70 = dktX8_matches_3 := dk_seg dksX8_matches_2 24 rfl rfl
theorem dksX8_matches_4 : cX8_matches.data.toList.drop 94 = dktX8_matches_4 := dk_seg dksX8_matches_3 24 rfl rfl
theorem dksX8_matches_5 : cX8_matches.data.toList.drop 118 = dktX8_matches_5 := dk_seg dksX8_matches_4 24 rfl rfl
theorem dksX8_matches_6 : cX8_matches.data.toList.drop 141 = dktX8_matches_6 := dk_seg dksX8_matches_5 23 rfl rfl
theorem dksX8_matches_7 : cX8_matches.data.toList.drop 165 = dktX8_matches_7 := dk_seg dksX8_matches_6 24 rfl rfl
theorem dksX8_matches_8 : cX8_matches.data.toList.drop 188 = dktX8_matches_8 := dk_seg dksX8_matches_7 23 rfl rfl
theorem dksX8_matches_9 : cX8_matches.data.toList.drop 211 = dktX8_matches_9 := dk_seg dksX8_matches_8 23 rfl rfl
theorem dksX8_matches_10 : cX8_matches.data.toList.drop 235 = dktX8_matches_10 := dk_seg dksX8_matches_9 24 rfl rfl
theorem dksX8_matches_11 : cX8_matches.data.toList.drop 259 = dktX8_matches_11 := dk_seg dksX8_matches_10 24 rfl rfl
theorem dksX8_matches_12 : cX8_matches.data.toList.drop 283 = dktX8_matches_12 := dk_seg dksX8_matches_11 24 rfl rfl
theorem dksX8_matches_13 : cX8_matches.data.toList.drop 306 = dktX8_matches_13 := dk_seg dksX8_matches_12 23 rfl rfl
theorem dksX8_matches_14 : cX8_matches.data.toList.drop 330 = dktX8_matches_14 := dk_seg dksX8_matches_13 24 rfl rfl
theorem dksX8_matches_15 : cX8_matches.data.toList.drop 352 = dktX8_matches_15 := dk_seg dksX8_matches_14 22 rfl rfl
theorem dksX8_matches_16 : cX8_matches.data.toList.drop 376 = dktX8_matches_16 := dk_seg dksX8_matches_15 24 rfl rfl
theorem dksX8_matches_17 : cX8_matches.data.toList.drop 400 = dktX8_matches_17 := dk_seg dksX8_matches_16 24 rfl rfl
theorem dX8_matches_0 : decode cX8_matches 0 = .ok (.iconst 0, 1) := dk_3 (dk_at dksX8_matches_0 0 rfl rfl)
theorem dX8_matches_1 : decode cX8_matches 1 = .ok (.istore_n 1, 1) := dk_60 (dk_at dksX8_matches_0 1 rfl rfl)
theorem dX8_matches_2 : decode cX8_matches 2 = .ok (.iload_n 1, 1) := dk_27 (dk_at dksX8_matches_0 2 rfl rfl)
theorem dX8_matches_3 : decode cX8_matches 3 = .ok (.ldc_w 333, 3) := dk_19 1 77 (dk_at dksX8_matches_0 3 rfl rfl)
theorem dX8_matches_6 : decode cX8_matches 6 = .ok (.if_icmp .ge 20, 3) := dk_162 0 20 (dk_at dksX8_matches_0 6 rfl rfl)
theorem dX8_matches_9 : decode cX8_matches 9 = .ok (.aload_n 0, 1) := dk_42 (dk_at dksX8_matches_0 9 rfl rfl)
theorem dX8_matches_10 : decode cX8_matches 10 = .ok (.getfield 43, 3) := dk_180 0 43 (dk_at dksX8_matches_0 10 rfl rfl)
theorem dX8_matches_13 : decode cX8_matches 13 = .ok (.ldc_w 334, 3) := dk_19 1 78 (dk_at dksX8_matches_0 13 rfl rfl)
theorem dX8_matches_16 : decode cX8_matches 16 = .ok (.iload_n 1, 1) := dk_27 (dk_at dksX8_matches_0 16 rfl rfl)
theorem dX8_matches_17 : decode cX8_matches 17 = .ok (.iadd, 1) := dk_96 (dk_at dksX8_matches_0 17 rfl rfl)
theorem dX8_matches_18 : decode cX8_matches 18 = .ok (.iconst 0, 1) := dk_3 (dk_at dksX8_matches_0 18 rfl rfl)
theorem dX8_matches_19 : decode cX8_matches 19 = .ok (.iastore, 1) := dk_79 (dk_at dksX8_matches_0 19 rfl rfl)
theorem dX8_matches_20 : decode cX8_matches 20 = .ok (.iinc 1 1, 3) := dk_132 1 1 (dk_at dksX8_matches_0 20 rfl rfl)
theorem dX8_matches_23 : decode cX8_matches 23 = .ok (.goto (-21), 3) := dk_167 255 235 (dk_at dksX8_matches_1 0 rfl rfl)
theorem dX8_matches_26 : decode cX8_matches 26 = .ok (.bipush 7, 2) := dk_16 7 (dk_at dksX8_matches_1 3 rfl rfl)
theorem dX8_matches_28 : decode cX8_matches 28 = .ok (.istore_n 1, 1) := dk_60 (dk_at dksX8_matches_1 5 rfl rfl)
theorem dX8_matches_29 : decode cX8_matches 29 = .ok (.iload_n 1, 1) := dk_27 (dk_at dksX8_matches_1 6 rfl rfl)
theorem dX8_matches_30 : decode cX8_matches 30 = .ok (.ifCond .lt 187, 3) := dk_155 0 187 (dk_at dksX8_matches_1 7 rfl rfl)
theorem dX8_matches_33 : decode cX8_matches 33 = .ok (.aload_n 0, 1) := dk_42 (dk_at dksX8_matches_1 10 rfl rfl)
theorem dX8_matches_34 : decode cX8_matches 34 = .ok (.iload_n 1, 1) := dk_27 (dk_at dksX8_matches_1 11 rfl rfl)
theorem dX8_matches_35 : decode cX8_matches 35 = .ok (.invokevirtual 250, 3) := dk_182 0 250 (dk_at dksX8_matches_1 12 rfl rfl)
theorem dX8_matches_38 : decode cX8_matches 38 = .ok (.ifCond .eq 11, 3) := dk_153 0 11 (dk_at dksX8_matches_1 15 rfl rfl)
theorem dX8_matches_41 : decode cX8_matches 41 = .ok (.aload_n 0, 1) := dk_42 (dk_at dksX8_matches_1 18 rfl rfl)
theorem dX8_matches_42 : decode cX8_matches 42 = .ok (.iload_n 1, 1) := dk_27 (dk_at dksX8_matches_1 19 rfl rfl)
theorem dX8_matches_43 : decode cX8_matches 43 = .ok (.invokevirtual 255, 3) := dk_182 0 255 (dk_at dksX8_matches_1 20 rfl rfl)
theorem dX8_matches_46 : decode cX8_matches 46 = .ok (.goto 4, 3) := dk_167 0 4 (dk_at dksX8_matches_2 0 rfl rfl)
theorem dX8_matches_49 : decode cX8_matches 49 = .ok (.iconst (-1), 1) := dk_2 (dk_at dksX8_matches_2 3 rfl rfl)
theorem dX8_matches_50 : decode cX8_matches 50 = .ok (.istore_n 2, 1) := dk_61 (dk_at dksX8_matches_2 4 rfl rfl)
theorem dX8_matches_51 : decode cX8_matches 51 = .ok (.iconst 0, 1) := dk_3 (dk_at dksX8_matches_2 5 rfl rfl)
theorem dX8_matches_52 : decode cX8_matches 52 = .ok (.istore_n 3, 1) := dk_62 (dk_at dksX8_matches_2 6 rfl rfl)
theorem dX8_matches_53 : decode cX8_matches 53 = .ok (.iload_n 3, 1) := dk_29 (dk_at dksX8_matches_2 7 rfl rfl)
theorem dX8_matches_54 : decode cX8_matches 54 = .ok (.ldc_w 333, 3) := dk_19 1 77 (dk_at dksX8_matches_2 8 rfl rfl)
theorem dX8_matches_57 : decode cX8_matches 57 = .ok (.if_icmp .ge 154, 3) := dk_162 0 154 (dk_at dksX8_matches_2 11 rfl rfl)
theorem dX8_matches_60 : decode cX8_matches 60 = .ok (.aload_n 0, 1) := dk_42 (dk_at dksX8_matches_2 14 rfl rfl)
theorem dX8_matches_61 : decode cX8_matches 61 = .ok (.getfield 43, 3) := dk_180 0 43 (dk_at dksX8_matches_2 15 rfl rfl)
theorem dX8_matches_64 : decode cX8_matches 64 = .ok (.iload_n 1, 1) := dk_27 (dk_at dksX8_matches_2 18 rfl rfl)
theorem dX8_matches_65 : decode cX8_matches 65 = .ok (.iconst 1, 1) := dk_4 (dk_at dksX8_matches_2 19 rfl rfl)
theorem dX8_matches_66 : decode cX8_matches 66 = .ok (.iadd, 1) := dk_96 (dk_at dksX8_matches_2 20 rfl rfl)
theorem dX8_matches_67 : decode cX8_matches 67 = .ok (.ldc_w 333, 3) := dk_19 1 77 (dk_at dksX8_matches_2 21 rfl rfl)
theorem dX8_matches_70 : decode cX8_matches 70 = .ok (.imul, 1) := dk_104 (dk_at dksX8_matches_3 0 rfl rfl)
theorem dX8_matches_71 : decode cX8_matches 71 = .ok (.iload_n 3, 1) := dk_29 (dk_at dksX8_matches_3 1 rfl rfl)
theorem dX8_matches_72 : decode cX8_matches 72 = .ok (.iadd, 1) := dk_96 (dk_at dksX8_matches_3 2 rfl rfl)
theorem dX8_matches_73 : decode cX8_matches 73 = .ok (.iaload, 1) := dk_46 (dk_at dksX8_matches_3 3 rfl rfl)
theorem dX8_matches_74 : decode cX8_matches 74 = .ok (.iload_n 2, 1) := dk_28 (dk_at dksX8_matches_3 4 rfl rfl)
theorem dX8_matches_75 : decode cX8_matches 75 = .ok (.iconst (-1), 1) := dk_2 (dk_at dksX8_matches_3 5 rfl rfl)
theorem dX8_matches_76 : decode cX8_matches 76 = .ok (.if_icmp .ne 7, 3) := dk_160 0 7 (dk_at dksX8_matches_3 6 rfl rfl)
theorem dX8_matches_79 : decode cX8_matches 79 = .ok (.iconst 0, 1) := dk_3 (dk_at dksX8_matches_3 9 rfl rfl)
theorem dX8_matches_80 : decode cX8_matches 80 = .ok (.goto 6, 3) := dk_167 0 6 (dk_at dksX8_matches_3 10 rfl rfl)
theorem dX8_matches_83 : decode cX8_matches 83 = .ok (.ldc_w 335, 3) := dk_19 1 79 (dk_at dksX8_matches_3 13 rfl rfl)
theorem dX8_matches_86 : decode cX8_matches 86 = .ok (.iadd, 1) := dk_96 (dk_at dksX8_matches_3 16 rfl rfl)
theorem dX8_matches_87 : decode cX8_matches 87 = .ok (.istore 4, 2) := dk_54 4 (dk_at dksX8_matches_3 17 rfl rfl)
theorem dX8_matches_89 : decode cX8_matches 89 = .ok (.iconst 0, 1) := dk_3 (dk_at dksX8_matches_3 19 rfl rfl)
theorem dX8_matches_90 : decode cX8_matches 90 = .ok (.istore 5, 2) := dk_54 5 (dk_at dksX8_matches_3 20 rfl rfl)
theorem dX8_matches_92 : decode cX8_matches 92 = .ok (.iload 5, 2) := dk_21 5 (dk_at dksX8_matches_3 22 rfl rfl)
theorem dX8_matches_94 : decode cX8_matches 94 = .ok (.bipush 15, 2) := dk_16 15 (dk_at dksX8_matches_4 0 rfl rfl)
theorem dX8_matches_96 : decode cX8_matches 96 = .ok (.if_icmp .ge 95, 3) := dk_162 0 95 (dk_at dksX8_matches_4 2 rfl rfl)
theorem dX8_matches_99 : decode cX8_matches 99 = .ok (.iload_n 2, 1) := dk_28 (dk_at dksX8_matches_4 5 rfl rfl)
theorem dX8_matches_100 : decode cX8_matches 100 = .ok (.iconst (-1), 1) := dk_2 (dk_at dksX8_matches_4 6 rfl rfl)
theorem dX8_matches_101 : decode cX8_matches 101 = .ok (.if_icmp .eq 90, 3) := dk_159 0 90 (dk_at dksX8_matches_4 7 rfl rfl)
theorem dX8_matches_104 : decode cX8_matches 104 = .ok (.iload_n 3, 1) := dk_29 (dk_at dksX8_matches_4 10 rfl rfl)
theorem dX8_matches_105 : decode cX8_matches 105 = .ok (.iload 5, 2) := dk_21 5 (dk_at dksX8_matches_4 11 rfl rfl)
theorem dX8_matches_107 : decode cX8_matches 107 = .ok (.ishr, 1) := dk_122 (dk_at dksX8_matches_4 13 rfl rfl)
theorem dX8_matches_108 : decode cX8_matches 108 = .ok (.iconst 1, 1) := dk_4 (dk_at dksX8_matches_4 14 rfl rfl)
theorem dX8_matches_109 : decode cX8_matches 109 = .ok (.iand, 1) := dk_126 (dk_at dksX8_matches_4 15 rfl rfl)
theorem dX8_matches_110 : decode cX8_matches 110 = .ok (.iconst 1, 1) := dk_4 (dk_at dksX8_matches_4 16 rfl rfl)
theorem dX8_matches_111 : decode cX8_matches 111 = .ok (.if_icmp .eq 74, 3) := dk_159 0 74 (dk_at dksX8_matches_4 17 rfl rfl)
theorem dX8_matches_114 : decode cX8_matches 114 = .ok (.aload_n 0, 1) := dk_42 (dk_at dksX8_matches_4 20 rfl rfl)
theorem dX8_matches_115 : decode cX8_matches 115 = .ok (.getfield 13, 3) := dk_180 0 13 (dk_at dksX8_matches_4 21 rfl rfl)
theorem dX8_matches_118 : decode cX8_matches 118 = .ok (.bipush 41, 2) := dk_16 41 (dk_at dksX8_matches_5 0 rfl rfl)
theorem dX8_matches_120 : decode cX8_matches 120 = .ok (.iload 5, 2) := dk_21 5 (dk_at dksX8_matches_5 2 rfl rfl)
theorem dX8_matches_122 : decode cX8_matches 122 = .ok (.iadd, 1) := dk_96 (dk_at dksX8_matches_5 4 rfl rfl)
theorem dX8_matches_123 : decode cX8_matches 123 = .ok (.iaload, 1) := dk_46 (dk_at dksX8_matches_5 5 rfl rfl)
theorem dX8_matches_124 : decode cX8_matches 124 = .ok (.aload_n 0, 1) := dk_42 (dk_at dksX8_matches_5 6 rfl rfl)
theorem dX8_matches_125 : decode cX8_matches 125 = .ok (.getfield 13, 3) := dk_180 0 13 (dk_at dksX8_matches_5 7 rfl rfl)
theorem dX8_matches_128 : decode cX8_matches 128 = .ok (.bipush 7, 2) := dk_16 7 (dk_at dksX8_matches_5 10 rfl rfl)
theorem dX8_matches_130 : decode cX8_matches 130 = .ok (.iload_n 1, 1) := dk_27 (dk_at dksX8_matches_5 12 rfl rfl)
theorem dX8_matches_131 : decode cX8_matches 131 = .ok (.iadd, 1) := dk_96 (dk_at dksX8_matches_5 13 rfl rfl)
theorem dX8_matches_132 : decode cX8_matches 132 = .ok (.iaload, 1) := dk_46 (dk_at dksX8_matches_5 14 rfl rfl)
theorem dX8_matches_133 : decode cX8_matches 133 = .ok (.if_icmp .eq 6, 3) := dk_159 0 6 (dk_at dksX8_matches_5 15 rfl rfl)
theorem dX8_matches_136 : decode cX8_matches 136 = .ok (.goto 49, 3) := dk_167 0 49 (dk_at dksX8_matches_5 18 rfl rfl)
theorem dX8_matches_139 : decode cX8_matches 139 = .ok (.aload_n 0, 1) := dk_42 (dk_at dksX8_matches_5 21 rfl rfl)
theorem dX8_matches_140 : decode cX8_matches 140 = .ok (.iload_n 1, 1) := dk_27 (dk_at dksX8_matches_5 22 rfl rfl)
theorem dX8_matches_141 : decode cX8_matches 141 = .ok (.iload 5, 2) := dk_21 5 (dk_at dksX8_matches_6 0 rfl rfl)
theorem dX8_matches_143 : decode cX8_matches 143 = .ok (.iload_n 2, 1) := dk_28 (dk_at dksX8_matches_6 2 rfl rfl)
theorem dX8_matches_144 : decode cX8_matches 144 = .ok (.invokevirtual 336, 3) := dk_182 1 80 (dk_at dksX8_matches_6 3 rfl rfl)
theorem dX8_matches_147 : decode cX8_matches 147 = .ok (.aload_n 0, 1) := dk_42 (dk_at dksX8_matches_6 6 rfl rfl)
theorem dX8_matches_148 : decode cX8_matches 148 = .ok (.getfield 43, 3) := dk_180 0 43 (dk_at dksX8_matches_6 7 rfl rfl)
theorem dX8_matches_151 : decode cX8_matches 151 = .ok (.iload_n 1, 1) := dk_27 (dk_at dksX8_matches_6 10 rfl rfl)
theorem dX8_matches_152 : decode cX8_matches 152 = .ok (.iconst 1, 1) := dk_4 (dk_at dksX8_matches_6 11 rfl rfl)
theorem dX8_matches_153 : decode cX8_matches 153 = .ok (.iadd, 1) := dk_96 (dk_at dksX8_matches_6 12 rfl rfl)
theorem dX8_matches_154 : decode cX8_matches 154 = .ok (.ldc_w 333, 3) := dk_19 1 77 (dk_at dksX8_matches_6 13 rfl rfl)
theorem dX8_matches_157 : decode cX8_matches 157 = .ok (.imul, 1) := dk_104 (dk_at dksX8_matches_6 16 rfl rfl)
theorem dX8_matches_158 : decode cX8_matches 158 = .ok (.iload_n 3, 1) := dk_29 (dk_at dksX8_matches_6 17 rfl rfl)
theorem dX8_matches_159 : decode cX8_matches 159 = .ok (.iconst 1, 1) := dk_4 (dk_at dksX8_matches_6 18 rfl rfl)
theorem dX8_matches_160 : decode cX8_matches 160 = .ok (.iload 5, 2) := dk_21 5 (dk_at dksX8_matches_6 19 rfl rfl)
theorem dX8_matches_162 : decode cX8_matches 162 = .ok (.ishl, 1) := dk_120 (dk_at dksX8_matches_6 21 rfl rfl)
theorem dX8_matches_163 : decode cX8_matches 163 = .ok (.ior, 1) := dk_128 (dk_at dksX8_matches_6 22 rfl rfl)
theorem dX8_matches_164 : decode cX8_matches 164 = .ok (.iadd, 1) := dk_96 (dk_at dksX8_matches_6 23 rfl rfl)
theorem dX8_matches_165 : decode cX8_matches 165 = .ok (.iaload, 1) := dk_46 (dk_at dksX8_matches_7 0 rfl rfl)
theorem dX8_matches_166 : decode cX8_matches 166 = .ok (.iadd, 1) := dk_96 (dk_at dksX8_matches_7 1 rfl rfl)
theorem dX8_matches_167 : decode cX8_matches 167 = .ok (.istore 6, 2) := dk_54 6 (dk_at dksX8_matches_7 2 rfl rfl)
theorem dX8_matches_169 : decode cX8_matches 169 = .ok (.iload 6, 2) := dk_21 6 (dk_at dksX8_matches_7 4 rfl rfl)
theorem dX8_matches_171 : decode cX8_matches 171 = .ok (.iload 4, 2) := dk_21 4 (dk_at dksX8_matches_7 6 rfl rfl)
theorem dX8_matches_173 : decode cX8_matches 173 = .ok (.if_icmp .ge 8, 3) := dk_162 0 8 (dk_at dksX8_matches_7 8 rfl rfl)
theorem dX8_matches_176 : decode cX8_matches 176 = .ok (.iload 6, 2) := dk_21 6 (dk_at dksX8_matches_7 11 rfl rfl)
theorem dX8_matches_178 : decode cX8_matches 178 = .ok (.goto 5, 3) := dk_167 0 5 (dk_at dksX8_matches_7 13 rfl rfl)
theorem dX8_matches_181 : decode cX8_matches 181 = .ok (.iload 4, 2) := dk_21 4 (dk_at dksX8_matches_7 16 rfl rfl)
theorem dX8_matches_183 : decode cX8_matches 183 = .ok (.istore 4, 2) := dk_54 4 (dk_at dksX8_matches_7 18 rfl rfl)
theorem dX8_matches_185 : decode cX8_matches 185 = .ok (.iinc 5 1, 3) := dk_132 5 1 (dk_at dksX8_matches_7 20 rfl rfl)
theorem dX8_matches_188 : decode cX8_matches 188 = .ok (.goto (-96), 3) := dk_167 255 160 (dk_at dksX8_matches_8 0 rfl rfl)
theorem dX8_matches_191 : decode cX8_matches 191 = .ok (.aload_n 0, 1) := dk_42 (dk_at dksX8_matches_8 3 rfl rfl)
theorem dX8_matches_192 : decode cX8_matches 192 = .ok (.getfield 43, 3) := dk_180 0 43 (dk_at dksX8_matches_8 4 rfl rfl)
theorem dX8_matches_195 : decode cX8_matches 195 = .ok (.iload_n 1, 1) := dk_27 (dk_at dksX8_matches_8 7 rfl rfl)
theorem dX8_matches_196 : decode cX8_matches 196 = .ok (.ldc_w 333, 3) := dk_19 1 77 (dk_at dksX8_matches_8 8 rfl rfl)
theorem dX8_matches_199 : decode cX8_matches 199 = .ok (.imul, 1) := dk_104 (dk_at dksX8_matches_8 11 rfl rfl)
theorem dX8_matches_200 : decode cX8_matches 200 = .ok (.iload_n 3, 1) := dk_29 (dk_at dksX8_matches_8 12 rfl rfl)
theorem dX8_matches_201 : decode cX8_matches 201 = .ok (.iadd, 1) := dk_96 (dk_at dksX8_matches_8 13 rfl rfl)
theorem dX8_matches_202 : decode cX8_matches 202 = .ok (.iload 4, 2) := dk_21 4 (dk_at dksX8_matches_8 14 rfl rfl)
theorem dX8_matches_204 : decode cX8_matches 204 = .ok (.iastore, 1) := dk_79 (dk_at dksX8_matches_8 16 rfl rfl)
theorem dX8_matches_205 : decode cX8_matches 205 = .ok (.iinc 3 1, 3) := dk_132 3 1 (dk_at dksX8_matches_8 17 rfl rfl)
theorem dX8_matches_208 : decode cX8_matches 208 = .ok (.goto (-155), 3) := dk_167 255 101 (dk_at dksX8_matches_8 20 rfl rfl)
theorem dX8_matches_211 : decode cX8_matches 211 = .ok (.iinc 1 (-1), 3) := dk_132 1 255 (dk_at dksX8_matches_9 0 rfl rfl)
theorem dX8_matches_214 : decode cX8_matches 214 = .ok (.goto (-185), 3) := dk_167 255 71 (dk_at dksX8_matches_9 3 rfl rfl)
theorem dX8_matches_217 : decode cX8_matches 217 = .ok (.iconst 0, 1) := dk_3 (dk_at dksX8_matches_9 6 rfl rfl)
theorem dX8_matches_218 : decode cX8_matches 218 = .ok (.istore_n 1, 1) := dk_60 (dk_at dksX8_matches_9 7 rfl rfl)
theorem dX8_matches_219 : decode cX8_matches 219 = .ok (.iconst 0, 1) := dk_3 (dk_at dksX8_matches_9 8 rfl rfl)
theorem dX8_matches_220 : decode cX8_matches 220 = .ok (.istore_n 2, 1) := dk_61 (dk_at dksX8_matches_9 9 rfl rfl)
theorem dX8_matches_221 : decode cX8_matches 221 = .ok (.iload_n 2, 1) := dk_28 (dk_at dksX8_matches_9 10 rfl rfl)
theorem dX8_matches_222 : decode cX8_matches 222 = .ok (.bipush 8, 2) := dk_16 8 (dk_at dksX8_matches_9 11 rfl rfl)
theorem dX8_matches_224 : decode cX8_matches 224 = .ok (.if_icmp .ge 176, 3) := dk_162 0 176 (dk_at dksX8_matches_9 13 rfl rfl)
theorem dX8_matches_227 : decode cX8_matches 227 = .ok (.aload_n 0, 1) := dk_42 (dk_at dksX8_matches_9 16 rfl rfl)
theorem dX8_matches_228 : decode cX8_matches 228 = .ok (.iload_n 2, 1) := dk_28 (dk_at dksX8_matches_9 17 rfl rfl)
theorem dX8_matches_229 : decode cX8_matches 229 = .ok (.invokevirtual 250, 3) := dk_182 0 250 (dk_at dksX8_matches_9 18 rfl rfl)
theorem dX8_matches_232 : decode cX8_matches 232 = .ok (.ifCond .eq 11, 3) := dk_153 0 11 (dk_at dksX8_matches_9 21 rfl rfl)
theorem dX8_matches_235 : decode cX8_matches 235 = .ok (.aload_n 0, 1) := dk_42 (dk_at dksX8_matches_10 0 rfl rfl)
theorem dX8_matches_236 : decode cX8_matches 236 = .ok (.iload_n 2, 1) := dk_28 (dk_at dksX8_matches_10 1 rfl rfl)
theorem dX8_matches_237 : decode cX8_matches 237 = .ok (.invokevirtual 255, 3) := dk_182 0 255 (dk_at dksX8_matches_10 2 rfl rfl)
theorem dX8_matches_240 : decode cX8_matches 240 = .ok (.goto 4, 3) := dk_167 0 4 (dk_at dksX8_matches_10 5 rfl rfl)
theorem dX8_matches_243 : decode cX8_matches 243 = .ok (.iconst (-1), 1) := dk_2 (dk_at dksX8_matches_10 8 rfl rfl)
theorem dX8_matches_244 : decode cX8_matches 244 = .ok (.istore_n 3, 1) := dk_62 (dk_at dksX8_matches_10 9 rfl rfl)
theorem dX8_matches_245 : decode cX8_matches 245 = .ok (.aload_n 0, 1) := dk_42 (dk_at dksX8_matches_10 10 rfl rfl)
theorem dX8_matches_246 : decode cX8_matches 246 = .ok (.getfield 46, 3) := dk_180 0 46 (dk_at dksX8_matches_10 11 rfl rfl)
theorem dX8_matches_249 : decode cX8_matches 249 = .ok (.iload_n 2, 1) := dk_28 (dk_at dksX8_matches_10 14 rfl rfl)
theorem dX8_matches_250 : decode cX8_matches 250 = .ok (.iconst (-1), 1) := dk_2 (dk_at dksX8_matches_10 15 rfl rfl)
theorem dX8_matches_251 : decode cX8_matches 251 = .ok (.iastore, 1) := dk_79 (dk_at dksX8_matches_10 16 rfl rfl)
theorem dX8_matches_252 : decode cX8_matches 252 = .ok (.iconst 0, 1) := dk_3 (dk_at dksX8_matches_10 17 rfl rfl)
theorem dX8_matches_253 : decode cX8_matches 253 = .ok (.istore 4, 2) := dk_54 4 (dk_at dksX8_matches_10 18 rfl rfl)
theorem dX8_matches_255 : decode cX8_matches 255 = .ok (.iload 4, 2) := dk_21 4 (dk_at dksX8_matches_10 20 rfl rfl)
theorem dX8_matches_257 : decode cX8_matches 257 = .ok (.bipush 15, 2) := dk_16 15 (dk_at dksX8_matches_10 22 rfl rfl)
theorem dX8_matches_259 : decode cX8_matches 259 = .ok (.if_icmp .ge 110, 3) := dk_162 0 110 (dk_at dksX8_matches_11 0 rfl rfl)
theorem dX8_matches_262 : decode cX8_matches 262 = .ok (.iload_n 3, 1) := dk_29 (dk_at dksX8_matches_11 3 rfl rfl)
theorem dX8_matches_263 : decode cX8_matches 263 = .ok (.iconst (-1), 1) := dk_2 (dk_at dksX8_matches_11 4 rfl rfl)
theorem dX8_matches_264 : decode cX8_matches 264 = .ok (.if_icmp .eq 105, 3) := dk_159 0 105 (dk_at dksX8_matches_11 5 rfl rfl)
theorem dX8_matches_267 : decode cX8_matches 267 = .ok (.aload_n 0, 1) := dk_42 (dk_at dksX8_matches_11 8 rfl rfl)
theorem dX8_matches_268 : decode cX8_matches 268 = .ok (.getfield 46, 3) := dk_180 0 46 (dk_at dksX8_matches_11 9 rfl rfl)
theorem dX8_matches_271 : decode cX8_matches 271 = .ok (.iload_n 2, 1) := dk_28 (dk_at dksX8_matches_11 12 rfl rfl)
theorem dX8_matches_272 : decode cX8_matches 272 = .ok (.iaload, 1) := dk_46 (dk_at dksX8_matches_11 13 rfl rfl)
theorem dX8_matches_273 : decode cX8_matches 273 = .ok (.iconst (-1), 1) := dk_2 (dk_at dksX8_matches_11 14 rfl rfl)
theorem dX8_matches_274 : decode cX8_matches 274 = .ok (.if_icmp .ne 95, 3) := dk_160 0 95 (dk_at dksX8_matches_11 15 rfl rfl)
theorem dX8_matches_277 : decode cX8_matches 277 = .ok (.iload_n 1, 1) := dk_27 (dk_at dksX8_matches_11 18 rfl rfl)
theorem dX8_matches_278 : decode cX8_matches 278 = .ok (.iload 4, 2) := dk_21 4 (dk_at dksX8_matches_11 19 rfl rfl)
theorem dX8_matches_280 : decode cX8_matches 280 = .ok (.ishr, 1) := dk_122 (dk_at dksX8_matches_11 21 rfl rfl)
theorem dX8_matches_281 : decode cX8_matches 281 = .ok (.iconst 1, 1) := dk_4 (dk_at dksX8_matches_11 22 rfl rfl)
theorem dX8_matches_282 : decode cX8_matches 282 = .ok (.iand, 1) := dk_126 (dk_at dksX8_matches_11 23 rfl rfl)
theorem dX8_matches_283 : decode cX8_matches 283 = .ok (.iconst 1, 1) := dk_4 (dk_at dksX8_matches_12 0 rfl rfl)
theorem dX8_matches_284 : decode cX8_matches 284 = .ok (.if_icmp .eq 79, 3) := dk_159 0 79 (dk_at dksX8_matches_12 1 rfl rfl)
theorem dX8_matches_287 : decode cX8_matches 287 = .ok (.aload_n 0, 1) := dk_42 (dk_at dksX8_matches_12 4 rfl rfl)
theorem dX8_matches_288 : decode cX8_matches 288 = .ok (.getfield 13, 3) := dk_180 0 13 (dk_at dksX8_matches_12 5 rfl rfl)
theorem dX8_matches_291 : decode cX8_matches 291 = .ok (.bipush 41, 2) := dk_16 41 (dk_at dksX8_matches_12 8 rfl rfl)
theorem dX8_matches_293 : decode cX8_matches 293 = .ok (.iload 4, 2) := dk_21 4 (dk_at dksX8_matches_12 10 rfl rfl)
theorem dX8_matches_295 : decode cX8_matches 295 = .ok (.iadd, 1) := dk_96 (dk_at dksX8_matches_12 12 rfl rfl)
theorem dX8_matches_296 : decode cX8_matches 296 = .ok (.iaload, 1) := dk_46 (dk_at dksX8_matches_12 13 rfl rfl)
theorem dX8_matches_297 : decode cX8_matches 297 = .ok (.aload_n 0, 1) := dk_42 (dk_at dksX8_matches_12 14 rfl rfl)
theorem dX8_matches_298 : decode cX8_matches 298 = .ok (.getfield 13, 3) := dk_180 0 13 (dk_at dksX8_matches_12 15 rfl rfl)
theorem dX8_matches_301 : decode cX8_matches 301 = .ok (.bipush 7, 2) := dk_16 7 (dk_at dksX8_matches_12 18 rfl rfl)
theorem dX8_matches_303 : decode cX8_matches 303 = .ok (.iload_n 2, 1) := dk_28 (dk_at dksX8_matches_12 20 rfl rfl)
theorem dX8_matches_304 : decode cX8_matches 304 = .ok (.iadd, 1) := dk_96 (dk_at dksX8_matches_12 21 rfl rfl)
theorem dX8_matches_305 : decode cX8_matches 305 = .ok (.iaload, 1) := dk_46 (dk_at dksX8_matches_12 22 rfl rfl)
theorem dX8_matches_306 : decode cX8_matches 306 = .ok (.if_icmp .eq 6, 3) := dk_159 0 6 (dk_at dksX8_matches_13 0 rfl rfl)
theorem dX8_matches_309 : decode cX8_matches 309 = .ok (.goto 54, 3) := dk_167 0 54 (dk_at dksX8_matches_13 3 rfl rfl)
theorem dX8_matches_312 : decode cX8_matches 312 = .ok (.aload_n 0, 1) := dk_42 (dk_at dksX8_matches_13 6 rfl rfl)
theorem dX8_matches_313 : decode cX8_matches 313 = .ok (.iload_n 2, 1) := dk_28 (dk_at dksX8_matches_13 7 rfl rfl)
theorem dX8_matches_314 : decode cX8_matches 314 = .ok (.iload 4, 2) := dk_21 4 (dk_at dksX8_matches_13 8 rfl rfl)
theorem dX8_matches_316 : decode cX8_matches 316 = .ok (.iload_n 3, 1) := dk_29 (dk_at dksX8_matches_13 10 rfl rfl)
theorem dX8_matches_317 : decode cX8_matches 317 = .ok (.invokevirtual 336, 3) := dk_182 1 80 (dk_at dksX8_matches_13 11 rfl rfl)
theorem dX8_matches_320 : decode cX8_matches 320 = .ok (.aload_n 0, 1) := dk_42 (dk_at dksX8_matches_13 14 rfl rfl)
theorem dX8_matches_321 : decode cX8_matches 321 = .ok (.getfield 43, 3) := dk_180 0 43 (dk_at dksX8_matches_13 15 rfl rfl)
theorem dX8_matches_324 : decode cX8_matches 324 = .ok (.iload_n 2, 1) := dk_28 (dk_at dksX8_matches_13 18 rfl rfl)
theorem dX8_matches_325 : decode cX8_matches 325 = .ok (.iconst 1, 1) := dk_4 (dk_at dksX8_matches_13 19 rfl rfl)
theorem dX8_matches_326 : decode cX8_matches 326 = .ok (.iadd, 1) := dk_96 (dk_at dksX8_matches_13 20 rfl rfl)
theorem dX8_matches_327 : decode cX8_matches 327 = .ok (.ldc_w 333, 3) := dk_19 1 77 (dk_at dksX8_matches_13 21 rfl rfl)
theorem dX8_matches_330 : decode cX8_matches 330 = .ok (.imul, 1) := dk_104 (dk_at dksX8_matches_14 0 rfl rfl)
theorem dX8_matches_331 : decode cX8_matches 331 = .ok (.iload_n 1, 1) := dk_27 (dk_at dksX8_matches_14 1 rfl rfl)
theorem dX8_matches_332 : decode cX8_matches 332 = .ok (.iconst 1, 1) := dk_4 (dk_at dksX8_matches_14 2 rfl rfl)
theorem dX8_matches_333 : decode cX8_matches 333 = .ok (.iload 4, 2) := dk_21 4 (dk_at dksX8_matches_14 3 rfl rfl)
theorem dX8_matches_335 : decode cX8_matches 335 = .ok (.ishl, 1) := dk_120 (dk_at dksX8_matches_14 5 rfl rfl)
theorem dX8_matches_336 : decode cX8_matches 336 = .ok (.ior, 1) := dk_128 (dk_at dksX8_matches_14 6 rfl rfl)
theorem dX8_matches_337 : decode cX8_matches 337 = .ok (.iadd, 1) := dk_96 (dk_at dksX8_matches_14 7 rfl rfl)
theorem dX8_matches_338 : decode cX8_matches 338 = .ok (.iaload, 1) := dk_46 (dk_at dksX8_matches_14 8 rfl rfl)
theorem dX8_matches_339 : decode cX8_matches 339 = .ok (.iadd, 1) := dk_96 (dk_at dksX8_matches_14 9 rfl rfl)
theorem dX8_matches_340 : decode cX8_matches 340 = .ok (.aload_n 0, 1) := dk_42 (dk_at dksX8_matches_14 10 rfl rfl)
theorem dX8_matches_341 : decode cX8_matches 341 = .ok (.getfield 43, 3) := dk_180 0 43 (dk_at dksX8_matches_14 11 rfl rfl)
theorem dX8_matches_344 : decode cX8_matches 344 = .ok (.iload_n 2, 1) := dk_28 (dk_at dksX8_matches_14 14 rfl rfl)
theorem dX8_matches_345 : decode cX8_matches 345 = .ok (.ldc_w 333, 3) := dk_19 1 77 (dk_at dksX8_matches_14 15 rfl rfl)
theorem dX8_matches_348 : decode cX8_matches 348 = .ok (.imul, 1) := dk_104 (dk_at dksX8_matches_14 18 rfl rfl)
theorem dX8_matches_349 : decode cX8_matches 349 = .ok (.iload_n 1, 1) := dk_27 (dk_at dksX8_matches_14 19 rfl rfl)
theorem dX8_matches_350 : decode cX8_matches 350 = .ok (.iadd, 1) := dk_96 (dk_at dksX8_matches_14 20 rfl rfl)
theorem dX8_matches_351 : decode cX8_matches 351 = .ok (.iaload, 1) := dk_46 (dk_at dksX8_matches_14 21 rfl rfl)
theorem dX8_matches_352 : decode cX8_matches 352 = .ok (.if_icmp .ne 11, 3) := dk_160 0 11 (dk_at dksX8_matches_15 0 rfl rfl)
theorem dX8_matches_355 : decode cX8_matches 355 = .ok (.aload_n 0, 1) := dk_42 (dk_at dksX8_matches_15 3 rfl rfl)
theorem dX8_matches_356 : decode cX8_matches 356 = .ok (.getfield 46, 3) := dk_180 0 46 (dk_at dksX8_matches_15 4 rfl rfl)
theorem dX8_matches_359 : decode cX8_matches 359 = .ok (.iload_n 2, 1) := dk_28 (dk_at dksX8_matches_15 7 rfl rfl)
theorem dX8_matches_360 : decode cX8_matches 360 = .ok (.iload 4, 2) := dk_21 4 (dk_at dksX8_matches_15 8 rfl rfl)
theorem dX8_matches_362 : decode cX8_matches 362 = .ok (.iastore, 1) := dk_79 (dk_at dksX8_matches_15 10 rfl rfl)
theorem dX8_matches_363 : decode cX8_matches 363 = .ok (.iinc 4 1, 3) := dk_132 4 1 (dk_at dksX8_matches_15 11 rfl rfl)
theorem dX8_matches_366 : decode cX8_matches 366 = .ok (.goto (-111), 3) := dk_167 255 145 (dk_at dksX8_matches_15 14 rfl rfl)
theorem dX8_matches_369 : decode cX8_matches 369 = .ok (.iload_n 1, 1) := dk_27 (dk_at dksX8_matches_15 17 rfl rfl)
theorem dX8_matches_370 : decode cX8_matches 370 = .ok (.aload_n 0, 1) := dk_42 (dk_at dksX8_matches_15 18 rfl rfl)
theorem dX8_matches_371 : decode cX8_matches 371 = .ok (.getfield 46, 3) := dk_180 0 46 (dk_at dksX8_matches_15 19 rfl rfl)
theorem dX8_matches_374 : decode cX8_matches 374 = .ok (.iload_n 2, 1) := dk_28 (dk_at dksX8_matches_15 22 rfl rfl)
theorem dX8_matches_375 : decode cX8_matches 375 = .ok (.iaload, 1) := dk_46 (dk_at dksX8_matches_15 23 rfl rfl)
theorem dX8_matches_376 : decode cX8_matches 376 = .ok (.iconst (-1), 1) := dk_2 (dk_at dksX8_matches_16 0 rfl rfl)
theorem dX8_matches_377 : decode cX8_matches 377 = .ok (.if_icmp .ne 7, 3) := dk_160 0 7 (dk_at dksX8_matches_16 1 rfl rfl)
theorem dX8_matches_380 : decode cX8_matches 380 = .ok (.iconst 0, 1) := dk_3 (dk_at dksX8_matches_16 4 rfl rfl)
theorem dX8_matches_381 : decode cX8_matches 381 = .ok (.goto 11, 3) := dk_167 0 11 (dk_at dksX8_matches_16 5 rfl rfl)
theorem dX8_matches_384 : decode cX8_matches 384 = .ok (.iconst 1, 1) := dk_4 (dk_at dksX8_matches_16 8 rfl rfl)
theorem dX8_matches_385 : decode cX8_matches 385 = .ok (.aload_n 0, 1) := dk_42 (dk_at dksX8_matches_16 9 rfl rfl)
theorem dX8_matches_386 : decode cX8_matches 386 = .ok (.getfield 46, 3) := dk_180 0 46 (dk_at dksX8_matches_16 10 rfl rfl)
theorem dX8_matches_389 : decode cX8_matches 389 = .ok (.iload_n 2, 1) := dk_28 (dk_at dksX8_matches_16 13 rfl rfl)
theorem dX8_matches_390 : decode cX8_matches 390 = .ok (.iaload, 1) := dk_46 (dk_at dksX8_matches_16 14 rfl rfl)
theorem dX8_matches_391 : decode cX8_matches 391 = .ok (.ishl, 1) := dk_120 (dk_at dksX8_matches_16 15 rfl rfl)
theorem dX8_matches_392 : decode cX8_matches 392 = .ok (.ior, 1) := dk_128 (dk_at dksX8_matches_16 16 rfl rfl)
theorem dX8_matches_393 : decode cX8_matches 393 = .ok (.istore_n 1, 1) := dk_60 (dk_at dksX8_matches_16 17 rfl rfl)
theorem dX8_matches_394 : decode cX8_matches 394 = .ok (.iinc 2 1, 3) := dk_132 2 1 (dk_at dksX8_matches_16 18 rfl rfl)
theorem dX8_matches_397 : decode cX8_matches 397 = .ok (.goto (-176), 3) := dk_167 255 80 (dk_at dksX8_matches_16 21 rfl rfl)
theorem dX8_matches_400 : decode cX8_matches 400 = .ok (.return_, 1) := dk_177 (dk_at dksX8_matches_17 0 rfl rfl)
abbrev cX8_costOf : ByteArray := prog_20_method_74_code
def yX8_costOf : MethodName := ⟨RX8, "costOf", "(III)I"⟩
def dkwX8_costOf_1 : List UInt8 := [21, 5, 162, 0, 11, 21, 5, 21, 4, 100, 167, 0, 8, 21, 4, 21, 5, 100, 96, 172]
abbrev dktX8_costOf_1 : List UInt8 := dkwX8_costOf_1 ++ []
def dkwX8_costOf_0 : List UInt8 := [28, 6, 108, 54, 4, 29, 6, 108, 54, 5, 28, 29, 160, 0, 7, 3, 167, 0, 6, 17, 3, 232, 21, 4]
abbrev dktX8_costOf_0 : List UInt8 := dkwX8_costOf_0 ++ dktX8_costOf_1
theorem dksX8_costOf_0 : cX8_costOf.data.toList.drop 0 = dktX8_costOf_0 := by decide +kernel
theorem dksX8_costOf_1 : cX8_costOf.data.toList.drop 24 = dktX8_costOf_1 := dk_seg dksX8_costOf_0 24 rfl rfl
theorem dX8_costOf_0 : decode cX8_costOf 0 = .ok (.iload_n 2, 1) := dk_28 (dk_at dksX8_costOf_0 0 rfl rfl)
theorem dX8_costOf_1 : decode cX8_costOf 1 = .ok (.iconst 3, 1) := dk_6 (dk_at dksX8_costOf_0 1 rfl rfl)
theorem dX8_costOf_2 : decode cX8_costOf 2 = .ok (.idiv, 1) := dk_108 (dk_at dksX8_costOf_0 2 rfl rfl)
theorem dX8_costOf_3 : decode cX8_costOf 3 = .ok (.istore 4, 2) := dk_54 4 (dk_at dksX8_costOf_0 3 rfl rfl)
theorem dX8_costOf_5 : decode cX8_costOf 5 = .ok (.iload_n 3, 1) := dk_29 (dk_at dksX8_costOf_0 5 rfl rfl)
theorem dX8_costOf_6 : decode cX8_costOf 6 = .ok (.iconst 3, 1) := dk_6 (dk_at dksX8_costOf_0 6 rfl rfl)
theorem dX8_costOf_7 : decode cX8_costOf 7 = .ok (.idiv, 1) := dk_108 (dk_at dksX8_costOf_0 7 rfl rfl)
theorem dX8_costOf_8 : decode cX8_costOf 8 = .ok (.istore 5, 2) := dk_54 5 (dk_at dksX8_costOf_0 8 rfl rfl)
theorem dX8_costOf_10 : decode cX8_costOf 10 = .ok (.iload_n 2, 1) := dk_28 (dk_at dksX8_costOf_0 10 rfl rfl)
theorem dX8_costOf_11 : decode cX8_costOf 11 = .ok (.iload_n 3, 1) := dk_29 (dk_at dksX8_costOf_0 11 rfl rfl)
theorem dX8_costOf_12 : decode cX8_costOf 12 = .ok (.if_icmp .ne 7, 3) := dk_160 0 7 (dk_at dksX8_costOf_0 12 rfl rfl)
theorem dX8_costOf_15 : decode cX8_costOf 15 = .ok (.iconst 0, 1) := dk_3 (dk_at dksX8_costOf_0 15 rfl rfl)
theorem dX8_costOf_16 : decode cX8_costOf 16 = .ok (.goto 6, 3) := dk_167 0 6 (dk_at dksX8_costOf_0 16 rfl rfl)
theorem dX8_costOf_19 : decode cX8_costOf 19 = .ok (.sipush 1000, 3) := dk_17 3 232 (dk_at dksX8_costOf_0 19 rfl rfl)
theorem dX8_costOf_22 : decode cX8_costOf 22 = .ok (.iload 4, 2) := dk_21 4 (dk_at dksX8_costOf_0 22 rfl rfl)
theorem dX8_costOf_24 : decode cX8_costOf 24 = .ok (.iload 5, 2) := dk_21 5 (dk_at dksX8_costOf_1 0 rfl rfl)
theorem dX8_costOf_26 : decode cX8_costOf 26 = .ok (.if_icmp .ge 11, 3) := dk_162 0 11 (dk_at dksX8_costOf_1 2 rfl rfl)
theorem dX8_costOf_29 : decode cX8_costOf 29 = .ok (.iload 5, 2) := dk_21 5 (dk_at dksX8_costOf_1 5 rfl rfl)
theorem dX8_costOf_31 : decode cX8_costOf 31 = .ok (.iload 4, 2) := dk_21 4 (dk_at dksX8_costOf_1 7 rfl rfl)
theorem dX8_costOf_33 : decode cX8_costOf 33 = .ok (.isub, 1) := dk_100 (dk_at dksX8_costOf_1 9 rfl rfl)
theorem dX8_costOf_34 : decode cX8_costOf 34 = .ok (.goto 8, 3) := dk_167 0 8 (dk_at dksX8_costOf_1 10 rfl rfl)
theorem dX8_costOf_37 : decode cX8_costOf 37 = .ok (.iload 4, 2) := dk_21 4 (dk_at dksX8_costOf_1 13 rfl rfl)
theorem dX8_costOf_39 : decode cX8_costOf 39 = .ok (.iload 5, 2) := dk_21 5 (dk_at dksX8_costOf_1 15 rfl rfl)
theorem dX8_costOf_41 : decode cX8_costOf 41 = .ok (.isub, 1) := dk_100 (dk_at dksX8_costOf_1 17 rfl rfl)
theorem dX8_costOf_42 : decode cX8_costOf 42 = .ok (.iadd, 1) := dk_96 (dk_at dksX8_costOf_1 18 rfl rfl)
theorem dX8_costOf_43 : decode cX8_costOf 43 = .ok (.ireturn, 1) := dk_172 (dk_at dksX8_costOf_1 19 rfl rfl)
abbrev cX8_isAway : ByteArray := prog_20_method_76_code
def yX8_isAway : MethodName := ⟨RX8, "isAway", "(I)Z"⟩
def dkwX8_isAway_1 : List UInt8 := [4, 167, 0, 4, 3, 172]
abbrev dktX8_isAway_1 : List UInt8 := dkwX8_isAway_1 ++ []
def dkwX8_isAway_0 : List UInt8 := [42, 180, 0, 46, 27, 46, 2, 159, 0, 21, 42, 180, 0, 46, 27, 46, 42, 27, 182, 0, 255, 159, 0, 7]
abbrev dktX8_isAway_0 : List UInt8 := dkwX8_isAway_0 ++ dktX8_isAway_1
theorem dksX8_isAway_0 : cX8_isAway.data.toList.drop 0 = dktX8_isAway_0 := by decide +kernel
theorem dksX8_isAway_1 : cX8_isAway.data.toList.drop 24 = dktX8_isAway_1 := dk_seg dksX8_isAway_0 24 rfl rfl
theorem dX8_isAway_0 : decode cX8_isAway 0 = .ok (.aload_n 0, 1) := dk_42 (dk_at dksX8_isAway_0 0 rfl rfl)
theorem dX8_isAway_1 : decode cX8_isAway 1 = .ok (.getfield 46, 3) := dk_180 0 46 (dk_at dksX8_isAway_0 1 rfl rfl)
theorem dX8_isAway_4 : decode cX8_isAway 4 = .ok (.iload_n 1, 1) := dk_27 (dk_at dksX8_isAway_0 4 rfl rfl)
theorem dX8_isAway_5 : decode cX8_isAway 5 = .ok (.iaload, 1) := dk_46 (dk_at dksX8_isAway_0 5 rfl rfl)
theorem dX8_isAway_6 : decode cX8_isAway 6 = .ok (.iconst (-1), 1) := dk_2 (dk_at dksX8_isAway_0 6 rfl rfl)
theorem dX8_isAway_7 : decode cX8_isAway 7 = .ok (.if_icmp .eq 21, 3) := dk_159 0 21 (dk_at dksX8_isAway_0 7 rfl rfl)
theorem dX8_isAway_10 : decode cX8_isAway 10 = .ok (.aload_n 0, 1) := dk_42 (dk_at dksX8_isAway_0 10 rfl rfl)
theorem dX8_isAway_11 : decode cX8_isAway 11 = .ok (.getfield 46, 3) := dk_180 0 46 (dk_at dksX8_isAway_0 11 rfl rfl)
theorem dX8_isAway_14 : decode cX8_isAway 14 = .ok (.iload_n 1, 1) := dk_27 (dk_at dksX8_isAway_0 14 rfl rfl)
theorem dX8_isAway_15 : decode cX8_isAway 15 = .ok (.iaload, 1) := dk_46 (dk_at dksX8_isAway_0 15 rfl rfl)
theorem dX8_isAway_16 : decode cX8_isAway 16 = .ok (.aload_n 0, 1) := dk_42 (dk_at dksX8_isAway_0 16 rfl rfl)
theorem dX8_isAway_17 : decode cX8_isAway 17 = .ok (.iload_n 1, 1) := dk_27 (dk_at dksX8_isAway_0 17 rfl rfl)
theorem dX8_isAway_18 : decode cX8_isAway 18 = .ok (.invokevirtual 255, 3) := dk_182 0 255 (dk_at dksX8_isAway_0 18 rfl rfl)
theorem dX8_isAway_21 : decode cX8_isAway 21 = .ok (.if_icmp .eq 7, 3) := dk_159 0 7 (dk_at dksX8_isAway_0 21 rfl rfl)
theorem dX8_isAway_24 : decode cX8_isAway 24 = .ok (.iconst 1, 1) := dk_4 (dk_at dksX8_isAway_1 0 rfl rfl)
theorem dX8_isAway_25 : decode cX8_isAway 25 = .ok (.goto 4, 3) := dk_167 0 4 (dk_at dksX8_isAway_1 1 rfl rfl)
theorem dX8_isAway_28 : decode cX8_isAway 28 = .ok (.iconst 0, 1) := dk_3 (dk_at dksX8_isAway_1 4 rfl rfl)
theorem dX8_isAway_29 : decode cX8_isAway 29 = .ok (.ireturn, 1) := dk_172 (dk_at dksX8_isAway_1 5 rfl rfl)
abbrev cX8_once : ByteArray := prog_20_method_79_code
def yX8_once : MethodName := ⟨RX8, "once", "(I)I"⟩
def dkwX8_once_4 : List UInt8 := [167, 0, 4, 2, 172]
abbrev dktX8_once_4 : List UInt8 := dkwX8_once_4 ++ []
def dkwX8_once_3 : List UInt8 := [28, 167, 0, 26, 27, 133, 9, 28, 4, 100, 133, 184, 0, 153, 153, 0, 12, 42, 180, 0, 49, 27, 46]
abbrev dktX8_once_3 : List UInt8 := dkwX8_once_3 ++ dktX8_once_4
def dkwX8_once_2 : List UInt8 := [182, 1, 4, 42, 3, 181, 0, 211, 42, 3, 28, 182, 1, 94, 154, 0, 5, 2, 172, 27, 2, 160, 0, 7]
abbrev dktX8_once_2 : List UInt8 := dkwX8_once_2 ++ dktX8_once_3
def dkwX8_once_1 : List UInt8 := [28, 42, 29, 182, 1, 87, 153, 0, 7, 4, 167, 0, 4, 3, 96, 61, 132, 3, 1, 167, 255, 226, 42]
abbrev dktX8_once_1 : List UInt8 := dkwX8_once_1 ++ dktX8_once_2
def dkwX8_once_0 : List UInt8 := [42, 3, 181, 0, 1, 42, 182, 1, 84, 3, 61, 3, 62, 29, 42, 180, 0, 13, 16, 6, 46, 162, 0, 25]
abbrev dktX8_once_0 : List UInt8 := dkwX8_once_0 ++ dktX8_once_1
theorem dksX8_once_0 : cX8_once.data.toList.drop 0 = dktX8_once_0 := by decide +kernel
theorem dksX8_once_1 : cX8_once.data.toList.drop 24 = dktX8_once_1 := dk_seg dksX8_once_0 24 rfl rfl
theorem dksX8_once_2 : cX8_once.data.toList.drop 47 = dktX8_once_2 := dk_seg dksX8_once_1 23 rfl rfl
theorem dksX8_once_3 : cX8_once.data.toList.drop 71 = dktX8_once_3 := dk_seg dksX8_once_2 24 rfl rfl
theorem dksX8_once_4 : cX8_once.data.toList.drop 94 = dktX8_once_4 := dk_seg dksX8_once_3 23 rfl rfl
theorem dX8_once_0 : decode cX8_once 0 = .ok (.aload_n 0, 1) := dk_42 (dk_at dksX8_once_0 0 rfl rfl)
theorem dX8_once_1 : decode cX8_once 1 = .ok (.iconst 0, 1) := dk_3 (dk_at dksX8_once_0 1 rfl rfl)
theorem dX8_once_2 : decode cX8_once 2 = .ok (.putfield 1, 3) := dk_181 0 1 (dk_at dksX8_once_0 2 rfl rfl)
theorem dX8_once_5 : decode cX8_once 5 = .ok (.aload_n 0, 1) := dk_42 (dk_at dksX8_once_0 5 rfl rfl)
theorem dX8_once_6 : decode cX8_once 6 = .ok (.invokevirtual 340, 3) := dk_182 1 84 (dk_at dksX8_once_0 6 rfl rfl)
theorem dX8_once_9 : decode cX8_once 9 = .ok (.iconst 0, 1) := dk_3 (dk_at dksX8_once_0 9 rfl rfl)
theorem dX8_once_10 : decode cX8_once 10 = .ok (.istore_n 2, 1) := dk_61 (dk_at dksX8_once_0 10 rfl rfl)
theorem dX8_once_11 : decode cX8_once 11 = .ok (.iconst 0, 1) := dk_3 (dk_at dksX8_once_0 11 rfl rfl)
theorem dX8_once_12 : decode cX8_once 12 = .ok (.istore_n 3, 1) := dk_62 (dk_at dksX8_once_0 12 rfl rfl)
theorem dX8_once_13 : decode cX8_once 13 = .ok (.iload_n 3, 1) := dk_29 (dk_at dksX8_once_0 13 rfl rfl)
theorem dX8_once_14 : decode cX8_once 14 = .ok (.aload_n 0, 1) := dk_42 (dk_at dksX8_once_0 14 rfl rfl)
theorem dX8_once_15 : decode cX8_once 15 = .ok (.getfield 13, 3) := dk_180 0 13 (dk_at dksX8_once_0 15 rfl rfl)
theorem dX8_once_18 : decode cX8_once 18 = .ok (.bipush 6, 2) := dk_16 6 (dk_at dksX8_once_0 18 rfl rfl)
theorem dX8_once_20 : decode cX8_once 20 = .ok (.iaload, 1) := dk_46 (dk_at dksX8_once_0 20 rfl rfl)
theorem dX8_once_21 : decode cX8_once 21 = .ok (.if_icmp .ge 25, 3) := dk_162 0 25 (dk_at dksX8_once_0 21 rfl rfl)
theorem dX8_once_24 : decode cX8_once 24 = .ok (.iload_n 2, 1) := dk_28 (dk_at dksX8_once_1 0 rfl rfl)
theorem dX8_once_25 : decode cX8_once 25 = .ok (.aload_n 0, 1) := dk_42 (dk_at dksX8_once_1 1 rfl rfl)
theorem dX8_once_26 : decode cX8_once 26 = .ok (.iload_n 3, 1) := dk_29 (dk_at dksX8_once_1 2 rfl rfl)
theorem dX8_once_27 : decode cX8_once 27 = .ok (.invokevirtual 343, 3) := dk_182 1 87 (dk_at dksX8_once_1 3 rfl rfl)
theorem dX8_once_30 : decode cX8_once 30 = .ok (.ifCond .eq 7, 3) := dk_153 0 7 (dk_at dksX8_once_1 6 rfl rfl)
theorem dX8_once_33 : decode cX8_once 33 = .ok (.iconst 1, 1) := dk_4 (dk_at dksX8_once_1 9 rfl rfl)
theorem dX8_once_34 : decode cX8_once 34 = .ok (.goto 4, 3) := dk_167 0 4 (dk_at dksX8_once_1 10 rfl rfl)
theorem dX8_once_37 : decode cX8_once 37 = .ok (.iconst 0, 1) := dk_3 (dk_at dksX8_once_1 13 rfl rfl)
theorem dX8_once_38 : decode cX8_once 38 = .ok (.iadd, 1) := dk_96 (dk_at dksX8_once_1 14 rfl rfl)
theorem dX8_once_39 : decode cX8_once 39 = .ok (.istore_n 2, 1) := dk_61 (dk_at dksX8_once_1 15 rfl rfl)
theorem dX8_once_40 : decode cX8_once 40 = .ok (.iinc 3 1, 3) := dk_132 3 1 (dk_at dksX8_once_1 16 rfl rfl)
theorem dX8_once_43 : decode cX8_once 43 = .ok (.goto (-30), 3) := dk_167 255 226 (dk_at dksX8_once_1 19 rfl rfl)
theorem dX8_once_46 : decode cX8_once 46 = .ok (.aload_n 0, 1) := dk_42 (dk_at dksX8_once_1 22 rfl rfl)
theorem dX8_once_47 : decode cX8_once 47 = .ok (.invokevirtual 260, 3) := dk_182 1 4 (dk_at dksX8_once_2 0 rfl rfl)
theorem dX8_once_50 : decode cX8_once 50 = .ok (.aload_n 0, 1) := dk_42 (dk_at dksX8_once_2 3 rfl rfl)
theorem dX8_once_51 : decode cX8_once 51 = .ok (.iconst 0, 1) := dk_3 (dk_at dksX8_once_2 4 rfl rfl)
theorem dX8_once_52 : decode cX8_once 52 = .ok (.putfield 211, 3) := dk_181 0 211 (dk_at dksX8_once_2 5 rfl rfl)
theorem dX8_once_55 : decode cX8_once 55 = .ok (.aload_n 0, 1) := dk_42 (dk_at dksX8_once_2 8 rfl rfl)
theorem dX8_once_56 : decode cX8_once 56 = .ok (.iconst 0, 1) := dk_3 (dk_at dksX8_once_2 9 rfl rfl)
theorem dX8_once_57 : decode cX8_once 57 = .ok (.iload_n 2, 1) := dk_28 (dk_at dksX8_once_2 10 rfl rfl)
theorem dX8_once_58 : decode cX8_once 58 = .ok (.invokevirtual 350, 3) := dk_182 1 94 (dk_at dksX8_once_2 11 rfl rfl)
theorem dX8_once_61 : decode cX8_once 61 = .ok (.ifCond .ne 5, 3) := dk_154 0 5 (dk_at dksX8_once_2 14 rfl rfl)
theorem dX8_once_64 : decode cX8_once 64 = .ok (.iconst (-1), 1) := dk_2 (dk_at dksX8_once_2 17 rfl rfl)
theorem dX8_once_65 : decode cX8_once 65 = .ok (.ireturn, 1) := dk_172 (dk_at dksX8_once_2 18 rfl rfl)
theorem dX8_once_66 : decode cX8_once 66 = .ok (.iload_n 1, 1) := dk_27 (dk_at dksX8_once_2 19 rfl rfl)
theorem dX8_once_67 : decode cX8_once 67 = .ok (.iconst (-1), 1) := dk_2 (dk_at dksX8_once_2 20 rfl rfl)
theorem dX8_once_68 : decode cX8_once 68 = .ok (.if_icmp .ne 7, 3) := dk_160 0 7 (dk_at dksX8_once_2 21 rfl rfl)
theorem dX8_once_71 : decode cX8_once 71 = .ok (.iload_n 2, 1) := dk_28 (dk_at dksX8_once_3 0 rfl rfl)
theorem dX8_once_72 : decode cX8_once 72 = .ok (.goto 26, 3) := dk_167 0 26 (dk_at dksX8_once_3 1 rfl rfl)
theorem dX8_once_75 : decode cX8_once 75 = .ok (.iload_n 1, 1) := dk_27 (dk_at dksX8_once_3 4 rfl rfl)
theorem dX8_once_76 : decode cX8_once 76 = .ok (.i2l, 1) := dk_133 (dk_at dksX8_once_3 5 rfl rfl)
theorem dX8_once_77 : decode cX8_once 77 = .ok (.lconst 0, 1) := dk_9 (dk_at dksX8_once_3 6 rfl rfl)
theorem dX8_once_78 : decode cX8_once 78 = .ok (.iload_n 2, 1) := dk_28 (dk_at dksX8_once_3 7 rfl rfl)
theorem dX8_once_79 : decode cX8_once 79 = .ok (.iconst 1, 1) := dk_4 (dk_at dksX8_once_3 8 rfl rfl)
theorem dX8_once_80 : decode cX8_once 80 = .ok (.isub, 1) := dk_100 (dk_at dksX8_once_3 9 rfl rfl)
theorem dX8_once_81 : decode cX8_once 81 = .ok (.i2l, 1) := dk_133 (dk_at dksX8_once_3 10 rfl rfl)
theorem dX8_once_82 : decode cX8_once 82 = .ok (.invokestatic 153, 3) := dk_184 0 153 (dk_at dksX8_once_3 11 rfl rfl)
theorem dX8_once_85 : decode cX8_once 85 = .ok (.ifCond .eq 12, 3) := dk_153 0 12 (dk_at dksX8_once_3 14 rfl rfl)
theorem dX8_once_88 : decode cX8_once 88 = .ok (.aload_n 0, 1) := dk_42 (dk_at dksX8_once_3 17 rfl rfl)
theorem dX8_once_89 : decode cX8_once 89 = .ok (.getfield 49, 3) := dk_180 0 49 (dk_at dksX8_once_3 18 rfl rfl)
theorem dX8_once_92 : decode cX8_once 92 = .ok (.iload_n 1, 1) := dk_27 (dk_at dksX8_once_3 21 rfl rfl)
theorem dX8_once_93 : decode cX8_once 93 = .ok (.iaload, 1) := dk_46 (dk_at dksX8_once_3 22 rfl rfl)
theorem dX8_once_94 : decode cX8_once 94 = .ok (.goto 4, 3) := dk_167 0 4 (dk_at dksX8_once_4 0 rfl rfl)
theorem dX8_once_97 : decode cX8_once 97 = .ok (.iconst (-1), 1) := dk_2 (dk_at dksX8_once_4 3 rfl rfl)
theorem dX8_once_98 : decode cX8_once 98 = .ok (.ireturn, 1) := dk_172 (dk_at dksX8_once_4 4 rfl rfl)
abbrev cX8_orders : ByteArray := prog_20_method_78_code
def yX8_orders : MethodName := ⟨RX8, "orders", "(II)Z"⟩
def dkwX8_orders_7 : List UInt8 := [42, 33, 21, 5, 182, 1, 97, 132, 6, 1, 167, 255, 106, 3, 172]
abbrev dktX8_orders_7 : List UInt8 := dkwX8_orders_7 ++ []
def dkwX8_orders_6 : List UInt8 := [182, 1, 16, 42, 180, 0, 49, 27, 21, 6, 79, 42, 27, 4, 96, 28, 182, 1, 94, 153, 0, 5, 4, 172]
abbrev dktX8_orders_6 : List UInt8 := dkwX8_orders_6 ++ dktX8_orders_7
def dkwX8_orders_5 : List UInt8 := [21, 8, 46, 96, 42, 180, 0, 46, 21, 6, 46, 159, 0, 6, 167, 0, 39, 42, 21, 7, 21, 8]
abbrev dktX8_orders_5 : List UInt8 := dkwX8_orders_5 ++ dktX8_orders_6
def dkwX8_orders_4 : List UInt8 := [21, 6, 160, 0, 75, 42, 21, 7, 21, 8, 182, 1, 10, 154, 0, 64, 6, 21, 8, 104, 42, 180, 0, 33]
abbrev dktX8_orders_4 : List UInt8 := dkwX8_orders_4 ++ dktX8_orders_5
def dkwX8_orders_3 : List UInt8 := [21, 6, 46, 6, 108, 54, 8, 42, 180, 0, 33, 21, 7, 46, 153, 0, 86, 42, 21, 7, 182, 0, 226]
abbrev dktX8_orders_3 : List UInt8 := dkwX8_orders_3 ++ dktX8_orders_4
def dkwX8_orders_2 : List UInt8 := [182, 0, 229, 153, 0, 6, 167, 0, 117, 42, 21, 6, 182, 0, 255, 6, 108, 54, 7, 42, 180, 0, 46]
abbrev dktX8_orders_2 : List UInt8 := dkwX8_orders_2 ++ dktX8_orders_3
def dkwX8_orders_1 : List UInt8 := [21, 6, 42, 180, 0, 13, 16, 6, 46, 162, 0, 144, 42, 21, 6, 182, 1, 87, 153, 0, 129, 42, 21, 6]
abbrev dktX8_orders_1 : List UInt8 := dkwX8_orders_1 ++ dktX8_orders_2
def dkwX8_orders_0 : List UInt8 := [27, 28, 160, 0, 5, 4, 172, 42, 180, 0, 30, 184, 1, 90, 66, 42, 180, 0, 211, 54, 5, 3, 54, 6]
abbrev dktX8_orders_0 : List UInt8 := dkwX8_orders_0 ++ dktX8_orders_1
theorem dksX8_orders_0 : cX8_orders.data.toList.drop 0 = dktX8_orders_0 := by decide +kernel
theorem dksX8_orders_1 : cX8_orders.data.toList.drop 24 = dktX8_orders_1 := dk_seg dksX8_orders_0 24 rfl rfl
theorem dksX8_orders_2 : cX8_orders.data.toList.drop 48 = dktX8_orders_2 := dk_seg dksX8_orders_1 24 rfl rfl
theorem dksX8_orders_3 : cX8_orders.data.toList.drop 71 = dktX8_orders_3 := dk_seg dksX8_orders_2 23 rfl rfl
theorem dksX8_orders_4 : cX8_orders.data.toList.drop 94 = dktX8_orders_4 := dk_seg dksX8_orders_3 23 rfl rfl
theorem dksX8_orders_5 : cX8_orders.data.toList.drop 118 = dktX8_orders_5 := dk_seg dksX8_orders_4 24 rfl rfl
theorem dksX8_orders_6 : cX8_orders.data.toList.drop 140 = dktX8_orders_6 := dk_seg dksX8_orders_5 22 rfl rfl
theorem dksX8_orders_7 : cX8_orders.data.toList.drop 164 = dktX8_orders_7 := dk_seg dksX8_orders_6 24 rfl rfl
theorem dX8_orders_0 : decode cX8_orders 0 = .ok (.iload_n 1, 1) := dk_27 (dk_at dksX8_orders_0 0 rfl rfl)
theorem dX8_orders_1 : decode cX8_orders 1 = .ok (.iload_n 2, 1) := dk_28 (dk_at dksX8_orders_0 1 rfl rfl)
theorem dX8_orders_2 : decode cX8_orders 2 = .ok (.if_icmp .ne 5, 3) := dk_160 0 5 (dk_at dksX8_orders_0 2 rfl rfl)
theorem dX8_orders_5 : decode cX8_orders 5 = .ok (.iconst 1, 1) := dk_4 (dk_at dksX8_orders_0 5 rfl rfl)
theorem dX8_orders_6 : decode cX8_orders 6 = .ok (.ireturn, 1) := dk_172 (dk_at dksX8_orders_0 6 rfl rfl)
theorem dX8_orders_7 : decode cX8_orders 7 = .ok (.aload_n 0, 1) := dk_42 (dk_at dksX8_orders_0 7 rfl rfl)
theorem dX8_orders_8 : decode cX8_orders 8 = .ok (.getfield 30, 3) := dk_180 0 30 (dk_at dksX8_orders_0 8 rfl rfl)
theorem dX8_orders_11 : decode cX8_orders 11 = .ok (.invokestatic 346, 3) := dk_184 1 90 (dk_at dksX8_orders_0 11 rfl rfl)
theorem dX8_orders_14 : decode cX8_orders 14 = .ok (.lstore_n 3, 1) := dk_66 (dk_at dksX8_orders_0 14 rfl rfl)
theorem dX8_orders_15 : decode cX8_orders 15 = .ok (.aload_n 0, 1) := dk_42 (dk_at dksX8_orders_0 15 rfl rfl)
theorem dX8_orders_16 : decode cX8_orders 16 = .ok (.getfield 211, 3) := dk_180 0 211 (dk_at dksX8_orders_0 16 rfl rfl)
theorem dX8_orders_19 : decode cX8_orders 19 = .ok (.istore 5, 2) := dk_54 5 (dk_at dksX8_orders_0 19 rfl rfl)
theorem dX8_orders_21 : decode cX8_orders 21 = .ok (.iconst 0, 1) := dk_3 (dk_at dksX8_orders_0 21 rfl rfl)
theorem dX8_orders_22 : decode cX8_orders 22 = .ok (.istore 6, 2) := dk_54 6 (dk_at dksX8_orders_0 22 rfl rfl)
theorem dX8_orders_24 : decode cX8_orders 24 = .ok (.iload 6, 2) := dk_21 6 (dk_at dksX8_orders_1 0 rfl rfl)
theorem dX8_orders_26 : decode cX8_orders 26 = .ok (.aload_n 0, 1) := dk_42 (dk_at dksX8_orders_1 2 rfl rfl)
theorem dX8_orders_27 : decode cX8_orders 27 = .ok (.getfield 13, 3) := dk_180 0 13 (dk_at dksX8_orders_1 3 rfl rfl)
theorem dX8_orders_30 : decode cX8_orders 30 = .ok (.bipush 6, 2) := dk_16 6 (dk_at dksX8_orders_1 6 rfl rfl)
theorem dX8_orders_32 : decode cX8_orders 32 = .ok (.iaload, 1) := dk_46 (dk_at dksX8_orders_1 8 rfl rfl)
theorem dX8_orders_33 : decode cX8_orders 33 = .ok (.if_icmp .ge 144, 3) := dk_162 0 144 (dk_at dksX8_orders_1 9 rfl rfl)
theorem dX8_orders_36 : decode cX8_orders 36 = .ok (.aload_n 0, 1) := dk_42 (dk_at dksX8_orders_1 12 rfl rfl)
theorem dX8_orders_37 : decode cX8_orders 37 = .ok (.iload 6, 2) := dk_21 6 (dk_at dksX8_orders_1 13 rfl rfl)
theorem dX8_orders_39 : decode cX8_orders 39 = .ok (.invokevirtual 343, 3) := dk_182 1 87 (dk_at dksX8_orders_1 15 rfl rfl)
theorem dX8_orders_42 : decode cX8_orders 42 = .ok (.ifCond .eq 129, 3) := dk_153 0 129 (dk_at dksX8_orders_1 18 rfl rfl)
theorem dX8_orders_45 : decode cX8_orders 45 = .ok (.aload_n 0, 1) := dk_42 (dk_at dksX8_orders_1 21 rfl rfl)
theorem dX8_orders_46 : decode cX8_orders 46 = .ok (.iload 6, 2) := dk_21 6 (dk_at dksX8_orders_1 22 rfl rfl)
theorem dX8_orders_48 : decode cX8_orders 48 = .ok (.invokevirtual 229, 3) := dk_182 0 229 (dk_at dksX8_orders_2 0 rfl rfl)
theorem dX8_orders_51 : decode cX8_orders 51 = .ok (.ifCond .eq 6, 3) := dk_153 0 6 (dk_at dksX8_orders_2 3 rfl rfl)
theorem dX8_orders_54 : decode cX8_orders 54 = .ok (.goto 117, 3) := dk_167 0 117 (dk_at dksX8_orders_2 6 rfl rfl)
theorem dX8_orders_57 : decode cX8_orders 57 = .ok (.aload_n 0, 1) := dk_42 (dk_at dksX8_orders_2 9 rfl rfl)
theorem dX8_orders_58 : decode cX8_orders 58 = .ok (.iload 6, 2) := dk_21 6 (dk_at dksX8_orders_2 10 rfl rfl)
theorem dX8_orders_60 : decode cX8_orders 60 = .ok (.invokevirtual 255, 3) := dk_182 0 255 (dk_at dksX8_orders_2 12 rfl rfl)
theorem dX8_orders_63 : decode cX8_orders 63 = .ok (.iconst 3, 1) := dk_6 (dk_at dksX8_orders_2 15 rfl rfl)
theorem dX8_orders_64 : decode cX8_orders 64 = .ok (.idiv, 1) := dk_108 (dk_at dksX8_orders_2 16 rfl rfl)
theorem dX8_orders_65 : decode cX8_orders 65 = .ok (.istore 7, 2) := dk_54 7 (dk_at dksX8_orders_2 17 rfl rfl)
theorem dX8_orders_67 : decode cX8_orders 67 = .ok (.aload_n 0, 1) := dk_42 (dk_at dksX8_orders_2 19 rfl rfl)
theorem dX8_orders_68 : decode cX8_orders 68 = .ok (.getfield 46, 3) := dk_180 0 46 (dk_at dksX8_orders_2 20 rfl rfl)
theorem dX8_orders_71 : decode cX8_orders 71 = .ok (.iload 6, 2) := dk_21 6 (dk_at dksX8_orders_3 0 rfl rfl)
theorem dX8_orders_73 : decode cX8_orders 73 = .ok (.iaload, 1) := dk_46 (dk_at dksX8_orders_3 2 rfl rfl)
theorem dX8_orders_74 : decode cX8_orders 74 = .ok (.iconst 3, 1) := dk_6 (dk_at dksX8_orders_3 3 rfl rfl)
theorem dX8_orders_75 : decode cX8_orders 75 = .ok (.idiv, 1) := dk_108 (dk_at dksX8_orders_3 4 rfl rfl)
theorem dX8_orders_76 : decode cX8_orders 76 = .ok (.istore 8, 2) := dk_54 8 (dk_at dksX8_orders_3 5 rfl rfl)
theorem dX8_orders_78 : decode cX8_orders 78 = .ok (.aload_n 0, 1) := dk_42 (dk_at dksX8_orders_3 7 rfl rfl)
theorem dX8_orders_79 : decode cX8_orders 79 = .ok (.getfield 33, 3) := dk_180 0 33 (dk_at dksX8_orders_3 8 rfl rfl)
theorem dX8_orders_82 : decode cX8_orders 82 = .ok (.iload 7, 2) := dk_21 7 (dk_at dksX8_orders_3 11 rfl rfl)
theorem dX8_orders_84 : decode cX8_orders 84 = .ok (.iaload, 1) := dk_46 (dk_at dksX8_orders_3 13 rfl rfl)
theorem dX8_orders_85 : decode cX8_orders 85 = .ok (.ifCond .eq 86, 3) := dk_153 0 86 (dk_at dksX8_orders_3 14 rfl rfl)
theorem dX8_orders_88 : decode cX8_orders 88 = .ok (.aload_n 0, 1) := dk_42 (dk_at dksX8_orders_3 17 rfl rfl)
theorem dX8_orders_89 : decode cX8_orders 89 = .ok (.iload 7, 2) := dk_21 7 (dk_at dksX8_orders_3 18 rfl rfl)
theorem dX8_orders_91 : decode cX8_orders 91 = .ok (.invokevirtual 226, 3) := dk_182 0 226 (dk_at dksX8_orders_3 20 rfl rfl)
theorem dX8_orders_94 : decode cX8_orders 94 = .ok (.iload 6, 2) := dk_21 6 (dk_at dksX8_orders_4 0 rfl rfl)
theorem dX8_orders_96 : decode cX8_orders 96 = .ok (.if_icmp .ne 75, 3) := dk_160 0 75 (dk_at dksX8_orders_4 2 rfl rfl)
theorem dX8_orders_99 : decode cX8_orders 99 = .ok (.aload_n 0, 1) := dk_42 (dk_at dksX8_orders_4 5 rfl rfl)
theorem dX8_orders_100 : decode cX8_orders 100 = .ok (.iload 7, 2) := dk_21 7 (dk_at dksX8_orders_4 6 rfl rfl)
theorem dX8_orders_102 : decode cX8_orders 102 = .ok (.iload 8, 2) := dk_21 8 (dk_at dksX8_orders_4 8 rfl rfl)
theorem dX8_orders_104 : decode cX8_orders 104 = .ok (.invokevirtual 266, 3) := dk_182 1 10 (dk_at dksX8_orders_4 10 rfl rfl)
theorem dX8_orders_107 : decode cX8_orders 107 = .ok (.ifCond .ne 64, 3) := dk_154 0 64 (dk_at dksX8_orders_4 13 rfl rfl)
theorem dX8_orders_110 : decode cX8_orders 110 = .ok (.iconst 3, 1) := dk_6 (dk_at dksX8_orders_4 16 rfl rfl)
theorem dX8_orders_111 : decode cX8_orders 111 = .ok (.iload 8, 2) := dk_21 8 (dk_at dksX8_orders_4 17 rfl rfl)
theorem dX8_orders_113 : decode cX8_orders 113 = .ok (.imul, 1) := dk_104 (dk_at dksX8_orders_4 19 rfl rfl)
theorem dX8_orders_114 : decode cX8_orders 114 = .ok (.aload_n 0, 1) := dk_42 (dk_at dksX8_orders_4 20 rfl rfl)
theorem dX8_orders_115 : decode cX8_orders 115 = .ok (.getfield 33, 3) := dk_180 0 33 (dk_at dksX8_orders_4 21 rfl rfl)
theorem dX8_orders_118 : decode cX8_orders 118 = .ok (.iload 8, 2) := dk_21 8 (dk_at dksX8_orders_5 0 rfl rfl)
theorem dX8_orders_120 : decode cX8_orders 120 = .ok (.iaload, 1) := dk_46 (dk_at dksX8_orders_5 2 rfl rfl)
theorem dX8_orders_121 : decode cX8_orders 121 = .ok (.iadd, 1) := dk_96 (dk_at dksX8_orders_5 3 rfl rfl)
theorem dX8_orders_122 : decode cX8_orders 122 = .ok (.aload_n 0, 1) := dk_42 (dk_at dksX8_orders_5 4 rfl rfl)
theorem dX8_orders_123 : decode cX8_orders 123 = .ok (.getfield 46, 3) := dk_180 0 46 (dk_at dksX8_orders_5 5 rfl rfl)
theorem dX8_orders_126 : decode cX8_orders 126 = .ok (.iload 6, 2) := dk_21 6 (dk_at dksX8_orders_5 8 rfl rfl)
theorem dX8_orders_128 : decode cX8_orders 128 = .ok (.iaload, 1) := dk_46 (dk_at dksX8_orders_5 10 rfl rfl)
theorem dX8_orders_129 : decode cX8_orders 129 = .ok (.if_icmp .eq 6, 3) := dk_159 0 6 (dk_at dksX8_orders_5 11 rfl rfl)
theorem dX8_orders_132 : decode cX8_orders 132 = .ok (.goto 39, 3) := dk_167 0 39 (dk_at dksX8_orders_5 14 rfl rfl)
theorem dX8_orders_135 : decode cX8_orders 135 = .ok (.aload_n 0, 1) := dk_42 (dk_at dksX8_orders_5 17 rfl rfl)
theorem dX8_orders_136 : decode cX8_orders 136 = .ok (.iload 7, 2) := dk_21 7 (dk_at dksX8_orders_5 18 rfl rfl)
theorem dX8_orders_138 : decode cX8_orders 138 = .ok (.iload 8, 2) := dk_21 8 (dk_at dksX8_orders_5 20 rfl rfl)
theorem dX8_orders_140 : decode cX8_orders 140 = .ok (.invokevirtual 272, 3) := dk_182 1 16 (dk_at dksX8_orders_6 0 rfl rfl)
theorem dX8_orders_143 : decode cX8_orders 143 = .ok (.aload_n 0, 1) := dk_42 (dk_at dksX8_orders_6 3 rfl rfl)
theorem dX8_orders_144 : decode cX8_orders 144 = .ok (.getfield 49, 3) := dk_180 0 49 (dk_at dksX8_orders_6 4 rfl rfl)
theorem dX8_orders_147 : decode cX8_orders 147 = .ok (.iload_n 1, 1) := dk_27 (dk_at dksX8_orders_6 7 rfl rfl)
theorem dX8_orders_148 : decode cX8_orders 148 = .ok (.iload 6, 2) := dk_21 6 (dk_at dksX8_orders_6 8 rfl rfl)
theorem dX8_orders_150 : decode cX8_orders 150 = .ok (.iastore, 1) := dk_79 (dk_at dksX8_orders_6 10 rfl rfl)
theorem dX8_orders_151 : decode cX8_orders 151 = .ok (.aload_n 0, 1) := dk_42 (dk_at dksX8_orders_6 11 rfl rfl)
theorem dX8_orders_152 : decode cX8_orders 152 = .ok (.iload_n 1, 1) := dk_27 (dk_at dksX8_orders_6 12 rfl rfl)
theorem dX8_orders_153 : decode cX8_orders 153 = .ok (.iconst 1, 1) := dk_4 (dk_at dksX8_orders_6 13 rfl rfl)
theorem dX8_orders_154 : decode cX8_orders 154 = .ok (.iadd, 1) := dk_96 (dk_at dksX8_orders_6 14 rfl rfl)
theorem dX8_orders_155 : decode cX8_orders 155 = .ok (.iload_n 2, 1) := dk_28 (dk_at dksX8_orders_6 15 rfl rfl)
theorem dX8_orders_156 : decode cX8_orders 156 = .ok (.invokevirtual 350, 3) := dk_182 1 94 (dk_at dksX8_orders_6 16 rfl rfl)
theorem dX8_orders_159 : decode cX8_orders 159 = .ok (.ifCond .eq 5, 3) := dk_153 0 5 (dk_at dksX8_orders_6 19 rfl rfl)
theorem dX8_orders_162 : decode cX8_orders 162 = .ok (.iconst 1, 1) := dk_4 (dk_at dksX8_orders_6 22 rfl rfl)
theorem dX8_orders_163 : decode cX8_orders 163 = .ok (.ireturn, 1) := dk_172 (dk_at dksX8_orders_6 23 rfl rfl)
theorem dX8_orders_164 : decode cX8_orders 164 = .ok (.aload_n 0, 1) := dk_42 (dk_at dksX8_orders_7 0 rfl rfl)
theorem dX8_orders_165 : decode cX8_orders 165 = .ok (.lload_n 3, 1) := dk_33 (dk_at dksX8_orders_7 1 rfl rfl)
theorem dX8_orders_166 : decode cX8_orders 166 = .ok (.iload 5, 2) := dk_21 5 (dk_at dksX8_orders_7 2 rfl rfl)
theorem dX8_orders_168 : decode cX8_orders 168 = .ok (.invokevirtual 353, 3) := dk_182 1 97 (dk_at dksX8_orders_7 4 rfl rfl)
theorem dX8_orders_171 : decode cX8_orders 171 = .ok (.iinc 6 1, 3) := dk_132 6 1 (dk_at dksX8_orders_7 7 rfl rfl)
theorem dX8_orders_174 : decode cX8_orders 174 = .ok (.goto (-150), 3) := dk_167 255 106 (dk_at dksX8_orders_7 10 rfl rfl)
theorem dX8_orders_177 : decode cX8_orders 177 = .ok (.iconst 0, 1) := dk_3 (dk_at dksX8_orders_7 13 rfl rfl)
theorem dX8_orders_178 : decode cX8_orders 178 = .ok (.ireturn, 1) := dk_172 (dk_at dksX8_orders_7 14 rfl rfl)
abbrev cX8_packed : ByteArray := prog_20_method_31_code
def yX8_packed : MethodName := ⟨RX8, "packed", "([I)J"⟩
def dkwX8_packed_1 : List UInt8 := [31, 173]
abbrev dktX8_packed_1 : List UInt8 := dkwX8_packed_1 ++ []
def dkwX8_packed_0 : List UInt8 := [9, 64, 16, 14, 62, 29, 155, 0, 18, 31, 7, 121, 42, 29, 46, 133, 129, 64, 132, 3, 255, 167, 255, 240]
abbrev dktX8_packed_0 : List UInt8 := dkwX8_packed_0 ++ dktX8_packed_1
theorem dksX8_packed_0 : cX8_packed.data.toList.drop 0 = dktX8_packed_0 := by decide +kernel
theorem dksX8_packed_1 : cX8_packed.data.toList.drop 24 = dktX8_packed_1 := dk_seg dksX8_packed_0 24 rfl rfl
theorem dX8_packed_0 : decode cX8_packed 0 = .ok (.lconst 0, 1) := dk_9 (dk_at dksX8_packed_0 0 rfl rfl)
theorem dX8_packed_1 : decode cX8_packed 1 = .ok (.lstore_n 1, 1) := dk_64 (dk_at dksX8_packed_0 1 rfl rfl)
theorem dX8_packed_2 : decode cX8_packed 2 = .ok (.bipush 14, 2) := dk_16 14 (dk_at dksX8_packed_0 2 rfl rfl)
theorem dX8_packed_4 : decode cX8_packed 4 = .ok (.istore_n 3, 1) := dk_62 (dk_at dksX8_packed_0 4 rfl rfl)
theorem dX8_packed_5 : decode cX8_packed 5 = .ok (.iload_n 3, 1) := dk_29 (dk_at dksX8_packed_0 5 rfl rfl)
theorem dX8_packed_6 : decode cX8_packed 6 = .ok (.ifCond .lt 18, 3) := dk_155 0 18 (dk_at dksX8_packed_0 6 rfl rfl)
theorem dX8_packed_9 : decode cX8_packed 9 = .ok (.lload_n 1, 1) := dk_31 (dk_at dksX8_packed_0 9 rfl rfl)
theorem dX8_packed_10 : decode cX8_packed 10 = .ok (.iconst 4, 1) := dk_7 (dk_at dksX8_packed_0 10 rfl rfl)
theorem dX8_packed_11 : decode cX8_packed 11 = .ok (.lshl, 1) := dk_121 (dk_at dksX8_packed_0 11 rfl rfl)
theorem dX8_packed_12 : decode cX8_packed 12 = .ok (.aload_n 0, 1) := dk_42 (dk_at dksX8_packed_0 12 rfl rfl)
theorem dX8_packed_13 : decode cX8_packed 13 = .ok (.iload_n 3, 1) := dk_29 (dk_at dksX8_packed_0 13 rfl rfl)
theorem dX8_packed_14 : decode cX8_packed 14 = .ok (.iaload, 1) := dk_46 (dk_at dksX8_packed_0 14 rfl rfl)
theorem dX8_packed_15 : decode cX8_packed 15 = .ok (.i2l, 1) := dk_133 (dk_at dksX8_packed_0 15 rfl rfl)
theorem dX8_packed_16 : decode cX8_packed 16 = .ok (.lor, 1) := dk_129 (dk_at dksX8_packed_0 16 rfl rfl)
theorem dX8_packed_17 : decode cX8_packed 17 = .ok (.lstore_n 1, 1) := dk_64 (dk_at dksX8_packed_0 17 rfl rfl)
theorem dX8_packed_18 : decode cX8_packed 18 = .ok (.iinc 3 (-1), 3) := dk_132 3 255 (dk_at dksX8_packed_0 18 rfl rfl)
theorem dX8_packed_21 : decode cX8_packed 21 = .ok (.goto (-16), 3) := dk_167 255 240 (dk_at dksX8_packed_0 21 rfl rfl)
theorem dX8_packed_24 : decode cX8_packed 24 = .ok (.lload_n 1, 1) := dk_31 (dk_at dksX8_packed_1 0 rfl rfl)
theorem dX8_packed_25 : decode cX8_packed 25 = .ok (.lreturn, 1) := dk_173 (dk_at dksX8_packed_1 1 rfl rfl)
abbrev cX8_looksAt : ByteArray := prog_20_method_32_code
def yX8_looksAt : MethodName := ⟨RX8, "looksAt", "(JI)V"⟩
def dkwX8_looksAt_1 : List UInt8 := [20, 0, 217, 127, 136, 79, 132, 4, 1, 167, 255, 228, 42, 29, 181, 0, 211, 42, 182, 0, 214, 177]
abbrev dktX8_looksAt_1 : List UInt8 := dkwX8_looksAt_1 ++ []
def dkwX8_looksAt_0 : List UInt8 := [3, 54, 4, 21, 4, 16, 15, 162, 0, 27, 42, 180, 0, 30, 21, 4, 31, 7, 21, 4, 104, 123]
abbrev dktX8_looksAt_0 : List UInt8 := dkwX8_looksAt_0 ++ dktX8_looksAt_1
theorem dksX8_looksAt_0 : cX8_looksAt.data.toList.drop 0 = dktX8_looksAt_0 := by decide +kernel
theorem dksX8_looksAt_1 : cX8_looksAt.data.toList.drop 22 = dktX8_looksAt_1 := dk_seg dksX8_looksAt_0 22 rfl rfl
theorem dX8_looksAt_0 : decode cX8_looksAt 0 = .ok (.iconst 0, 1) := dk_3 (dk_at dksX8_looksAt_0 0 rfl rfl)
theorem dX8_looksAt_1 : decode cX8_looksAt 1 = .ok (.istore 4, 2) := dk_54 4 (dk_at dksX8_looksAt_0 1 rfl rfl)
theorem dX8_looksAt_3 : decode cX8_looksAt 3 = .ok (.iload 4, 2) := dk_21 4 (dk_at dksX8_looksAt_0 3 rfl rfl)
theorem dX8_looksAt_5 : decode cX8_looksAt 5 = .ok (.bipush 15, 2) := dk_16 15 (dk_at dksX8_looksAt_0 5 rfl rfl)
theorem dX8_looksAt_7 : decode cX8_looksAt 7 = .ok (.if_icmp .ge 27, 3) := dk_162 0 27 (dk_at dksX8_looksAt_0 7 rfl rfl)
theorem dX8_looksAt_10 : decode cX8_looksAt 10 = .ok (.aload_n 0, 1) := dk_42 (dk_at dksX8_looksAt_0 10 rfl rfl)
theorem dX8_looksAt_11 : decode cX8_looksAt 11 = .ok (.getfield 30, 3) := dk_180 0 30 (dk_at dksX8_looksAt_0 11 rfl rfl)
theorem dX8_looksAt_14 : decode cX8_looksAt 14 = .ok (.iload 4, 2) := dk_21 4 (dk_at dksX8_looksAt_0 14 rfl rfl)
theorem dX8_looksAt_16 : decode cX8_looksAt 16 = .ok (.lload_n 1, 1) := dk_31 (dk_at dksX8_looksAt_0 16 rfl rfl)
theorem dX8_looksAt_17 : decode cX8_looksAt 17 = .ok (.iconst 4, 1) := dk_7 (dk_at dksX8_looksAt_0 17 rfl rfl)
theorem dX8_looksAt_18 : decode cX8_looksAt 18 = .ok (.iload 4, 2) := dk_21 4 (dk_at dksX8_looksAt_0 18 rfl rfl)
theorem dX8_looksAt_20 : decode cX8_looksAt 20 = .ok (.imul, 1) := dk_104 (dk_at dksX8_looksAt_0 20 rfl rfl)
theorem dX8_looksAt_21 : decode cX8_looksAt 21 = .ok (.lshr, 1) := dk_123 (dk_at dksX8_looksAt_0 21 rfl rfl)
theorem dX8_looksAt_22 : decode cX8_looksAt 22 = .ok (.ldc2_w 217, 3) := dk_20 0 217 (dk_at dksX8_looksAt_1 0 rfl rfl)
theorem dX8_looksAt_25 : decode cX8_looksAt 25 = .ok (.land, 1) := dk_127 (dk_at dksX8_looksAt_1 3 rfl rfl)
theorem dX8_looksAt_26 : decode cX8_looksAt 26 = .ok (.l2i, 1) := dk_136 (dk_at dksX8_looksAt_1 4 rfl rfl)
theorem dX8_looksAt_27 : decode cX8_looksAt 27 = .ok (.iastore, 1) := dk_79 (dk_at dksX8_looksAt_1 5 rfl rfl)
theorem dX8_looksAt_28 : decode cX8_looksAt 28 = .ok (.iinc 4 1, 3) := dk_132 4 1 (dk_at dksX8_looksAt_1 6 rfl rfl)
theorem dX8_looksAt_31 : decode cX8_looksAt 31 = .ok (.goto (-28), 3) := dk_167 255 228 (dk_at dksX8_looksAt_1 9 rfl rfl)
theorem dX8_looksAt_34 : decode cX8_looksAt 34 = .ok (.aload_n 0, 1) := dk_42 (dk_at dksX8_looksAt_1 12 rfl rfl)
theorem dX8_looksAt_35 : decode cX8_looksAt 35 = .ok (.iload_n 3, 1) := dk_29 (dk_at dksX8_looksAt_1 13 rfl rfl)
theorem dX8_looksAt_36 : decode cX8_looksAt 36 = .ok (.putfield 211, 3) := dk_181 0 211 (dk_at dksX8_looksAt_1 14 rfl rfl)
theorem dX8_looksAt_39 : decode cX8_looksAt 39 = .ok (.aload_n 0, 1) := dk_42 (dk_at dksX8_looksAt_1 17 rfl rfl)
theorem dX8_looksAt_40 : decode cX8_looksAt 40 = .ok (.invokevirtual 214, 3) := dk_182 0 214 (dk_at dksX8_looksAt_1 18 rfl rfl)
theorem dX8_looksAt_43 : decode cX8_looksAt 43 = .ok (.return_, 1) := dk_177 (dk_at dksX8_looksAt_1 21 rfl rfl)
abbrev cX8_ahead : ByteArray := prog_20_method_81_code
def yX8_ahead : MethodName := ⟨RX8, "ahead", "(II)I"⟩
def dkwX8_ahead_1 : List UInt8 := [42, 182, 1, 84, 42, 27, 28, 182, 1, 101, 153, 0, 7, 4, 167, 0, 4, 3, 172]
abbrev dktX8_ahead_1 : List UInt8 := dkwX8_ahead_1 ++ []
def dkwX8_ahead_0 : List UInt8 := [42, 3, 181, 0, 1, 42, 27, 182, 0, 250, 153, 0, 11, 42, 28, 182, 0, 250, 154, 0, 6, 16, 254, 172]
abbrev dktX8_ahead_0 : List UInt8 := dkwX8_ahead_0 ++ dktX8_ahead_1
theorem dksX8_ahead_0 : cX8_ahead.data.toList.drop 0 = dktX8_ahead_0 := by decide +kernel
theorem dksX8_ahead_1 : cX8_ahead.data.toList.drop 24 = dktX8_ahead_1 := dk_seg dksX8_ahead_0 24 rfl rfl
theorem dX8_ahead_0 : decode cX8_ahead 0 = .ok (.aload_n 0, 1) := dk_42 (dk_at dksX8_ahead_0 0 rfl rfl)
theorem dX8_ahead_1 : decode cX8_ahead 1 = .ok (.iconst 0, 1) := dk_3 (dk_at dksX8_ahead_0 1 rfl rfl)
theorem dX8_ahead_2 : decode cX8_ahead 2 = .ok (.putfield 1, 3) := dk_181 0 1 (dk_at dksX8_ahead_0 2 rfl rfl)
theorem dX8_ahead_5 : decode cX8_ahead 5 = .ok (.aload_n 0, 1) := dk_42 (dk_at dksX8_ahead_0 5 rfl rfl)
theorem dX8_ahead_6 : decode cX8_ahead 6 = .ok (.iload_n 1, 1) := dk_27 (dk_at dksX8_ahead_0 6 rfl rfl)
theorem dX8_ahead_7 : decode cX8_ahead 7 = .ok (.invokevirtual 250, 3) := dk_182 0 250 (dk_at dksX8_ahead_0 7 rfl rfl)
theorem dX8_ahead_10 : decode cX8_ahead 10 = .ok (.ifCond .eq 11, 3) := dk_153 0 11 (dk_at dksX8_ahead_0 10 rfl rfl)
theorem dX8_ahead_13 : decode cX8_ahead 13 = .ok (.aload_n 0, 1) := dk_42 (dk_at dksX8_ahead_0 13 rfl rfl)
theorem dX8_ahead_14 : decode cX8_ahead 14 = .ok (.iload_n 2, 1) := dk_28 (dk_at dksX8_ahead_0 14 rfl rfl)
theorem dX8_ahead_15 : decode cX8_ahead 15 = .ok (.invokevirtual 250, 3) := dk_182 0 250 (dk_at dksX8_ahead_0 15 rfl rfl)
theorem dX8_ahead_18 : decode cX8_ahead 18 = .ok (.ifCond .ne 6, 3) := dk_154 0 6 (dk_at dksX8_ahead_0 18 rfl rfl)
theorem dX8_ahead_21 : decode cX8_ahead 21 = .ok (.bipush (-2), 2) := dk_16 254 (dk_at dksX8_ahead_0 21 rfl rfl)
theorem dX8_ahead_23 : decode cX8_ahead 23 = .ok (.ireturn, 1) := dk_172 (dk_at dksX8_ahead_0 23 rfl rfl)
theorem dX8_ahead_24 : decode cX8_ahead 24 = .ok (.aload_n 0, 1) := dk_42 (dk_at dksX8_ahead_1 0 rfl rfl)
theorem dX8_ahead_25 : decode cX8_ahead 25 = .ok (.invokevirtual 340, 3) := dk_182 1 84 (dk_at dksX8_ahead_1 1 rfl rfl)
theorem dX8_ahead_28 : decode cX8_ahead 28 = .ok (.aload_n 0, 1) := dk_42 (dk_at dksX8_ahead_1 4 rfl rfl)
theorem dX8_ahead_29 : decode cX8_ahead 29 = .ok (.iload_n 1, 1) := dk_27 (dk_at dksX8_ahead_1 5 rfl rfl)
theorem dX8_ahead_30 : decode cX8_ahead 30 = .ok (.iload_n 2, 1) := dk_28 (dk_at dksX8_ahead_1 6 rfl rfl)
theorem dX8_ahead_31 : decode cX8_ahead 31 = .ok (.invokevirtual 357, 3) := dk_182 1 101 (dk_at dksX8_ahead_1 7 rfl rfl)
theorem dX8_ahead_34 : decode cX8_ahead 34 = .ok (.ifCond .eq 7, 3) := dk_153 0 7 (dk_at dksX8_ahead_1 10 rfl rfl)
theorem dX8_ahead_37 : decode cX8_ahead 37 = .ok (.iconst 1, 1) := dk_4 (dk_at dksX8_ahead_1 13 rfl rfl)
theorem dX8_ahead_38 : decode cX8_ahead 38 = .ok (.goto 4, 3) := dk_167 0 4 (dk_at dksX8_ahead_1 14 rfl rfl)
theorem dX8_ahead_41 : decode cX8_ahead 41 = .ok (.iconst 0, 1) := dk_3 (dk_at dksX8_ahead_1 17 rfl rfl)
theorem dX8_ahead_42 : decode cX8_ahead 42 = .ok (.ireturn, 1) := dk_172 (dk_at dksX8_ahead_1 18 rfl rfl)
abbrev cX8_isAhead : ByteArray := prog_20_method_80_code
def yX8_isAhead : MethodName := ⟨RX8, "isAhead", "(II)Z"⟩
def dkwX8_isAhead_5 : List UInt8 := [28, 46, 6, 108, 160, 0, 7, 4, 167, 0, 4, 3, 172]
abbrev dktX8_isAhead_5 : List UInt8 := dkwX8_isAhead_5 ++ []
def dkwX8_isAhead_4 : List UInt8 := [42, 180, 0, 46, 27, 46, 42, 180, 0, 46, 28, 46, 162, 0, 5, 4, 172, 29, 6, 108, 42, 180, 0, 46]
abbrev dktX8_isAhead_4 : List UInt8 := dkwX8_isAhead_4 ++ dktX8_isAhead_5
def dkwX8_isAhead_3 : List UInt8 := [164, 0, 5, 4, 172, 42, 180, 0, 46, 27, 46, 6, 108, 42, 180, 0, 46, 28, 46, 6, 108, 160, 0, 20]
abbrev dktX8_isAhead_3 : List UInt8 := dkwX8_isAhead_3 ++ dktX8_isAhead_4
def dkwX8_isAhead_2 : List UInt8 := [160, 0, 7, 4, 167, 0, 4, 3, 172, 29, 6, 108, 21, 4, 6, 108, 160, 0, 11, 29, 21, 4]
abbrev dktX8_isAhead_2 : List UInt8 := dkwX8_isAhead_2 ++ dktX8_isAhead_3
def dkwX8_isAhead_1 : List UInt8 := [42, 28, 182, 0, 255, 54, 4, 27, 28, 160, 0, 23, 42, 180, 0, 46, 27, 46, 6, 108, 29, 6, 108]
abbrev dktX8_isAhead_1 : List UInt8 := dkwX8_isAhead_1 ++ dktX8_isAhead_2
def dkwX8_isAhead_0 : List UInt8 := [42, 27, 182, 1, 87, 153, 0, 11, 42, 28, 182, 1, 87, 154, 0, 5, 3, 172, 42, 27, 182, 0, 255, 62]
abbrev dktX8_isAhead_0 : List UInt8 := dkwX8_isAhead_0 ++ dktX8_isAhead_1
theorem dksX8_isAhead_0 : cX8_isAhead.data.toList.drop 0 = dktX8_isAhead_0 := by decide +kernel
theorem dksX8_isAhead_1 : cX8_isAhead.data.toList.drop 24 = dktX8_isAhead_1 := dk_seg dksX8_isAhead_0 24 rfl rfl
theorem dksX8_isAhead_2 : cX8_isAhead.data.toList.drop 47 = dktX8_isAhead_2 := dk_seg dksX8_isAhead_1 23 rfl rfl
theorem dksX8_isAhead_3 : cX8_isAhead.data.toList.drop 69 = dktX8_isAhead_3 := dk_seg dksX8_isAhead_2 22 rfl rfl
theorem dksX8_isAhead_4 : cX8_isAhead.data.toList.drop 93 = dktX8_isAhead_4 := dk_seg dksX8_isAhead_3 24 rfl rfl
theorem dksX8_isAhead_5 : cX8_isAhead.data.toList.drop 117 = dktX8_isAhead_5 := dk_seg dksX8_isAhead_4 24 rfl rfl
theorem dX8_isAhead_0 : decode cX8_isAhead 0 = .ok (.aload_n 0, 1) := dk_42 (dk_at dksX8_isAhead_0 0 rfl rfl)
theorem dX8_isAhead_1 : decode cX8_isAhead 1 = .ok (.iload_n 1, 1) := dk_27 (dk_at dksX8_isAhead_0 1 rfl rfl)
theorem dX8_isAhead_2 : decode cX8_isAhead 2 = .ok (.invokevirtual 343, 3) := dk_182 1 87 (dk_at dksX8_isAhead_0 2 rfl rfl)
theorem dX8_isAhead_5 : decode cX8_isAhead 5 = .ok (.ifCond .eq 11, 3) := dk_153 0 11 (dk_at dksX8_isAhead_0 5 rfl rfl)
theorem dX8_isAhead_8 : decode cX8_isAhead 8 = .ok (.aload_n 0, 1) := dk_42 (dk_at dksX8_isAhead_0 8 rfl rfl)
theorem dX8_isAhead_9 : decode cX8_isAhead 9 = .ok (.iload_n 2, 1) := dk_28 (dk_at dksX8_isAhead_0 9 rfl rfl)
theorem dX8_isAhead_10 : decode cX8_isAhead 10 = .ok (.invokevirtual 343, 3) := dk_182 1 87 (dk_at dksX8_isAhead_0 10 rfl rfl)
theorem dX8_isAhead_13 : decode cX8_isAhead 13 = .ok (.ifCond .ne 5, 3) := dk_154 0 5 (dk_at dksX8_isAhead_0 13 rfl rfl)
theorem dX8_isAhead_16 : decode cX8_isAhead 16 = .ok (.iconst 0, 1) := dk_3 (dk_at dksX8_isAhead_0 16 rfl rfl)
theorem dX8_isAhead_17 : decode cX8_isAhead 17 = .ok (.ireturn, 1) := dk_172 (dk_at dksX8_isAhead_0 17 rfl rfl)
theorem dX8_isAhead_18 : decode cX8_isAhead 18 = .ok (.aload_n 0, 1) := dk_42 (dk_at dksX8_isAhead_0 18 rfl rfl)
theorem dX8_isAhead_19 : decode cX8_isAhead 19 = .ok (.iload_n 1, 1) := dk_27 (dk_at dksX8_isAhead_0 19 rfl rfl)
theorem dX8_isAhead_20 : decode cX8_isAhead 20 = .ok (.invokevirtual 255, 3) := dk_182 0 255 (dk_at dksX8_isAhead_0 20 rfl rfl)
theorem dX8_isAhead_23 : decode cX8_isAhead 23 = .ok (.istore_n 3, 1) := dk_62 (dk_at dksX8_isAhead_0 23 rfl rfl)
theorem dX8_isAhead_24 : decode cX8_isAhead 24 = .ok (.aload_n 0, 1) := dk_42 (dk_at dksX8_isAhead_1 0 rfl rfl)
theorem dX8_isAhead_25 : decode cX8_isAhead 25 = .ok (.iload_n 2, 1) := dk_28 (dk_at dksX8_isAhead_1 1 rfl rfl)
theorem dX8_isAhead_26 : decode cX8_isAhead 26 = .ok (.invokevirtual 255, 3) := dk_182 0 255 (dk_at dksX8_isAhead_1 2 rfl rfl)
theorem dX8_isAhead_29 : decode cX8_isAhead 29 = .ok (.istore 4, 2) := dk_54 4 (dk_at dksX8_isAhead_1 5 rfl rfl)
theorem dX8_isAhead_31 : decode cX8_isAhead 31 = .ok (.iload_n 1, 1) := dk_27 (dk_at dksX8_isAhead_1 7 rfl rfl)
theorem dX8_isAhead_32 : decode cX8_isAhead 32 = .ok (.iload_n 2, 1) := dk_28 (dk_at dksX8_isAhead_1 8 rfl rfl)
theorem dX8_isAhead_33 : decode cX8_isAhead 33 = .ok (.if_icmp .ne 23, 3) := dk_160 0 23 (dk_at dksX8_isAhead_1 9 rfl rfl)
theorem dX8_isAhead_36 : decode cX8_isAhead 36 = .ok (.aload_n 0, 1) := dk_42 (dk_at dksX8_isAhead_1 12 rfl rfl)
theorem dX8_isAhead_37 : decode cX8_isAhead 37 = .ok (.getfield 46, 3) := dk_180 0 46 (dk_at dksX8_isAhead_1 13 rfl rfl)
theorem dX8_isAhead_40 : decode cX8_isAhead 40 = .ok (.iload_n 1, 1) := dk_27 (dk_at dksX8_isAhead_1 16 rfl rfl)
theorem dX8_isAhead_41 : decode cX8_isAhead 41 = .ok (.iaload, 1) := dk_46 (dk_at dksX8_isAhead_1 17 rfl rfl)
theorem dX8_isAhead_42 : decode cX8_isAhead 42 = .ok (.iconst 3, 1) := dk_6 (dk_at dksX8_isAhead_1 18 rfl rfl)
theorem dX8_isAhead_43 : decode cX8_isAhead 43 = .ok (.idiv, 1) := dk_108 (dk_at dksX8_isAhead_1 19 rfl rfl)
theorem dX8_isAhead_44 : decode cX8_isAhead 44 = .ok (.iload_n 3, 1) := dk_29 (dk_at dksX8_isAhead_1 20 rfl rfl)
theorem dX8_isAhead_45 : decode cX8_isAhead 45 = .ok (.iconst 3, 1) := dk_6 (dk_at dksX8_isAhead_1 21 rfl rfl)
theorem dX8_isAhead_46 : decode cX8_isAhead 46 = .ok (.idiv, 1) := dk_108 (dk_at dksX8_isAhead_1 22 rfl rfl)
theorem dX8_isAhead_47 : decode cX8_isAhead 47 = .ok (.if_icmp .ne 7, 3) := dk_160 0 7 (dk_at dksX8_isAhead_2 0 rfl rfl)
theorem dX8_isAhead_50 : decode cX8_isAhead 50 = .ok (.iconst 1, 1) := dk_4 (dk_at dksX8_isAhead_2 3 rfl rfl)
theorem dX8_isAhead_51 : decode cX8_isAhead 51 = .ok (.goto 4, 3) := dk_167 0 4 (dk_at dksX8_isAhead_2 4 rfl rfl)
theorem dX8_isAhead_54 : decode cX8_isAhead 54 = .ok (.iconst 0, 1) := dk_3 (dk_at dksX8_isAhead_2 7 rfl rfl)
theorem dX8_isAhead_55 : decode cX8_isAhead 55 = .ok (.ireturn, 1) := dk_172 (dk_at dksX8_isAhead_2 8 rfl rfl)
theorem dX8_isAhead_56 : decode cX8_isAhead 56 = .ok (.iload_n 3, 1) := dk_29 (dk_at dksX8_isAhead_2 9 rfl rfl)
theorem dX8_isAhead_57 : decode cX8_isAhead 57 = .ok (.iconst 3, 1) := dk_6 (dk_at dksX8_isAhead_2 10 rfl rfl)
theorem dX8_isAhead_58 : decode cX8_isAhead 58 = .ok (.idiv, 1) := dk_108 (dk_at dksX8_isAhead_2 11 rfl rfl)
theorem dX8_isAhead_59 : decode cX8_isAhead 59 = .ok (.iload 4, 2) := dk_21 4 (dk_at dksX8_isAhead_2 12 rfl rfl)
theorem dX8_isAhead_61 : decode cX8_isAhead 61 = .ok (.iconst 3, 1) := dk_6 (dk_at dksX8_isAhead_2 14 rfl rfl)
theorem dX8_isAhead_62 : decode cX8_isAhead 62 = .ok (.idiv, 1) := dk_108 (dk_at dksX8_isAhead_2 15 rfl rfl)
theorem dX8_isAhead_63 : decode cX8_isAhead 63 = .ok (.if_icmp .ne 11, 3) := dk_160 0 11 (dk_at dksX8_isAhead_2 16 rfl rfl)
theorem dX8_isAhead_66 : decode cX8_isAhead 66 = .ok (.iload_n 3, 1) := dk_29 (dk_at dksX8_isAhead_2 19 rfl rfl)
theorem dX8_isAhead_67 : decode cX8_isAhead 67 = .ok (.iload 4, 2) := dk_21 4 (dk_at dksX8_isAhead_2 20 rfl rfl)
theorem dX8_isAhead_69 : decode cX8_isAhead 69 = .ok (.if_icmp .le 5, 3) := dk_164 0 5 (dk_at dksX8_isAhead_3 0 rfl rfl)
theorem dX8_isAhead_72 : decode cX8_isAhead 72 = .ok (.iconst 1, 1) := dk_4 (dk_at dksX8_isAhead_3 3 rfl rfl)
theorem dX8_isAhead_73 : decode cX8_isAhead 73 = .ok (.ireturn, 1) := dk_172 (dk_at dksX8_isAhead_3 4 rfl rfl)
theorem dX8_isAhead_74 : decode cX8_isAhead 74 = .ok (.aload_n 0, 1) := dk_42 (dk_at dksX8_isAhead_3 5 rfl rfl)
theorem dX8_isAhead_75 : decode cX8_isAhead 75 = .ok (.getfield 46, 3) := dk_180 0 46 (dk_at dksX8_isAhead_3 6 rfl rfl)
theorem dX8_isAhead_78 : decode cX8_isAhead 78 = .ok (.iload_n 1, 1) := dk_27 (dk_at dksX8_isAhead_3 9 rfl rfl)
theorem dX8_isAhead_79 : decode cX8_isAhead 79 = .ok (.iaload, 1) := dk_46 (dk_at dksX8_isAhead_3 10 rfl rfl)
theorem dX8_isAhead_80 : decode cX8_isAhead 80 = .ok (.iconst 3, 1) := dk_6 (dk_at dksX8_isAhead_3 11 rfl rfl)
theorem dX8_isAhead_81 : decode cX8_isAhead 81 = .ok (.idiv, 1) := dk_108 (dk_at dksX8_isAhead_3 12 rfl rfl)
theorem dX8_isAhead_82 : decode cX8_isAhead 82 = .ok (.aload_n 0, 1) := dk_42 (dk_at dksX8_isAhead_3 13 rfl rfl)
theorem dX8_isAhead_83 : decode cX8_isAhead 83 = .ok (.getfield 46, 3) := dk_180 0 46 (dk_at dksX8_isAhead_3 14 rfl rfl)
theorem dX8_isAhead_86 : decode cX8_isAhead 86 = .ok (.iload_n 2, 1) := dk_28 (dk_at dksX8_isAhead_3 17 rfl rfl)
theorem dX8_isAhead_87 : decode cX8_isAhead 87 = .ok (.iaload, 1) := dk_46 (dk_at dksX8_isAhead_3 18 rfl rfl)
theorem dX8_isAhead_88 : decode cX8_isAhead 88 = .ok (.iconst 3, 1) := dk_6 (dk_at dksX8_isAhead_3 19 rfl rfl)
theorem dX8_isAhead_89 : decode cX8_isAhead 89 = .ok (.idiv, 1) := dk_108 (dk_at dksX8_isAhead_3 20 rfl rfl)
theorem dX8_isAhead_90 : decode cX8_isAhead 90 = .ok (.if_icmp .ne 20, 3) := dk_160 0 20 (dk_at dksX8_isAhead_3 21 rfl rfl)
theorem dX8_isAhead_93 : decode cX8_isAhead 93 = .ok (.aload_n 0, 1) := dk_42 (dk_at dksX8_isAhead_4 0 rfl rfl)
theorem dX8_isAhead_94 : decode cX8_isAhead 94 = .ok (.getfield 46, 3) := dk_180 0 46 (dk_at dksX8_isAhead_4 1 rfl rfl)
theorem dX8_isAhead_97 : decode cX8_isAhead 97 = .ok (.iload_n 1, 1) := dk_27 (dk_at dksX8_isAhead_4 4 rfl rfl)
theorem dX8_isAhead_98 : decode cX8_isAhead 98 = .ok (.iaload, 1) := dk_46 (dk_at dksX8_isAhead_4 5 rfl rfl)
theorem dX8_isAhead_99 : decode cX8_isAhead 99 = .ok (.aload_n 0, 1) := dk_42 (dk_at dksX8_isAhead_4 6 rfl rfl)
theorem dX8_isAhead_100 : decode cX8_isAhead 100 = .ok (.getfield 46, 3) := dk_180 0 46 (dk_at dksX8_isAhead_4 7 rfl rfl)
theorem dX8_isAhead_103 : decode cX8_isAhead 103 = .ok (.iload_n 2, 1) := dk_28 (dk_at dksX8_isAhead_4 10 rfl rfl)
theorem dX8_isAhead_104 : decode cX8_isAhead 104 = .ok (.iaload, 1) := dk_46 (dk_at dksX8_isAhead_4 11 rfl rfl)
theorem dX8_isAhead_105 : decode cX8_isAhead 105 = .ok (.if_icmp .ge 5, 3) := dk_162 0 5 (dk_at dksX8_isAhead_4 12 rfl rfl)
theorem dX8_isAhead_108 : decode cX8_isAhead 108 = .ok (.iconst 1, 1) := dk_4 (dk_at dksX8_isAhead_4 15 rfl rfl)
theorem dX8_isAhead_109 : decode cX8_isAhead 109 = .ok (.ireturn, 1) := dk_172 (dk_at dksX8_isAhead_4 16 rfl rfl)
theorem dX8_isAhead_110 : decode cX8_isAhead 110 = .ok (.iload_n 3, 1) := dk_29 (dk_at dksX8_isAhead_4 17 rfl rfl)
theorem dX8_isAhead_111 : decode cX8_isAhead 111 = .ok (.iconst 3, 1) := dk_6 (dk_at dksX8_isAhead_4 18 rfl rfl)
theorem dX8_isAhead_112 : decode cX8_isAhead 112 = .ok (.idiv, 1) := dk_108 (dk_at dksX8_isAhead_4 19 rfl rfl)
theorem dX8_isAhead_113 : decode cX8_isAhead 113 = .ok (.aload_n 0, 1) := dk_42 (dk_at dksX8_isAhead_4 20 rfl rfl)
theorem dX8_isAhead_114 : decode cX8_isAhead 114 = .ok (.getfield 46, 3) := dk_180 0 46 (dk_at dksX8_isAhead_4 21 rfl rfl)
theorem dX8_isAhead_117 : decode cX8_isAhead 117 = .ok (.iload_n 2, 1) := dk_28 (dk_at dksX8_isAhead_5 0 rfl rfl)
theorem dX8_isAhead_118 : decode cX8_isAhead 118 = .ok (.iaload, 1) := dk_46 (dk_at dksX8_isAhead_5 1 rfl rfl)
theorem dX8_isAhead_119 : decode cX8_isAhead 119 = .ok (.iconst 3, 1) := dk_6 (dk_at dksX8_isAhead_5 2 rfl rfl)
theorem dX8_isAhead_120 : decode cX8_isAhead 120 = .ok (.idiv, 1) := dk_108 (dk_at dksX8_isAhead_5 3 rfl rfl)
theorem dX8_isAhead_121 : decode cX8_isAhead 121 = .ok (.if_icmp .ne 7, 3) := dk_160 0 7 (dk_at dksX8_isAhead_5 4 rfl rfl)
theorem dX8_isAhead_124 : decode cX8_isAhead 124 = .ok (.iconst 1, 1) := dk_4 (dk_at dksX8_isAhead_5 7 rfl rfl)
theorem dX8_isAhead_125 : decode cX8_isAhead 125 = .ok (.goto 4, 3) := dk_167 0 4 (dk_at dksX8_isAhead_5 8 rfl rfl)
theorem dX8_isAhead_128 : decode cX8_isAhead 128 = .ok (.iconst 0, 1) := dk_3 (dk_at dksX8_isAhead_5 11 rfl rfl)
theorem dX8_isAhead_129 : decode cX8_isAhead 129 = .ok (.ireturn, 1) := dk_172 (dk_at dksX8_isAhead_5 12 rfl rfl)
abbrev cX8_aside : ByteArray := prog_20_method_83_code
def yX8_aside : MethodName := ⟨RX8, "aside", "(I)I"⟩
def dkwX8_aside_5 : List UInt8 := [167, 255, 205, 27, 154, 0, 10, 29, 184, 0, 247, 167, 0, 4, 29, 172]
abbrev dktX8_aside_5 : List UInt8 := dkwX8_aside_5 ++ []
def dkwX8_aside_4 : List UInt8 := [42, 28, 21, 4, 2, 130, 126, 182, 1, 104, 153, 0, 6, 167, 0, 6, 21, 4, 62, 132, 4, 1]
abbrev dktX8_aside_4 : List UInt8 := dkwX8_aside_4 ++ dktX8_aside_5
def dkwX8_aside_3 : List UInt8 := [162, 0, 49, 21, 4, 28, 2, 130, 126, 154, 0, 34, 21, 4, 184, 0, 247, 29, 184, 0, 247, 162, 0, 22]
abbrev dktX8_aside_3 : List UInt8 := dkwX8_aside_3 ++ dktX8_aside_4
def dkwX8_aside_2 : List UInt8 := [120, 167, 0, 4, 3, 128, 61, 132, 3, 1, 167, 255, 224, 28, 62, 3, 54, 4, 21, 4, 17, 1, 0]
abbrev dktX8_aside_2 : List UInt8 := dkwX8_aside_2 ++ dktX8_aside_3
def dkwX8_aside_1 : List UInt8 := [3, 62, 29, 42, 180, 0, 13, 16, 6, 46, 162, 0, 27, 28, 42, 29, 182, 1, 87, 153, 0, 9, 4, 29]
abbrev dktX8_aside_1 : List UInt8 := dkwX8_aside_1 ++ dktX8_aside_2
def dkwX8_aside_0 : List UInt8 := [42, 3, 181, 0, 1, 27, 133, 9, 10, 184, 0, 153, 154, 0, 6, 16, 254, 172, 42, 182, 1, 84, 3, 61]
abbrev dktX8_aside_0 : List UInt8 := dkwX8_aside_0 ++ dktX8_aside_1
theorem dksX8_aside_0 : cX8_aside.data.toList.drop 0 = dktX8_aside_0 := by decide +kernel
theorem dksX8_aside_1 : cX8_aside.data.toList.drop 24 = dktX8_aside_1 := dk_seg dksX8_aside_0 24 rfl rfl
theorem dksX8_aside_2 : cX8_aside.data.toList.drop 48 = dktX8_aside_2 := dk_seg dksX8_aside_1 24 rfl rfl
theorem dksX8_aside_3 : cX8_aside.data.toList.drop 71 = dktX8_aside_3 := dk_seg dksX8_aside_2 23 rfl rfl
theorem dksX8_aside_4 : cX8_aside.data.toList.drop 95 = dktX8_aside_4 := dk_seg dksX8_aside_3 24 rfl rfl
theorem dksX8_aside_5 : cX8_aside.data.toList.drop 117 = dktX8_aside_5 := dk_seg dksX8_aside_4 22 rfl rfl
theorem dX8_aside_0 : decode cX8_aside 0 = .ok (.aload_n 0, 1) := dk_42 (dk_at dksX8_aside_0 0 rfl rfl)
theorem dX8_aside_1 : decode cX8_aside 1 = .ok (.iconst 0, 1) := dk_3 (dk_at dksX8_aside_0 1 rfl rfl)
theorem dX8_aside_2 : decode cX8_aside 2 = .ok (.putfield 1, 3) := dk_181 0 1 (dk_at dksX8_aside_0 2 rfl rfl)
theorem dX8_aside_5 : decode cX8_aside 5 = .ok (.iload_n 1, 1) := dk_27 (dk_at dksX8_aside_0 5 rfl rfl)
theorem dX8_aside_6 : decode cX8_aside 6 = .ok (.i2l, 1) := dk_133 (dk_at dksX8_aside_0 6 rfl rfl)
theorem dX8_aside_7 : decode cX8_aside 7 = .ok (.lconst 0, 1) := dk_9 (dk_at dksX8_aside_0 7 rfl rfl)
theorem dX8_aside_8 : decode cX8_aside 8 = .ok (.lconst 1, 1) := dk_10 (dk_at dksX8_aside_0 8 rfl rfl)
theorem dX8_aside_9 : decode cX8_aside 9 = .ok (.invokestatic 153, 3) := dk_184 0 153 (dk_at dksX8_aside_0 9 rfl rfl)
theorem dX8_aside_12 : decode cX8_aside 12 = .ok (.ifCond .ne 6, 3) := dk_154 0 6 (dk_at dksX8_aside_0 12 rfl rfl)
theorem dX8_aside_15 : decode cX8_aside 15 = .ok (.bipush (-2), 2) := dk_16 254 (dk_at dksX8_aside_0 15 rfl rfl)
theorem dX8_aside_17 : decode cX8_aside 17 = .ok (.ireturn, 1) := dk_172 (dk_at dksX8_aside_0 17 rfl rfl)
theorem dX8_aside_18 : decode cX8_aside 18 = .ok (.aload_n 0, 1) := dk_42 (dk_at dksX8_aside_0 18 rfl rfl)
theorem dX8_aside_19 : decode cX8_aside 19 = .ok (.invokevirtual 340, 3) := dk_182 1 84 (dk_at dksX8_aside_0 19 rfl rfl)
theorem dX8_aside_22 : decode cX8_aside 22 = .ok (.iconst 0, 1) := dk_3 (dk_at dksX8_aside_0 22 rfl rfl)
theorem dX8_aside_23 : decode cX8_aside 23 = .ok (.istore_n 2, 1) := dk_61 (dk_at dksX8_aside_0 23 rfl rfl)
theorem dX8_aside_24 : decode cX8_aside 24 = .ok (.iconst 0, 1) := dk_3 (dk_at dksX8_aside_1 0 rfl rfl)
theorem dX8_aside_25 : decode cX8_aside 25 = .ok (.istore_n 3, 1) := dk_62 (dk_at dksX8_aside_1 1 rfl rfl)
theorem dX8_aside_26 : decode cX8_aside 26 = .ok (.iload_n 3, 1) := dk_29 (dk_at dksX8_aside_1 2 rfl rfl)
theorem dX8_aside_27 : decode cX8_aside 27 = .ok (.aload_n 0, 1) := dk_42 (dk_at dksX8_aside_1 3 rfl rfl)
theorem dX8_aside_28 : decode cX8_aside 28 = .ok (.getfield 13, 3) := dk_180 0 13 (dk_at dksX8_aside_1 4 rfl rfl)
theorem dX8_aside_31 : decode cX8_aside 31 = .ok (.bipush 6, 2) := dk_16 6 (dk_at dksX8_aside_1 7 rfl rfl)
theorem dX8_aside_33 : decode cX8_aside 33 = .ok (.iaload, 1) := dk_46 (dk_at dksX8_aside_1 9 rfl rfl)
theorem dX8_aside_34 : decode cX8_aside 34 = .ok (.if_icmp .ge 27, 3) := dk_162 0 27 (dk_at dksX8_aside_1 10 rfl rfl)
theorem dX8_aside_37 : decode cX8_aside 37 = .ok (.iload_n 2, 1) := dk_28 (dk_at dksX8_aside_1 13 rfl rfl)
theorem dX8_aside_38 : decode cX8_aside 38 = .ok (.aload_n 0, 1) := dk_42 (dk_at dksX8_aside_1 14 rfl rfl)
theorem dX8_aside_39 : decode cX8_aside 39 = .ok (.iload_n 3, 1) := dk_29 (dk_at dksX8_aside_1 15 rfl rfl)
theorem dX8_aside_40 : decode cX8_aside 40 = .ok (.invokevirtual 343, 3) := dk_182 1 87 (dk_at dksX8_aside_1 16 rfl rfl)
theorem dX8_aside_43 : decode cX8_aside 43 = .ok (.ifCond .eq 9, 3) := dk_153 0 9 (dk_at dksX8_aside_1 19 rfl rfl)
theorem dX8_aside_46 : decode cX8_aside 46 = .ok (.iconst 1, 1) := dk_4 (dk_at dksX8_aside_1 22 rfl rfl)
theorem dX8_aside_47 : decode cX8_aside 47 = .ok (.iload_n 3, 1) := dk_29 (dk_at dksX8_aside_1 23 rfl rfl)
theorem dX8_aside_48 : decode cX8_aside 48 = .ok (.ishl, 1) := dk_120 (dk_at dksX8_aside_2 0 rfl rfl)
theorem dX8_aside_49 : decode cX8_aside 49 = .ok (.goto 4, 3) := dk_167 0 4 (dk_at dksX8_aside_2 1 rfl rfl)
theorem dX8_aside_52 : decode cX8_aside 52 = .ok (.iconst 0, 1) := dk_3 (dk_at dksX8_aside_2 4 rfl rfl)
theorem dX8_aside_53 : decode cX8_aside 53 = .ok (.ior, 1) := dk_128 (dk_at dksX8_aside_2 5 rfl rfl)
theorem dX8_aside_54 : decode cX8_aside 54 = .ok (.istore_n 2, 1) := dk_61 (dk_at dksX8_aside_2 6 rfl rfl)
theorem dX8_aside_55 : decode cX8_aside 55 = .ok (.iinc 3 1, 3) := dk_132 3 1 (dk_at dksX8_aside_2 7 rfl rfl)
theorem dX8_aside_58 : decode cX8_aside 58 = .ok (.goto (-32), 3) := dk_167 255 224 (dk_at dksX8_aside_2 10 rfl rfl)
theorem dX8_aside_61 : decode cX8_aside 61 = .ok (.iload_n 2, 1) := dk_28 (dk_at dksX8_aside_2 13 rfl rfl)
theorem dX8_aside_62 : decode cX8_aside 62 = .ok (.istore_n 3, 1) := dk_62 (dk_at dksX8_aside_2 14 rfl rfl)
theorem dX8_aside_63 : decode cX8_aside 63 = .ok (.iconst 0, 1) := dk_3 (dk_at dksX8_aside_2 15 rfl rfl)
theorem dX8_aside_64 : decode cX8_aside 64 = .ok (.istore 4, 2) := dk_54 4 (dk_at dksX8_aside_2 16 rfl rfl)
theorem dX8_aside_66 : decode cX8_aside 66 = .ok (.iload 4, 2) := dk_21 4 (dk_at dksX8_aside_2 18 rfl rfl)
theorem dX8_aside_68 : decode cX8_aside 68 = .ok (.sipush 256, 3) := dk_17 1 0 (dk_at dksX8_aside_2 20 rfl rfl)
theorem dX8_aside_71 : decode cX8_aside 71 = .ok (.if_icmp .ge 49, 3) := dk_162 0 49 (dk_at dksX8_aside_3 0 rfl rfl)
theorem dX8_aside_74 : decode cX8_aside 74 = .ok (.iload 4, 2) := dk_21 4 (dk_at dksX8_aside_3 3 rfl rfl)
theorem dX8_aside_76 : decode cX8_aside 76 = .ok (.iload_n 2, 1) := dk_28 (dk_at dksX8_aside_3 5 rfl rfl)
theorem dX8_aside_77 : decode cX8_aside 77 = .ok (.iconst (-1), 1) := dk_2 (dk_at dksX8_aside_3 6 rfl rfl)
theorem dX8_aside_78 : decode cX8_aside 78 = .ok (.ixor, 1) := dk_130 (dk_at dksX8_aside_3 7 rfl rfl)
theorem dX8_aside_79 : decode cX8_aside 79 = .ok (.iand, 1) := dk_126 (dk_at dksX8_aside_3 8 rfl rfl)
theorem dX8_aside_80 : decode cX8_aside 80 = .ok (.ifCond .ne 34, 3) := dk_154 0 34 (dk_at dksX8_aside_3 9 rfl rfl)
theorem dX8_aside_83 : decode cX8_aside 83 = .ok (.iload 4, 2) := dk_21 4 (dk_at dksX8_aside_3 12 rfl rfl)
theorem dX8_aside_85 : decode cX8_aside 85 = .ok (.invokestatic 247, 3) := dk_184 0 247 (dk_at dksX8_aside_3 14 rfl rfl)
theorem dX8_aside_88 : decode cX8_aside 88 = .ok (.iload_n 3, 1) := dk_29 (dk_at dksX8_aside_3 17 rfl rfl)
theorem dX8_aside_89 : decode cX8_aside 89 = .ok (.invokestatic 247, 3) := dk_184 0 247 (dk_at dksX8_aside_3 18 rfl rfl)
theorem dX8_aside_92 : decode cX8_aside 92 = .ok (.if_icmp .ge 22, 3) := dk_162 0 22 (dk_at dksX8_aside_3 21 rfl rfl)
theorem dX8_aside_95 : decode cX8_aside 95 = .ok (.aload_n 0, 1) := dk_42 (dk_at dksX8_aside_4 0 rfl rfl)
theorem dX8_aside_96 : decode cX8_aside 96 = .ok (.iload_n 2, 1) := dk_28 (dk_at dksX8_aside_4 1 rfl rfl)
theorem dX8_aside_97 : decode cX8_aside 97 = .ok (.iload 4, 2) := dk_21 4 (dk_at dksX8_aside_4 2 rfl rfl)
theorem dX8_aside_99 : decode cX8_aside 99 = .ok (.iconst (-1), 1) := dk_2 (dk_at dksX8_aside_4 4 rfl rfl)
theorem dX8_aside_100 : decode cX8_aside 100 = .ok (.ixor, 1) := dk_130 (dk_at dksX8_aside_4 5 rfl rfl)
theorem dX8_aside_101 : decode cX8_aside 101 = .ok (.iand, 1) := dk_126 (dk_at dksX8_aside_4 6 rfl rfl)
theorem dX8_aside_102 : decode cX8_aside 102 = .ok (.invokevirtual 360, 3) := dk_182 1 104 (dk_at dksX8_aside_4 7 rfl rfl)
theorem dX8_aside_105 : decode cX8_aside 105 = .ok (.ifCond .eq 6, 3) := dk_153 0 6 (dk_at dksX8_aside_4 10 rfl rfl)
theorem dX8_aside_108 : decode cX8_aside 108 = .ok (.goto 6, 3) := dk_167 0 6 (dk_at dksX8_aside_4 13 rfl rfl)
theorem dX8_aside_111 : decode cX8_aside 111 = .ok (.iload 4, 2) := dk_21 4 (dk_at dksX8_aside_4 16 rfl rfl)
theorem dX8_aside_113 : decode cX8_aside 113 = .ok (.istore_n 3, 1) := dk_62 (dk_at dksX8_aside_4 18 rfl rfl)
theorem dX8_aside_114 : decode cX8_aside 114 = .ok (.iinc 4 1, 3) := dk_132 4 1 (dk_at dksX8_aside_4 19 rfl rfl)
theorem dX8_aside_117 : decode cX8_aside 117 = .ok (.goto (-51), 3) := dk_167 255 205 (dk_at dksX8_aside_5 0 rfl rfl)
theorem dX8_aside_120 : decode cX8_aside 120 = .ok (.iload_n 1, 1) := dk_27 (dk_at dksX8_aside_5 3 rfl rfl)
theorem dX8_aside_121 : decode cX8_aside 121 = .ok (.ifCond .ne 10, 3) := dk_154 0 10 (dk_at dksX8_aside_5 4 rfl rfl)
theorem dX8_aside_124 : decode cX8_aside 124 = .ok (.iload_n 3, 1) := dk_29 (dk_at dksX8_aside_5 7 rfl rfl)
theorem dX8_aside_125 : decode cX8_aside 125 = .ok (.invokestatic 247, 3) := dk_184 0 247 (dk_at dksX8_aside_5 8 rfl rfl)
theorem dX8_aside_128 : decode cX8_aside 128 = .ok (.goto 4, 3) := dk_167 0 4 (dk_at dksX8_aside_5 11 rfl rfl)
theorem dX8_aside_131 : decode cX8_aside 131 = .ok (.iload_n 3, 1) := dk_29 (dk_at dksX8_aside_5 14 rfl rfl)
theorem dX8_aside_132 : decode cX8_aside 132 = .ok (.ireturn, 1) := dk_172 (dk_at dksX8_aside_5 15 rfl rfl)
abbrev cX8_isRing : ByteArray := prog_20_method_82_code
def yX8_isRing : MethodName := ⟨RX8, "isRing", "(I)Z"⟩
def dkwX8_isRing_5 : List UInt8 := [167, 0, 4, 3, 172]
abbrev dktX8_isRing_5 : List UInt8 := dkwX8_isRing_5 ++ []
def dkwX8_isRing_4 : List UInt8 := [21, 4, 120, 2, 130, 126, 61, 4, 62, 132, 4, 1, 167, 255, 163, 167, 255, 151, 28, 153, 0, 7, 4]
abbrev dktX8_isRing_4 : List UInt8 := dkwX8_isRing_4 ++ dktX8_isRing_5
def dkwX8_isRing_3 : List UInt8 := [4, 167, 0, 4, 3, 54, 5, 132, 6, 1, 167, 255, 213, 21, 5, 153, 0, 6, 167, 0, 14, 28, 4]
abbrev dktX8_isRing_3 : List UInt8 := dkwX8_isRing_3 ++ dktX8_isRing_4
def dkwX8_isRing_2 : List UInt8 := [154, 0, 24, 28, 21, 6, 122, 4, 126, 4, 160, 0, 18, 42, 21, 6, 21, 4, 182, 1, 101, 153, 0, 7]
abbrev dktX8_isRing_2 : List UInt8 := dkwX8_isRing_2 ++ dktX8_isRing_3
def dkwX8_isRing_1 : List UInt8 := [4, 126, 154, 0, 6, 167, 0, 74, 3, 54, 5, 3, 54, 6, 21, 6, 16, 8, 162, 0, 42, 21, 5]
abbrev dktX8_isRing_1 : List UInt8 := dkwX8_isRing_1 ++ dktX8_isRing_2
def dkwX8_isRing_0 : List UInt8 := [27, 61, 4, 62, 29, 153, 0, 107, 3, 62, 3, 54, 4, 21, 4, 16, 8, 162, 0, 92, 28, 21, 4, 122]
abbrev dktX8_isRing_0 : List UInt8 := dkwX8_isRing_0 ++ dktX8_isRing_1
theorem dksX8_isRing_0 : cX8_isRing.data.toList.drop 0 = dktX8_isRing_0 := by decide +kernel
theorem dksX8_isRing_1 : cX8_isRing.data.toList.drop 24 = dktX8_isRing_1 := dk_seg dksX8_isRing_0 24 rfl rfl
theorem dksX8_isRing_2 : cX8_isRing.data.toList.drop 47 = dktX8_isRing_2 := dk_seg dksX8_isRing_1 23 rfl rfl
theorem dksX8_isRing_3 : cX8_isRing.data.toList.drop 71 = dktX8_isRing_3 := dk_seg dksX8_isRing_2 24 rfl rfl
theorem dksX8_isRing_4 : cX8_isRing.data.toList.drop 94 = dktX8_isRing_4 := dk_seg dksX8_isRing_3 23 rfl rfl
theorem dksX8_isRing_5 : cX8_isRing.data.toList.drop 117 = dktX8_isRing_5 := dk_seg dksX8_isRing_4 23 rfl rfl
theorem dX8_isRing_0 : decode cX8_isRing 0 = .ok (.iload_n 1, 1) := dk_27 (dk_at dksX8_isRing_0 0 rfl rfl)
theorem dX8_isRing_1 : decode cX8_isRing 1 = .ok (.istore_n 2, 1) := dk_61 (dk_at dksX8_isRing_0 1 rfl rfl)
theorem dX8_isRing_2 : decode cX8_isRing 2 = .ok (.iconst 1, 1) := dk_4 (dk_at dksX8_isRing_0 2 rfl rfl)
theorem dX8_isRing_3 : decode cX8_isRing 3 = .ok (.istore_n 3, 1) := dk_62 (dk_at dksX8_isRing_0 3 rfl rfl)
theorem dX8_isRing_4 : decode cX8_isRing 4 = .ok (.iload_n 3, 1) := dk_29 (dk_at dksX8_isRing_0 4 rfl rfl)
theorem dX8_isRing_5 : decode cX8_isRing 5 = .ok (.ifCond .eq 107, 3) := dk_153 0 107 (dk_at dksX8_isRing_0 5 rfl rfl)
theorem dX8_isRing_8 : decode cX8_isRing 8 = .ok (.iconst 0, 1) := dk_3 (dk_at dksX8_isRing_0 8 rfl rfl)
theorem dX8_isRing_9 : decode cX8_isRing 9 = .ok (.istore_n 3, 1) := dk_62 (dk_at dksX8_isRing_0 9 rfl rfl)
theorem dX8_isRing_10 : decode cX8_isRing 10 = .ok (.iconst 0, 1) := dk_3 (dk_at dksX8_isRing_0 10 rfl rfl)
theorem dX8_isRing_11 : decode cX8_isRing 11 = .ok (.istore 4, 2) := dk_54 4 (dk_at dksX8_isRing_0 11 rfl rfl)
theorem dX8_isRing_13 : decode cX8_isRing 13 = .ok (.iload 4, 2) := dk_21 4 (dk_at dksX8_isRing_0 13 rfl rfl)
theorem dX8_isRing_15 : decode cX8_isRing 15 = .ok (.bipush 8, 2) := dk_16 8 (dk_at dksX8_isRing_0 15 rfl rfl)
theorem dX8_isRing_17 : decode cX8_isRing 17 = .ok (.if_icmp .ge 92, 3) := dk_162 0 92 (dk_at dksX8_isRing_0 17 rfl rfl)
theorem dX8_isRing_20 : decode cX8_isRing 20 = .ok (.iload_n 2, 1) := dk_28 (dk_at dksX8_isRing_0 20 rfl rfl)
theorem dX8_isRing_21 : decode cX8_isRing 21 = .ok (.iload 4, 2) := dk_21 4 (dk_at dksX8_isRing_0 21 rfl rfl)
theorem dX8_isRing_23 : decode cX8_isRing 23 = .ok (.ishr, 1) := dk_122 (dk_at dksX8_isRing_0 23 rfl rfl)
theorem dX8_isRing_24 : decode cX8_isRing 24 = .ok (.iconst 1, 1) := dk_4 (dk_at dksX8_isRing_1 0 rfl rfl)
theorem dX8_isRing_25 : decode cX8_isRing 25 = .ok (.iand, 1) := dk_126 (dk_at dksX8_isRing_1 1 rfl rfl)
theorem dX8_isRing_26 : decode cX8_isRing 26 = .ok (.ifCond .ne 6, 3) := dk_154 0 6 (dk_at dksX8_isRing_1 2 rfl rfl)
theorem dX8_isRing_29 : decode cX8_isRing 29 = .ok (.goto 74, 3) := dk_167 0 74 (dk_at dksX8_isRing_1 5 rfl rfl)
theorem dX8_isRing_32 : decode cX8_isRing 32 = .ok (.iconst 0, 1) := dk_3 (dk_at dksX8_isRing_1 8 rfl rfl)
theorem dX8_isRing_33 : decode cX8_isRing 33 = .ok (.istore 5, 2) := dk_54 5 (dk_at dksX8_isRing_1 9 rfl rfl)
theorem dX8_isRing_35 : decode cX8_isRing 35 = .ok (.iconst 0, 1) := dk_3 (dk_at dksX8_isRing_1 11 rfl rfl)
theorem dX8_isRing_36 : decode cX8_isRing 36 = .ok (.istore 6, 2) := dk_54 6 (dk_at dksX8_isRing_1 12 rfl rfl)
theorem dX8_isRing_38 : decode cX8_isRing 38 = .ok (.iload 6, 2) := dk_21 6 (dk_at dksX8_isRing_1 14 rfl rfl)
theorem dX8_isRing_40 : decode cX8_isRing 40 = .ok (.bipush 8, 2) := dk_16 8 (dk_at dksX8_isRing_1 16 rfl rfl)
theorem dX8_isRing_42 : decode cX8_isRing 42 = .ok (.if_icmp .ge 42, 3) := dk_162 0 42 (dk_at dksX8_isRing_1 18 rfl rfl)
theorem dX8_isRing_45 : decode cX8_isRing 45 = .ok (.iload 5, 2) := dk_21 5 (dk_at dksX8_isRing_1 21 rfl rfl)
theorem dX8_isRing_47 : decode cX8_isRing 47 = .ok (.ifCond .ne 24, 3) := dk_154 0 24 (dk_at dksX8_isRing_2 0 rfl rfl)
theorem dX8_isRing_50 : decode cX8_isRing 50 = .ok (.iload_n 2, 1) := dk_28 (dk_at dksX8_isRing_2 3 rfl rfl)
theorem dX8_isRing_51 : decode cX8_isRing 51 = .ok (.iload 6, 2) := dk_21 6 (dk_at dksX8_isRing_2 4 rfl rfl)
theorem dX8_isRing_53 : decode cX8_isRing 53 = .ok (.ishr, 1) := dk_122 (dk_at dksX8_isRing_2 6 rfl rfl)
theorem dX8_isRing_54 : decode cX8_isRing 54 = .ok (.iconst 1, 1) := dk_4 (dk_at dksX8_isRing_2 7 rfl rfl)
theorem dX8_isRing_55 : decode cX8_isRing 55 = .ok (.iand, 1) := dk_126 (dk_at dksX8_isRing_2 8 rfl rfl)
theorem dX8_isRing_56 : decode cX8_isRing 56 = .ok (.iconst 1, 1) := dk_4 (dk_at dksX8_isRing_2 9 rfl rfl)
theorem dX8_isRing_57 : decode cX8_isRing 57 = .ok (.if_icmp .ne 18, 3) := dk_160 0 18 (dk_at dksX8_isRing_2 10 rfl rfl)
theorem dX8_isRing_60 : decode cX8_isRing 60 = .ok (.aload_n 0, 1) := dk_42 (dk_at dksX8_isRing_2 13 rfl rfl)
theorem dX8_isRing_61 : decode cX8_isRing 61 = .ok (.iload 6, 2) := dk_21 6 (dk_at dksX8_isRing_2 14 rfl rfl)
theorem dX8_isRing_63 : decode cX8_isRing 63 = .ok (.iload 4, 2) := dk_21 4 (dk_at dksX8_isRing_2 16 rfl rfl)
theorem dX8_isRing_65 : decode cX8_isRing 65 = .ok (.invokevirtual 357, 3) := dk_182 1 101 (dk_at dksX8_isRing_2 18 rfl rfl)
theorem dX8_isRing_68 : decode cX8_isRing 68 = .ok (.ifCond .eq 7, 3) := dk_153 0 7 (dk_at dksX8_isRing_2 21 rfl rfl)
theorem dX8_isRing_71 : decode cX8_isRing 71 = .ok (.iconst 1, 1) := dk_4 (dk_at dksX8_isRing_3 0 rfl rfl)
theorem dX8_isRing_72 : decode cX8_isRing 72 = .ok (.goto 4, 3) := dk_167 0 4 (dk_at dksX8_isRing_3 1 rfl rfl)
theorem dX8_isRing_75 : decode cX8_isRing 75 = .ok (.iconst 0, 1) := dk_3 (dk_at dksX8_isRing_3 4 rfl rfl)
theorem dX8_isRing_76 : decode cX8_isRing 76 = .ok (.istore 5, 2) := dk_54 5 (dk_at dksX8_isRing_3 5 rfl rfl)
theorem dX8_isRing_78 : decode cX8_isRing 78 = .ok (.iinc 6 1, 3) := dk_132 6 1 (dk_at dksX8_isRing_3 7 rfl rfl)
theorem dX8_isRing_81 : decode cX8_isRing 81 = .ok (.goto (-43), 3) := dk_167 255 213 (dk_at dksX8_isRing_3 10 rfl rfl)
theorem dX8_isRing_84 : decode cX8_isRing 84 = .ok (.iload 5, 2) := dk_21 5 (dk_at dksX8_isRing_3 13 rfl rfl)
theorem dX8_isRing_86 : decode cX8_isRing 86 = .ok (.ifCond .eq 6, 3) := dk_153 0 6 (dk_at dksX8_isRing_3 15 rfl rfl)
theorem dX8_isRing_89 : decode cX8_isRing 89 = .ok (.goto 14, 3) := dk_167 0 14 (dk_at dksX8_isRing_3 18 rfl rfl)
theorem dX8_isRing_92 : decode cX8_isRing 92 = .ok (.iload_n 2, 1) := dk_28 (dk_at dksX8_isRing_3 21 rfl rfl)
theorem dX8_isRing_93 : decode cX8_isRing 93 = .ok (.iconst 1, 1) := dk_4 (dk_at dksX8_isRing_3 22 rfl rfl)
theorem dX8_isRing_94 : decode cX8_isRing 94 = .ok (.iload 4, 2) := dk_21 4 (dk_at dksX8_isRing_4 0 rfl rfl)
theorem dX8_isRing_96 : decode cX8_isRing 96 = .ok (.ishl, 1) := dk_120 (dk_at dksX8_isRing_4 2 rfl rfl)
theorem dX8_isRing_97 : decode cX8_isRing 97 = .ok (.iconst (-1), 1) := dk_2 (dk_at dksX8_isRing_4 3 rfl rfl)
theorem dX8_isRing_98 : decode cX8_isRing 98 = .ok (.ixor, 1) := dk_130 (dk_at dksX8_isRing_4 4 rfl rfl)
theorem dX8_isRing_99 : decode cX8_isRing 99 = .ok (.iand, 1) := dk_126 (dk_at dksX8_isRing_4 5 rfl rfl)
theorem dX8_isRing_100 : decode cX8_isRing 100 = .ok (.istore_n 2, 1) := dk_61 (dk_at dksX8_isRing_4 6 rfl rfl)
theorem dX8_isRing_101 : decode cX8_isRing 101 = .ok (.iconst 1, 1) := dk_4 (dk_at dksX8_isRing_4 7 rfl rfl)
theorem dX8_isRing_102 : decode cX8_isRing 102 = .ok (.istore_n 3, 1) := dk_62 (dk_at dksX8_isRing_4 8 rfl rfl)
theorem dX8_isRing_103 : decode cX8_isRing 103 = .ok (.iinc 4 1, 3) := dk_132 4 1 (dk_at dksX8_isRing_4 9 rfl rfl)
theorem dX8_isRing_106 : decode cX8_isRing 106 = .ok (.goto (-93), 3) := dk_167 255 163 (dk_at dksX8_isRing_4 12 rfl rfl)
theorem dX8_isRing_109 : decode cX8_isRing 109 = .ok (.goto (-105), 3) := dk_167 255 151 (dk_at dksX8_isRing_4 15 rfl rfl)
theorem dX8_isRing_112 : decode cX8_isRing 112 = .ok (.iload_n 2, 1) := dk_28 (dk_at dksX8_isRing_4 18 rfl rfl)
theorem dX8_isRing_113 : decode cX8_isRing 113 = .ok (.ifCond .eq 7, 3) := dk_153 0 7 (dk_at dksX8_isRing_4 19 rfl rfl)
theorem dX8_isRing_116 : decode cX8_isRing 116 = .ok (.iconst 1, 1) := dk_4 (dk_at dksX8_isRing_4 22 rfl rfl)
theorem dX8_isRing_117 : decode cX8_isRing 117 = .ok (.goto 4, 3) := dk_167 0 4 (dk_at dksX8_isRing_5 0 rfl rfl)
theorem dX8_isRing_120 : decode cX8_isRing 120 = .ok (.iconst 0, 1) := dk_3 (dk_at dksX8_isRing_5 3 rfl rfl)
theorem dX8_isRing_121 : decode cX8_isRing 121 = .ok (.ireturn, 1) := dk_172 (dk_at dksX8_isRing_5 4 rfl rfl)
abbrev cX8_years : ByteArray := prog_20_method_91_code
def yX8_years : MethodName := ⟨RX8, "years", "(I)I"⟩
def dkwX8_years_1 : List UInt8 := [61, 28, 16, 252, 159, 0, 11, 42, 42, 180, 1, 118, 181, 1, 155, 28, 172]
abbrev dktX8_years_1 : List UInt8 := dkwX8_years_1 ++ []
def dkwX8_years_0 : List UInt8 := [42, 3, 181, 0, 1, 27, 184, 1, 40, 154, 0, 6, 16, 254, 172, 42, 182, 1, 4, 42, 27, 182, 1, 152]
abbrev dktX8_years_0 : List UInt8 := dkwX8_years_0 ++ dktX8_years_1
theorem dksX8_years_0 : cX8_years.data.toList.drop 0 = dktX8_years_0 := by decide +kernel
theorem dksX8_years_1 : cX8_years.data.toList.drop 24 = dktX8_years_1 := dk_seg dksX8_years_0 24 rfl rfl
theorem dX8_years_0 : decode cX8_years 0 = .ok (.aload_n 0, 1) := dk_42 (dk_at dksX8_years_0 0 rfl rfl)
theorem dX8_years_1 : decode cX8_years 1 = .ok (.iconst 0, 1) := dk_3 (dk_at dksX8_years_0 1 rfl rfl)
theorem dX8_years_2 : decode cX8_years 2 = .ok (.putfield 1, 3) := dk_181 0 1 (dk_at dksX8_years_0 2 rfl rfl)
theorem dX8_years_5 : decode cX8_years 5 = .ok (.iload_n 1, 1) := dk_27 (dk_at dksX8_years_0 5 rfl rfl)
theorem dX8_years_6 : decode cX8_years 6 = .ok (.invokestatic 296, 3) := dk_184 1 40 (dk_at dksX8_years_0 6 rfl rfl)
theorem dX8_years_9 : decode cX8_years 9 = .ok (.ifCond .ne 6, 3) := dk_154 0 6 (dk_at dksX8_years_0 9 rfl rfl)
theorem dX8_years_12 : decode cX8_years 12 = .ok (.bipush (-2), 2) := dk_16 254 (dk_at dksX8_years_0 12 rfl rfl)
theorem dX8_years_14 : decode cX8_years 14 = .ok (.ireturn, 1) := dk_172 (dk_at dksX8_years_0 14 rfl rfl)
theorem dX8_years_15 : decode cX8_years 15 = .ok (.aload_n 0, 1) := dk_42 (dk_at dksX8_years_0 15 rfl rfl)
theorem dX8_years_16 : decode cX8_years 16 = .ok (.invokevirtual 260, 3) := dk_182 1 4 (dk_at dksX8_years_0 16 rfl rfl)
theorem dX8_years_19 : decode cX8_years 19 = .ok (.aload_n 0, 1) := dk_42 (dk_at dksX8_years_0 19 rfl rfl)
theorem dX8_years_20 : decode cX8_years 20 = .ok (.iload_n 1, 1) := dk_27 (dk_at dksX8_years_0 20 rfl rfl)
theorem dX8_years_21 : decode cX8_years 21 = .ok (.invokevirtual 408, 3) := dk_182 1 152 (dk_at dksX8_years_0 21 rfl rfl)
theorem dX8_years_24 : decode cX8_years 24 = .ok (.istore_n 2, 1) := dk_61 (dk_at dksX8_years_1 0 rfl rfl)
theorem dX8_years_25 : decode cX8_years 25 = .ok (.iload_n 2, 1) := dk_28 (dk_at dksX8_years_1 1 rfl rfl)
theorem dX8_years_26 : decode cX8_years 26 = .ok (.bipush (-4), 2) := dk_16 252 (dk_at dksX8_years_1 2 rfl rfl)
theorem dX8_years_28 : decode cX8_years 28 = .ok (.if_icmp .eq 11, 3) := dk_159 0 11 (dk_at dksX8_years_1 4 rfl rfl)
theorem dX8_years_31 : decode cX8_years 31 = .ok (.aload_n 0, 1) := dk_42 (dk_at dksX8_years_1 7 rfl rfl)
theorem dX8_years_32 : decode cX8_years 32 = .ok (.aload_n 0, 1) := dk_42 (dk_at dksX8_years_1 8 rfl rfl)
theorem dX8_years_33 : decode cX8_years 33 = .ok (.getfield 374, 3) := dk_180 1 118 (dk_at dksX8_years_1 9 rfl rfl)
theorem dX8_years_36 : decode cX8_years 36 = .ok (.putfield 411, 3) := dk_181 1 155 (dk_at dksX8_years_1 12 rfl rfl)
theorem dX8_years_39 : decode cX8_years 39 = .ok (.iload_n 2, 1) := dk_28 (dk_at dksX8_years_1 15 rfl rfl)
theorem dX8_years_40 : decode cX8_years 40 = .ok (.ireturn, 1) := dk_172 (dk_at dksX8_years_1 16 rfl rfl)
abbrev cX8_sought : ByteArray := prog_20_method_90_code
def yX8_sought : MethodName := ⟨RX8, "sought", "(I)I"⟩
def dkwX8_sought_4 : List UInt8 := [153, 0, 6, 16, 252, 172, 132, 2, 1, 167, 255, 174]
abbrev dktX8_sought_4 : List UInt8 := dkwX8_sought_4 ++ []
def dkwX8_sought_3 : List UInt8 := [153, 0, 5, 28, 172, 132, 3, 1, 167, 255, 219, 42, 182, 1, 148, 154, 0, 5, 2, 172, 42, 180, 1, 121]
abbrev dktX8_sought_3 : List UInt8 := dkwX8_sought_3 ++ dktX8_sought_4
def dkwX8_sought_2 : List UInt8 := [162, 0, 35, 42, 42, 180, 0, 52, 29, 47, 42, 180, 0, 56, 29, 46, 182, 1, 97, 42, 27, 182, 1, 43]
abbrev dktX8_sought_2 : List UInt8 := dkwX8_sought_2 ++ dktX8_sought_3
def dkwX8_sought_1 : List UInt8 := [182, 1, 144, 42, 180, 1, 121, 153, 0, 6, 16, 252, 172, 42, 180, 1, 131, 62, 29, 42, 180, 1, 118]
abbrev dktX8_sought_1 : List UInt8 := dkwX8_sought_1 ++ dktX8_sought_2
def dkwX8_sought_0 : List UInt8 := [42, 27, 182, 1, 43, 153, 0, 10, 42, 3, 181, 1, 118, 3, 172, 42, 182, 1, 141, 4, 61, 42, 3]
abbrev dktX8_sought_0 : List UInt8 := dkwX8_sought_0 ++ dktX8_sought_1
theorem dksX8_sought_0 : cX8_sought.data.toList.drop 0 = dktX8_sought_0 := by decide +kernel
theorem dksX8_sought_1 : cX8_sought.data.toList.drop 23 = dktX8_sought_1 := dk_seg dksX8_sought_0 23 rfl rfl
theorem dksX8_sought_2 : cX8_sought.data.toList.drop 46 = dktX8_sought_2 := dk_seg dksX8_sought_1 23 rfl rfl
theorem dksX8_sought_3 : cX8_sought.data.toList.drop 70 = dktX8_sought_3 := dk_seg dksX8_sought_2 24 rfl rfl
theorem dksX8_sought_4 : cX8_sought.data.toList.drop 94 = dktX8_sought_4 := dk_seg dksX8_sought_3 24 rfl rfl
theorem dX8_sought_0 : decode cX8_sought 0 = .ok (.aload_n 0, 1) := dk_42 (dk_at dksX8_sought_0 0 rfl rfl)
theorem dX8_sought_1 : decode cX8_sought 1 = .ok (.iload_n 1, 1) := dk_27 (dk_at dksX8_sought_0 1 rfl rfl)
theorem dX8_sought_2 : decode cX8_sought 2 = .ok (.invokevirtual 299, 3) := dk_182 1 43 (dk_at dksX8_sought_0 2 rfl rfl)
theorem dX8_sought_5 : decode cX8_sought 5 = .ok (.ifCond .eq 10, 3) := dk_153 0 10 (dk_at dksX8_sought_0 5 rfl rfl)
theorem dX8_sought_8 : decode cX8_sought 8 = .ok (.aload_n 0, 1) := dk_42 (dk_at dksX8_sought_0 8 rfl rfl)
theorem dX8_sought_9 : decode cX8_sought 9 = .ok (.iconst 0, 1) := dk_3 (dk_at dksX8_sought_0 9 rfl rfl)
theorem dX8_sought_10 : decode cX8_sought 10 = .ok (.putfield 374, 3) := dk_181 1 118 (dk_at dksX8_sought_0 10 rfl rfl)
theorem dX8_sought_13 : decode cX8_sought 13 = .ok (.iconst 0, 1) := dk_3 (dk_at dksX8_sought_0 13 rfl rfl)
theorem dX8_sought_14 : decode cX8_sought 14 = .ok (.ireturn, 1) := dk_172 (dk_at dksX8_sought_0 14 rfl rfl)
theorem dX8_sought_15 : decode cX8_sought 15 = .ok (.aload_n 0, 1) := dk_42 (dk_at dksX8_sought_0 15 rfl rfl)
theorem dX8_sought_16 : decode cX8_sought 16 = .ok (.invokevirtual 397, 3) := dk_182 1 141 (dk_at dksX8_sought_0 16 rfl rfl)
theorem dX8_sought_19 : decode cX8_sought 19 = .ok (.iconst 1, 1) := dk_4 (dk_at dksX8_sought_0 19 rfl rfl)
theorem dX8_sought_20 : decode cX8_sought 20 = .ok (.istore_n 2, 1) := dk_61 (dk_at dksX8_sought_0 20 rfl rfl)
theorem dX8_sought_21 : decode cX8_sought 21 = .ok (.aload_n 0, 1) := dk_42 (dk_at dksX8_sought_0 21 rfl rfl)
theorem dX8_sought_22 : decode cX8_sought 22 = .ok (.iconst 0, 1) := dk_3 (dk_at dksX8_sought_0 22 rfl rfl)
theorem dX8_sought_23 : decode cX8_sought 23 = .ok (.invokevirtual 400, 3) := dk_182 1 144 (dk_at dksX8_sought_1 0 rfl rfl)
theorem dX8_sought_26 : decode cX8_sought 26 = .ok (.aload_n 0, 1) := dk_42 (dk_at dksX8_sought_1 3 rfl rfl)
theorem dX8_sought_27 : decode cX8_sought 27 = .ok (.getfield 377, 3) := dk_180 1 121 (dk_at dksX8_sought_1 4 rfl rfl)
theorem dX8_sought_30 : decode cX8_sought 30 = .ok (.ifCond .eq 6, 3) := dk_153 0 6 (dk_at dksX8_sought_1 7 rfl rfl)
theorem dX8_sought_33 : decode cX8_sought 33 = .ok (.bipush (-4), 2) := dk_16 252 (dk_at dksX8_sought_1 10 rfl rfl)
theorem dX8_sought_35 : decode cX8_sought 35 = .ok (.ireturn, 1) := dk_172 (dk_at dksX8_sought_1 12 rfl rfl)
theorem dX8_sought_36 : decode cX8_sought 36 = .ok (.aload_n 0, 1) := dk_42 (dk_at dksX8_sought_1 13 rfl rfl)
theorem dX8_sought_37 : decode cX8_sought 37 = .ok (.getfield 387, 3) := dk_180 1 131 (dk_at dksX8_sought_1 14 rfl rfl)
theorem dX8_sought_40 : decode cX8_sought 40 = .ok (.istore_n 3, 1) := dk_62 (dk_at dksX8_sought_1 17 rfl rfl)
theorem dX8_sought_41 : decode cX8_sought 41 = .ok (.iload_n 3, 1) := dk_29 (dk_at dksX8_sought_1 18 rfl rfl)
theorem dX8_sought_42 : decode cX8_sought 42 = .ok (.aload_n 0, 1) := dk_42 (dk_at dksX8_sought_1 19 rfl rfl)
theorem dX8_sought_43 : decode cX8_sought 43 = .ok (.getfield 374, 3) := dk_180 1 118 (dk_at dksX8_sought_1 20 rfl rfl)
theorem dX8_sought_46 : decode cX8_sought 46 = .ok (.if_icmp .ge 35, 3) := dk_162 0 35 (dk_at dksX8_sought_2 0 rfl rfl)
theorem dX8_sought_49 : decode cX8_sought 49 = .ok (.aload_n 0, 1) := dk_42 (dk_at dksX8_sought_2 3 rfl rfl)
theorem dX8_sought_50 : decode cX8_sought 50 = .ok (.aload_n 0, 1) := dk_42 (dk_at dksX8_sought_2 4 rfl rfl)
theorem dX8_sought_51 : decode cX8_sought 51 = .ok (.getfield 52, 3) := dk_180 0 52 (dk_at dksX8_sought_2 5 rfl rfl)
theorem dX8_sought_54 : decode cX8_sought 54 = .ok (.iload_n 3, 1) := dk_29 (dk_at dksX8_sought_2 8 rfl rfl)
theorem dX8_sought_55 : decode cX8_sought 55 = .ok (.laload, 1) := dk_47 (dk_at dksX8_sought_2 9 rfl rfl)
theorem dX8_sought_56 : decode cX8_sought 56 = .ok (.aload_n 0, 1) := dk_42 (dk_at dksX8_sought_2 10 rfl rfl)
theorem dX8_sought_57 : decode cX8_sought 57 = .ok (.getfield 56, 3) := dk_180 0 56 (dk_at dksX8_sought_2 11 rfl rfl)
theorem dX8_sought_60 : decode cX8_sought 60 = .ok (.iload_n 3, 1) := dk_29 (dk_at dksX8_sought_2 14 rfl rfl)
theorem dX8_sought_61 : decode cX8_sought 61 = .ok (.iaload, 1) := dk_46 (dk_at dksX8_sought_2 15 rfl rfl)
theorem dX8_sought_62 : decode cX8_sought 62 = .ok (.invokevirtual 353, 3) := dk_182 1 97 (dk_at dksX8_sought_2 16 rfl rfl)
theorem dX8_sought_65 : decode cX8_sought 65 = .ok (.aload_n 0, 1) := dk_42 (dk_at dksX8_sought_2 19 rfl rfl)
theorem dX8_sought_66 : decode cX8_sought 66 = .ok (.iload_n 1, 1) := dk_27 (dk_at dksX8_sought_2 20 rfl rfl)
theorem dX8_sought_67 : decode cX8_sought 67 = .ok (.invokevirtual 299, 3) := dk_182 1 43 (dk_at dksX8_sought_2 21 rfl rfl)
theorem dX8_sought_70 : decode cX8_sought 70 = .ok (.ifCond .eq 5, 3) := dk_153 0 5 (dk_at dksX8_sought_3 0 rfl rfl)
theorem dX8_sought_73 : decode cX8_sought 73 = .ok (.iload_n 2, 1) := dk_28 (dk_at dksX8_sought_3 3 rfl rfl)
theorem dX8_sought_74 : decode cX8_sought 74 = .ok (.ireturn, 1) := dk_172 (dk_at dksX8_sought_3 4 rfl rfl)
theorem dX8_sought_75 : decode cX8_sought 75 = .ok (.iinc 3 1, 3) := dk_132 3 1 (dk_at dksX8_sought_3 5 rfl rfl)
theorem dX8_sought_78 : decode cX8_sought 78 = .ok (.goto (-37), 3) := dk_167 255 219 (dk_at dksX8_sought_3 8 rfl rfl)
theorem dX8_sought_81 : decode cX8_sought 81 = .ok (.aload_n 0, 1) := dk_42 (dk_at dksX8_sought_3 11 rfl rfl)
theorem dX8_sought_82 : decode cX8_sought 82 = .ok (.invokevirtual 404, 3) := dk_182 1 148 (dk_at dksX8_sought_3 12 rfl rfl)
theorem dX8_sought_85 : decode cX8_sought 85 = .ok (.ifCond .ne 5, 3) := dk_154 0 5 (dk_at dksX8_sought_3 15 rfl rfl)
theorem dX8_sought_88 : decode cX8_sought 88 = .ok (.iconst (-1), 1) := dk_2 (dk_at dksX8_sought_3 18 rfl rfl)
theorem dX8_sought_89 : decode cX8_sought 89 = .ok (.ireturn, 1) := dk_172 (dk_at dksX8_sought_3 19 rfl rfl)
theorem dX8_sought_90 : decode cX8_sought 90 = .ok (.aload_n 0, 1) := dk_42 (dk_at dksX8_sought_3 20 rfl rfl)
theorem dX8_sought_91 : decode cX8_sought 91 = .ok (.getfield 377, 3) := dk_180 1 121 (dk_at dksX8_sought_3 21 rfl rfl)
theorem dX8_sought_94 : decode cX8_sought 94 = .ok (.ifCond .eq 6, 3) := dk_153 0 6 (dk_at dksX8_sought_4 0 rfl rfl)
theorem dX8_sought_97 : decode cX8_sought 97 = .ok (.bipush (-4), 2) := dk_16 252 (dk_at dksX8_sought_4 3 rfl rfl)
theorem dX8_sought_99 : decode cX8_sought 99 = .ok (.ireturn, 1) := dk_172 (dk_at dksX8_sought_4 5 rfl rfl)
theorem dX8_sought_100 : decode cX8_sought 100 = .ok (.iinc 2 1, 3) := dk_132 2 1 (dk_at dksX8_sought_4 6 rfl rfl)
theorem dX8_sought_103 : decode cX8_sought 103 = .ok (.goto (-82), 3) := dk_167 255 174 (dk_at dksX8_sought_4 9 rfl rfl)
abbrev cX8_startsYears : ByteArray := prog_20_method_88_code
def yX8_startsYears : MethodName := ⟨RX8, "startsYears", "()V"⟩
def dkwX8_startsYears_3 : List UInt8 := [184, 1, 90, 182, 1, 137, 87, 177]
abbrev dktX8_startsYears_3 : List UInt8 := dkwX8_startsYears_3 ++ []
def dkwX8_startsYears_2 : List UInt8 := [184, 1, 90, 42, 180, 0, 211, 182, 1, 134, 42, 180, 0, 211, 154, 0, 15, 42, 42, 180, 0, 30]
abbrev dktX8_startsYears_2 : List UInt8 := dkwX8_startsYears_2 ++ dktX8_startsYears_3
def dkwX8_startsYears_1 : List UInt8 := [180, 1, 115, 4, 96, 181, 1, 115, 42, 89, 180, 1, 125, 4, 96, 181, 1, 125, 42, 42, 180, 0, 30]
abbrev dktX8_startsYears_1 : List UInt8 := dkwX8_startsYears_1 ++ dktX8_startsYears_2
def dkwX8_startsYears_0 : List UInt8 := [42, 3, 181, 1, 118, 42, 3, 181, 1, 131, 42, 3, 181, 1, 128, 42, 3, 181, 1, 121, 42, 89]
abbrev dktX8_startsYears_0 : List UInt8 := dkwX8_startsYears_0 ++ dktX8_startsYears_1
theorem dksX8_startsYears_0 : cX8_startsYears.data.toList.drop 0 = dktX8_startsYears_0 := by decide +kernel
theorem dksX8_startsYears_1 : cX8_startsYears.data.toList.drop 22 = dktX8_startsYears_1 := dk_seg dksX8_startsYears_0 22 rfl rfl
theorem dksX8_startsYears_2 : cX8_startsYears.data.toList.drop 45 = dktX8_startsYears_2 := dk_seg dksX8_startsYears_1 23 rfl rfl
theorem dksX8_startsYears_3 : cX8_startsYears.data.toList.drop 67 = dktX8_startsYears_3 := dk_seg dksX8_startsYears_2 22 rfl rfl
theorem dX8_startsYears_0 : decode cX8_startsYears 0 = .ok (.aload_n 0, 1) := dk_42 (dk_at dksX8_startsYears_0 0 rfl rfl)
theorem dX8_startsYears_1 : decode cX8_startsYears 1 = .ok (.iconst 0, 1) := dk_3 (dk_at dksX8_startsYears_0 1 rfl rfl)
theorem dX8_startsYears_2 : decode cX8_startsYears 2 = .ok (.putfield 374, 3) := dk_181 1 118 (dk_at dksX8_startsYears_0 2 rfl rfl)
theorem dX8_startsYears_5 : decode cX8_startsYears 5 = .ok (.aload_n 0, 1) := dk_42 (dk_at dksX8_startsYears_0 5 rfl rfl)
theorem dX8_startsYears_6 : decode cX8_startsYears 6 = .ok (.iconst 0, 1) := dk_3 (dk_at dksX8_startsYears_0 6 rfl rfl)
theorem dX8_startsYears_7 : decode cX8_startsYears 7 = .ok (.putfield 387, 3) := dk_181 1 131 (dk_at dksX8_startsYears_0 7 rfl rfl)
theorem dX8_startsYears_10 : decode cX8_startsYears 10 = .ok (.aload_n 0, 1) := dk_42 (dk_at dksX8_startsYears_0 10 rfl rfl)
theorem dX8_startsYears_11 : decode cX8_startsYears 11 = .ok (.iconst 0, 1) := dk_3 (dk_at dksX8_startsYears_0 11 rfl rfl)
theorem dX8_startsYears_12 : decode cX8_startsYears 12 = .ok (.putfield 384, 3) := dk_181 1 128 (dk_at dksX8_startsYears_0 12 rfl rfl)
theorem dX8_startsYears_15 : decode cX8_startsYears 15 = .ok (.aload_n 0, 1) := dk_42 (dk_at dksX8_startsYears_0 15 rfl rfl)
theorem dX8_startsYears_16 : decode cX8_startsYears 16 = .ok (.iconst 0, 1) := dk_3 (dk_at dksX8_startsYears_0 16 rfl rfl)
theorem dX8_startsYears_17 : decode cX8_startsYears 17 = .ok (.putfield 377, 3) := dk_181 1 121 (dk_at dksX8_startsYears_0 17 rfl rfl)
theorem dX8_startsYears_20 : decode cX8_startsYears 20 = .ok (.aload_n 0, 1) := dk_42 (dk_at dksX8_startsYears_0 20 rfl rfl)
theorem dX8_startsYears_21 : decode cX8_startsYears 21 = .ok (.dup, 1) := dk_89 (dk_at dksX8_startsYears_0 21 rfl rfl)
theorem dX8_startsYears_22 : decode cX8_startsYears 22 = .ok (.getfield 371, 3) := dk_180 1 115 (dk_at dksX8_startsYears_1 0 rfl rfl)
theorem dX8_startsYears_25 : decode cX8_startsYears 25 = .ok (.iconst 1, 1) := dk_4 (dk_at dksX8_startsYears_1 3 rfl rfl)
theorem dX8_startsYears_26 : decode cX8_startsYears 26 = .ok (.iadd, 1) := dk_96 (dk_at dksX8_startsYears_1 4 rfl rfl)
theorem dX8_startsYears_27 : decode cX8_startsYears 27 = .ok (.putfield 371, 3) := dk_181 1 115 (dk_at dksX8_startsYears_1 5 rfl rfl)
theorem dX8_startsYears_30 : decode cX8_startsYears 30 = .ok (.aload_n 0, 1) := dk_42 (dk_at dksX8_startsYears_1 8 rfl rfl)
theorem dX8_startsYears_31 : decode cX8_startsYears 31 = .ok (.dup, 1) := dk_89 (dk_at dksX8_startsYears_1 9 rfl rfl)
theorem dX8_startsYears_32 : decode cX8_startsYears 32 = .ok (.getfield 381, 3) := dk_180 1 125 (dk_at dksX8_startsYears_1 10 rfl rfl)
theorem dX8_startsYears_35 : decode cX8_startsYears 35 = .ok (.iconst 1, 1) := dk_4 (dk_at dksX8_startsYears_1 13 rfl rfl)
theorem dX8_startsYears_36 : decode cX8_startsYears 36 = .ok (.iadd, 1) := dk_96 (dk_at dksX8_startsYears_1 14 rfl rfl)
theorem dX8_startsYears_37 : decode cX8_startsYears 37 = .ok (.putfield 381, 3) := dk_181 1 125 (dk_at dksX8_startsYears_1 15 rfl rfl)
theorem dX8_startsYears_40 : decode cX8_startsYears 40 = .ok (.aload_n 0, 1) := dk_42 (dk_at dksX8_startsYears_1 18 rfl rfl)
theorem dX8_startsYears_41 : decode cX8_startsYears 41 = .ok (.aload_n 0, 1) := dk_42 (dk_at dksX8_startsYears_1 19 rfl rfl)
theorem dX8_startsYears_42 : decode cX8_startsYears 42 = .ok (.getfield 30, 3) := dk_180 0 30 (dk_at dksX8_startsYears_1 20 rfl rfl)
theorem dX8_startsYears_45 : decode cX8_startsYears 45 = .ok (.invokestatic 346, 3) := dk_184 1 90 (dk_at dksX8_startsYears_2 0 rfl rfl)
theorem dX8_startsYears_48 : decode cX8_startsYears 48 = .ok (.aload_n 0, 1) := dk_42 (dk_at dksX8_startsYears_2 3 rfl rfl)
theorem dX8_startsYears_49 : decode cX8_startsYears 49 = .ok (.getfield 211, 3) := dk_180 0 211 (dk_at dksX8_startsYears_2 4 rfl rfl)
theorem dX8_startsYears_52 : decode cX8_startsYears 52 = .ok (.invokevirtual 390, 3) := dk_182 1 134 (dk_at dksX8_startsYears_2 7 rfl rfl)
theorem dX8_startsYears_55 : decode cX8_startsYears 55 = .ok (.aload_n 0, 1) := dk_42 (dk_at dksX8_startsYears_2 10 rfl rfl)
theorem dX8_startsYears_56 : decode cX8_startsYears 56 = .ok (.getfield 211, 3) := dk_180 0 211 (dk_at dksX8_startsYears_2 11 rfl rfl)
theorem dX8_startsYears_59 : decode cX8_startsYears 59 = .ok (.ifCond .ne 15, 3) := dk_154 0 15 (dk_at dksX8_startsYears_2 14 rfl rfl)
theorem dX8_startsYears_62 : decode cX8_startsYears 62 = .ok (.aload_n 0, 1) := dk_42 (dk_at dksX8_startsYears_2 17 rfl rfl)
theorem dX8_startsYears_63 : decode cX8_startsYears 63 = .ok (.aload_n 0, 1) := dk_42 (dk_at dksX8_startsYears_2 18 rfl rfl)
theorem dX8_startsYears_64 : decode cX8_startsYears 64 = .ok (.getfield 30, 3) := dk_180 0 30 (dk_at dksX8_startsYears_2 19 rfl rfl)
theorem dX8_startsYears_67 : decode cX8_startsYears 67 = .ok (.invokestatic 346, 3) := dk_184 1 90 (dk_at dksX8_startsYears_3 0 rfl rfl)
theorem dX8_startsYears_70 : decode cX8_startsYears 70 = .ok (.invokevirtual 393, 3) := dk_182 1 137 (dk_at dksX8_startsYears_3 3 rfl rfl)
theorem dX8_startsYears_73 : decode cX8_startsYears 73 = .ok (.pop, 1) := dk_87 (dk_at dksX8_startsYears_3 6 rfl rfl)
theorem dX8_startsYears_74 : decode cX8_startsYears 74 = .ok (.return_, 1) := dk_177 (dk_at dksX8_startsYears_3 7 rfl rfl)
abbrev cX8_takes : ByteArray := prog_20_method_85_code
def yX8_takes : MethodName := ⟨RX8, "takes", "(JI)V"⟩
def dkwX8_takes_5 : List UInt8 := [80, 42, 180, 0, 56, 42, 180, 1, 118, 29, 79, 42, 89, 180, 1, 118, 4, 96, 181, 1, 118, 177]
abbrev dktX8_takes_5 : List UInt8 := dkwX8_takes_5 ++ []
def dkwX8_takes_4 : List UInt8 := [180, 1, 115, 79, 42, 180, 0, 59, 21, 4, 42, 180, 1, 118, 79, 42, 180, 0, 52, 42, 180, 1, 118, 31]
abbrev dktX8_takes_4 : List UInt8 := dkwX8_takes_4 ++ dktX8_takes_5
def dkwX8_takes_3 : List UInt8 := [180, 1, 118, 17, 23, 112, 160, 0, 9, 42, 4, 181, 1, 121, 177, 42, 180, 0, 62, 21, 4, 42]
abbrev dktX8_takes_3 : List UInt8 := dkwX8_takes_3 ++ dktX8_takes_4
def dkwX8_takes_2 : List UInt8 := [21, 4, 46, 46, 29, 160, 0, 4, 177, 21, 4, 4, 96, 17, 63, 255, 126, 54, 4, 167, 255, 198, 42]
abbrev dktX8_takes_2 : List UInt8 := dkwX8_takes_2 ++ dktX8_takes_3
def dkwX8_takes_1 : List UInt8 := [180, 0, 52, 42, 180, 0, 59, 21, 4, 46, 47, 31, 148, 154, 0, 20, 42, 180, 0, 56, 42, 180, 0, 59]
abbrev dktX8_takes_1 : List UInt8 := dkwX8_takes_1 ++ dktX8_takes_2
def dkwX8_takes_0 : List UInt8 := [31, 29, 184, 1, 111, 54, 4, 42, 180, 0, 62, 21, 4, 46, 42, 180, 1, 115, 160, 0, 50, 42]
abbrev dktX8_takes_0 : List UInt8 := dkwX8_takes_0 ++ dktX8_takes_1
theorem dksX8_takes_0 : cX8_takes.data.toList.drop 0 = dktX8_takes_0 := by decide +kernel
theorem dksX8_takes_1 : cX8_takes.data.toList.drop 22 = dktX8_takes_1 := dk_seg dksX8_takes_0 22 rfl rfl
theorem dksX8_takes_2 : cX8_takes.data.toList.drop 46 = dktX8_takes_2 := dk_seg dksX8_takes_1 24 rfl rfl
theorem dksX8_takes_3 : cX8_takes.data.toList.drop 69 = dktX8_takes_3 := dk_seg dksX8_takes_2 23 rfl rfl
theorem dksX8_takes_4 : cX8_takes.data.toList.drop 91 = dktX8_takes_4 := dk_seg dksX8_takes_3 22 rfl rfl
theorem dksX8_takes_5 : cX8_takes.data.toList.drop 115 = dktX8_takes_5 := dk_seg dksX8_takes_4 24 rfl rfl
theorem dX8_takes_0 : decode cX8_takes 0 = .ok (.lload_n 1, 1) := dk_31 (dk_at dksX8_takes_0 0 rfl rfl)
theorem dX8_takes_1 : decode cX8_takes 1 = .ok (.iload_n 3, 1) := dk_29 (dk_at dksX8_takes_0 1 rfl rfl)
theorem dX8_takes_2 : decode cX8_takes 2 = .ok (.invokestatic 367, 3) := dk_184 1 111 (dk_at dksX8_takes_0 2 rfl rfl)
theorem dX8_takes_5 : decode cX8_takes 5 = .ok (.istore 4, 2) := dk_54 4 (dk_at dksX8_takes_0 5 rfl rfl)
theorem dX8_takes_7 : decode cX8_takes 7 = .ok (.aload_n 0, 1) := dk_42 (dk_at dksX8_takes_0 7 rfl rfl)
theorem dX8_takes_8 : decode cX8_takes 8 = .ok (.getfield 62, 3) := dk_180 0 62 (dk_at dksX8_takes_0 8 rfl rfl)
theorem dX8_takes_11 : decode cX8_takes 11 = .ok (.iload 4, 2) := dk_21 4 (dk_at dksX8_takes_0 11 rfl rfl)
theorem dX8_takes_13 : decode cX8_takes 13 = .ok (.iaload, 1) := dk_46 (dk_at dksX8_takes_0 13 rfl rfl)
theorem dX8_takes_14 : decode cX8_takes 14 = .ok (.aload_n 0, 1) := dk_42 (dk_at dksX8_takes_0 14 rfl rfl)
theorem dX8_takes_15 : decode cX8_takes 15 = .ok (.getfield 371, 3) := dk_180 1 115 (dk_at dksX8_takes_0 15 rfl rfl)
theorem dX8_takes_18 : decode cX8_takes 18 = .ok (.if_icmp .ne 50, 3) := dk_160 0 50 (dk_at dksX8_takes_0 18 rfl rfl)
theorem dX8_takes_21 : decode cX8_takes 21 = .ok (.aload_n 0, 1) := dk_42 (dk_at dksX8_takes_0 21 rfl rfl)
theorem dX8_takes_22 : decode cX8_takes 22 = .ok (.getfield 52, 3) := dk_180 0 52 (dk_at dksX8_takes_1 0 rfl rfl)
theorem dX8_takes_25 : decode cX8_takes 25 = .ok (.aload_n 0, 1) := dk_42 (dk_at dksX8_takes_1 3 rfl rfl)
theorem dX8_takes_26 : decode cX8_takes 26 = .ok (.getfield 59, 3) := dk_180 0 59 (dk_at dksX8_takes_1 4 rfl rfl)
theorem dX8_takes_29 : decode cX8_takes 29 = .ok (.iload 4, 2) := dk_21 4 (dk_at dksX8_takes_1 7 rfl rfl)
theorem dX8_takes_31 : decode cX8_takes 31 = .ok (.iaload, 1) := dk_46 (dk_at dksX8_takes_1 9 rfl rfl)
theorem dX8_takes_32 : decode cX8_takes 32 = .ok (.laload, 1) := dk_47 (dk_at dksX8_takes_1 10 rfl rfl)
theorem dX8_takes_33 : decode cX8_takes 33 = .ok (.lload_n 1, 1) := dk_31 (dk_at dksX8_takes_1 11 rfl rfl)
theorem dX8_takes_34 : decode cX8_takes 34 = .ok (.lcmp, 1) := dk_148 (dk_at dksX8_takes_1 12 rfl rfl)
theorem dX8_takes_35 : decode cX8_takes 35 = .ok (.ifCond .ne 20, 3) := dk_154 0 20 (dk_at dksX8_takes_1 13 rfl rfl)
theorem dX8_takes_38 : decode cX8_takes 38 = .ok (.aload_n 0, 1) := dk_42 (dk_at dksX8_takes_1 16 rfl rfl)
theorem dX8_takes_39 : decode cX8_takes 39 = .ok (.getfield 56, 3) := dk_180 0 56 (dk_at dksX8_takes_1 17 rfl rfl)
theorem dX8_takes_42 : decode cX8_takes 42 = .ok (.aload_n 0, 1) := dk_42 (dk_at dksX8_takes_1 20 rfl rfl)
theorem dX8_takes_43 : decode cX8_takes 43 = .ok (.getfield 59, 3) := dk_180 0 59 (dk_at dksX8_takes_1 21 rfl rfl)
theorem dX8_takes_46 : decode cX8_takes 46 = .ok (.iload 4, 2) := dk_21 4 (dk_at dksX8_takes_2 0 rfl rfl)
theorem dX8_takes_48 : decode cX8_takes 48 = .ok (.iaload, 1) := dk_46 (dk_at dksX8_takes_2 2 rfl rfl)
theorem dX8_takes_49 : decode cX8_takes 49 = .ok (.iaload, 1) := dk_46 (dk_at dksX8_takes_2 3 rfl rfl)
theorem dX8_takes_50 : decode cX8_takes 50 = .ok (.iload_n 3, 1) := dk_29 (dk_at dksX8_takes_2 4 rfl rfl)
theorem dX8_takes_51 : decode cX8_takes 51 = .ok (.if_icmp .ne 4, 3) := dk_160 0 4 (dk_at dksX8_takes_2 5 rfl rfl)
theorem dX8_takes_54 : decode cX8_takes 54 = .ok (.return_, 1) := dk_177 (dk_at dksX8_takes_2 8 rfl rfl)
theorem dX8_takes_55 : decode cX8_takes 55 = .ok (.iload 4, 2) := dk_21 4 (dk_at dksX8_takes_2 9 rfl rfl)
theorem dX8_takes_57 : decode cX8_takes 57 = .ok (.iconst 1, 1) := dk_4 (dk_at dksX8_takes_2 11 rfl rfl)
theorem dX8_takes_58 : decode cX8_takes 58 = .ok (.iadd, 1) := dk_96 (dk_at dksX8_takes_2 12 rfl rfl)
theorem dX8_takes_59 : decode cX8_takes 59 = .ok (.sipush 16383, 3) := dk_17 63 255 (dk_at dksX8_takes_2 13 rfl rfl)
theorem dX8_takes_62 : decode cX8_takes 62 = .ok (.iand, 1) := dk_126 (dk_at dksX8_takes_2 16 rfl rfl)
theorem dX8_takes_63 : decode cX8_takes 63 = .ok (.istore 4, 2) := dk_54 4 (dk_at dksX8_takes_2 17 rfl rfl)
theorem dX8_takes_65 : decode cX8_takes 65 = .ok (.goto (-58), 3) := dk_167 255 198 (dk_at dksX8_takes_2 19 rfl rfl)
theorem dX8_takes_68 : decode cX8_takes 68 = .ok (.aload_n 0, 1) := dk_42 (dk_at dksX8_takes_2 22 rfl rfl)
theorem dX8_takes_69 : decode cX8_takes 69 = .ok (.getfield 374, 3) := dk_180 1 118 (dk_at dksX8_takes_3 0 rfl rfl)
theorem dX8_takes_72 : decode cX8_takes 72 = .ok (.sipush 6000, 3) := dk_17 23 112 (dk_at dksX8_takes_3 3 rfl rfl)
theorem dX8_takes_75 : decode cX8_takes 75 = .ok (.if_icmp .ne 9, 3) := dk_160 0 9 (dk_at dksX8_takes_3 6 rfl rfl)
theorem dX8_takes_78 : decode cX8_takes 78 = .ok (.aload_n 0, 1) := dk_42 (dk_at dksX8_takes_3 9 rfl rfl)
theorem dX8_takes_79 : decode cX8_takes 79 = .ok (.iconst 1, 1) := dk_4 (dk_at dksX8_takes_3 10 rfl rfl)
theorem dX8_takes_80 : decode cX8_takes 80 = .ok (.putfield 377, 3) := dk_181 1 121 (dk_at dksX8_takes_3 11 rfl rfl)
theorem dX8_takes_83 : decode cX8_takes 83 = .ok (.return_, 1) := dk_177 (dk_at dksX8_takes_3 14 rfl rfl)
theorem dX8_takes_84 : decode cX8_takes 84 = .ok (.aload_n 0, 1) := dk_42 (dk_at dksX8_takes_3 15 rfl rfl)
theorem dX8_takes_85 : decode cX8_takes 85 = .ok (.getfield 62, 3) := dk_180 0 62 (dk_at dksX8_takes_3 16 rfl rfl)
theorem dX8_takes_88 : decode cX8_takes 88 = .ok (.iload 4, 2) := dk_21 4 (dk_at dksX8_takes_3 19 rfl rfl)
theorem dX8_takes_90 : decode cX8_takes 90 = .ok (.aload_n 0, 1) := dk_42 (dk_at dksX8_takes_3 21 rfl rfl)
theorem dX8_takes_91 : decode cX8_takes 91 = .ok (.getfield 371, 3) := dk_180 1 115 (dk_at dksX8_takes_4 0 rfl rfl)
theorem dX8_takes_94 : decode cX8_takes 94 = .ok (.iastore, 1) := dk_79 (dk_at dksX8_takes_4 3 rfl rfl)
theorem dX8_takes_95 : decode cX8_takes 95 = .ok (.aload_n 0, 1) := dk_42 (dk_at dksX8_takes_4 4 rfl rfl)
theorem dX8_takes_96 : decode cX8_takes 96 = .ok (.getfield 59, 3) := dk_180 0 59 (dk_at dksX8_takes_4 5 rfl rfl)
theorem dX8_takes_99 : decode cX8_takes 99 = .ok (.iload 4, 2) := dk_21 4 (dk_at dksX8_takes_4 8 rfl rfl)
theorem dX8_takes_101 : decode cX8_takes 101 = .ok (.aload_n 0, 1) := dk_42 (dk_at dksX8_takes_4 10 rfl rfl)
theorem dX8_takes_102 : decode cX8_takes 102 = .ok (.getfield 374, 3) := dk_180 1 118 (dk_at dksX8_takes_4 11 rfl rfl)
theorem dX8_takes_105 : decode cX8_takes 105 = .ok (.iastore, 1) := dk_79 (dk_at dksX8_takes_4 14 rfl rfl)
theorem dX8_takes_106 : decode cX8_takes 106 = .ok (.aload_n 0, 1) := dk_42 (dk_at dksX8_takes_4 15 rfl rfl)
theorem dX8_takes_107 : decode cX8_takes 107 = .ok (.getfield 52, 3) := dk_180 0 52 (dk_at dksX8_takes_4 16 rfl rfl)
theorem dX8_takes_110 : decode cX8_takes 110 = .ok (.aload_n 0, 1) := dk_42 (dk_at dksX8_takes_4 19 rfl rfl)
theorem dX8_takes_111 : decode cX8_takes 111 = .ok (.getfield 374, 3) := dk_180 1 118 (dk_at dksX8_takes_4 20 rfl rfl)
theorem dX8_takes_114 : decode cX8_takes 114 = .ok (.lload_n 1, 1) := dk_31 (dk_at dksX8_takes_4 23 rfl rfl)
theorem dX8_takes_115 : decode cX8_takes 115 = .ok (.lastore, 1) := dk_80 (dk_at dksX8_takes_5 0 rfl rfl)
theorem dX8_takes_116 : decode cX8_takes 116 = .ok (.aload_n 0, 1) := dk_42 (dk_at dksX8_takes_5 1 rfl rfl)
theorem dX8_takes_117 : decode cX8_takes 117 = .ok (.getfield 56, 3) := dk_180 0 56 (dk_at dksX8_takes_5 2 rfl rfl)
theorem dX8_takes_120 : decode cX8_takes 120 = .ok (.aload_n 0, 1) := dk_42 (dk_at dksX8_takes_5 5 rfl rfl)
theorem dX8_takes_121 : decode cX8_takes 121 = .ok (.getfield 374, 3) := dk_180 1 118 (dk_at dksX8_takes_5 6 rfl rfl)
theorem dX8_takes_124 : decode cX8_takes 124 = .ok (.iload_n 3, 1) := dk_29 (dk_at dksX8_takes_5 9 rfl rfl)
theorem dX8_takes_125 : decode cX8_takes 125 = .ok (.iastore, 1) := dk_79 (dk_at dksX8_takes_5 10 rfl rfl)
theorem dX8_takes_126 : decode cX8_takes 126 = .ok (.aload_n 0, 1) := dk_42 (dk_at dksX8_takes_5 11 rfl rfl)
theorem dX8_takes_127 : decode cX8_takes 127 = .ok (.dup, 1) := dk_89 (dk_at dksX8_takes_5 12 rfl rfl)
theorem dX8_takes_128 : decode cX8_takes 128 = .ok (.getfield 374, 3) := dk_180 1 118 (dk_at dksX8_takes_5 13 rfl rfl)
theorem dX8_takes_131 : decode cX8_takes 131 = .ok (.iconst 1, 1) := dk_4 (dk_at dksX8_takes_5 16 rfl rfl)
theorem dX8_takes_132 : decode cX8_takes 132 = .ok (.iadd, 1) := dk_96 (dk_at dksX8_takes_5 17 rfl rfl)
theorem dX8_takes_133 : decode cX8_takes 133 = .ok (.putfield 374, 3) := dk_181 1 118 (dk_at dksX8_takes_5 18 rfl rfl)
theorem dX8_takes_136 : decode cX8_takes 136 = .ok (.return_, 1) := dk_177 (dk_at dksX8_takes_5 21 rfl rfl)
abbrev cX8_spot : ByteArray := prog_20_method_84_code
def yX8_spot : MethodName := ⟨RX8, "spot", "(JI)I"⟩
def dkwX8_spot_0 : List UInt8 := [30, 20, 1, 107, 105, 28, 133, 97, 20, 1, 109, 105, 66, 33, 16, 50, 125, 136, 172]
abbrev dktX8_spot_0 : List UInt8 := dkwX8_spot_0 ++ []
theorem dksX8_spot_0 : cX8_spot.data.toList.drop 0 = dktX8_spot_0 := by decide +kernel
theorem dX8_spot_0 : decode cX8_spot 0 = .ok (.lload_n 0, 1) := dk_30 (dk_at dksX8_spot_0 0 rfl rfl)
theorem dX8_spot_1 : decode cX8_spot 1 = .ok (.ldc2_w 363, 3) := dk_20 1 107 (dk_at dksX8_spot_0 1 rfl rfl)
theorem dX8_spot_4 : decode cX8_spot 4 = .ok (.lmul, 1) := dk_105 (dk_at dksX8_spot_0 4 rfl rfl)
theorem dX8_spot_5 : decode cX8_spot 5 = .ok (.iload_n 2, 1) := dk_28 (dk_at dksX8_spot_0 5 rfl rfl)
theorem dX8_spot_6 : decode cX8_spot 6 = .ok (.i2l, 1) := dk_133 (dk_at dksX8_spot_0 6 rfl rfl)
theorem dX8_spot_7 : decode cX8_spot 7 = .ok (.ladd, 1) := dk_97 (dk_at dksX8_spot_0 7 rfl rfl)
theorem dX8_spot_8 : decode cX8_spot 8 = .ok (.ldc2_w 365, 3) := dk_20 1 109 (dk_at dksX8_spot_0 8 rfl rfl)
theorem dX8_spot_11 : decode cX8_spot 11 = .ok (.lmul, 1) := dk_105 (dk_at dksX8_spot_0 11 rfl rfl)
theorem dX8_spot_12 : decode cX8_spot 12 = .ok (.lstore_n 3, 1) := dk_66 (dk_at dksX8_spot_0 12 rfl rfl)
theorem dX8_spot_13 : decode cX8_spot 13 = .ok (.lload_n 3, 1) := dk_33 (dk_at dksX8_spot_0 13 rfl rfl)
theorem dX8_spot_14 : decode cX8_spot 14 = .ok (.bipush 50, 2) := dk_16 50 (dk_at dksX8_spot_0 14 rfl rfl)
theorem dX8_spot_16 : decode cX8_spot 16 = .ok (.lushr, 1) := dk_125 (dk_at dksX8_spot_0 16 rfl rfl)
theorem dX8_spot_17 : decode cX8_spot 17 = .ok (.l2i, 1) := dk_136 (dk_at dksX8_spot_0 17 rfl rfl)
theorem dX8_spot_18 : decode cX8_spot 18 = .ok (.ireturn, 1) := dk_172 (dk_at dksX8_spot_0 18 rfl rfl)
abbrev cX8_isBegun : ByteArray := prog_20_method_86_code
def yX8_isBegun : MethodName := ⟨RX8, "isBegun", "(J)Z"⟩
def dkwX8_isBegun_3 : List UInt8 := [42, 180, 1, 128, 31, 80, 42, 89, 180, 1, 128, 4, 96, 181, 1, 128, 4, 172]
abbrev dktX8_isBegun_3 : List UInt8 := dkwX8_isBegun_3 ++ []
def dkwX8_isBegun_2 : List UInt8 := [42, 180, 0, 68, 29, 42, 180, 1, 125, 79, 42, 180, 0, 65, 29, 42, 180, 1, 128, 79, 42, 180, 0, 71]
abbrev dktX8_isBegun_2 : List UInt8 := dkwX8_isBegun_2 ++ dktX8_isBegun_3
def dkwX8_isBegun_1 : List UInt8 := [180, 0, 65, 29, 46, 47, 31, 148, 154, 0, 5, 3, 172, 29, 4, 96, 17, 63, 255, 126, 62, 167, 255, 217]
abbrev dktX8_isBegun_1 : List UInt8 := dkwX8_isBegun_1 ++ dktX8_isBegun_2
def dkwX8_isBegun_0 : List UInt8 := [31, 3, 184, 1, 111, 62, 42, 180, 0, 68, 29, 46, 42, 180, 1, 125, 160, 0, 32, 42, 180, 0, 71, 42]
abbrev dktX8_isBegun_0 : List UInt8 := dkwX8_isBegun_0 ++ dktX8_isBegun_1
theorem dksX8_isBegun_0 : cX8_isBegun.data.toList.drop 0 = dktX8_isBegun_0 := by decide +kernel
theorem dksX8_isBegun_1 : cX8_isBegun.data.toList.drop 24 = dktX8_isBegun_1 := dk_seg dksX8_isBegun_0 24 rfl rfl
theorem dksX8_isBegun_2 : cX8_isBegun.data.toList.drop 48 = dktX8_isBegun_2 := dk_seg dksX8_isBegun_1 24 rfl rfl
theorem dksX8_isBegun_3 : cX8_isBegun.data.toList.drop 72 = dktX8_isBegun_3 := dk_seg dksX8_isBegun_2 24 rfl rfl
theorem dX8_isBegun_0 : decode cX8_isBegun 0 = .ok (.lload_n 1, 1) := dk_31 (dk_at dksX8_isBegun_0 0 rfl rfl)
theorem dX8_isBegun_1 : decode cX8_isBegun 1 = .ok (.iconst 0, 1) := dk_3 (dk_at dksX8_isBegun_0 1 rfl rfl)
theorem dX8_isBegun_2 : decode cX8_isBegun 2 = .ok (.invokestatic 367, 3) := dk_184 1 111 (dk_at dksX8_isBegun_0 2 rfl rfl)
theorem dX8_isBegun_5 : decode cX8_isBegun 5 = .ok (.istore_n 3, 1) := dk_62 (dk_at dksX8_isBegun_0 5 rfl rfl)
theorem dX8_isBegun_6 : decode cX8_isBegun 6 = .ok (.aload_n 0, 1) := dk_42 (dk_at dksX8_isBegun_0 6 rfl rfl)
theorem dX8_isBegun_7 : decode cX8_isBegun 7 = .ok (.getfield 68, 3) := dk_180 0 68 (dk_at dksX8_isBegun_0 7 rfl rfl)
theorem dX8_isBegun_10 : decode cX8_isBegun 10 = .ok (.iload_n 3, 1) := dk_29 (dk_at dksX8_isBegun_0 10 rfl rfl)
theorem dX8_isBegun_11 : decode cX8_isBegun 11 = .ok (.iaload, 1) := dk_46 (dk_at dksX8_isBegun_0 11 rfl rfl)
theorem dX8_isBegun_12 : decode cX8_isBegun 12 = .ok (.aload_n 0, 1) := dk_42 (dk_at dksX8_isBegun_0 12 rfl rfl)
theorem dX8_isBegun_13 : decode cX8_isBegun 13 = .ok (.getfield 381, 3) := dk_180 1 125 (dk_at dksX8_isBegun_0 13 rfl rfl)
theorem dX8_isBegun_16 : decode cX8_isBegun 16 = .ok (.if_icmp .ne 32, 3) := dk_160 0 32 (dk_at dksX8_isBegun_0 16 rfl rfl)
theorem dX8_isBegun_19 : decode cX8_isBegun 19 = .ok (.aload_n 0, 1) := dk_42 (dk_at dksX8_isBegun_0 19 rfl rfl)
theorem dX8_isBegun_20 : decode cX8_isBegun 20 = .ok (.getfield 71, 3) := dk_180 0 71 (dk_at dksX8_isBegun_0 20 rfl rfl)
theorem dX8_isBegun_23 : decode cX8_isBegun 23 = .ok (.aload_n 0, 1) := dk_42 (dk_at dksX8_isBegun_0 23 rfl rfl)
theorem dX8_isBegun_24 : decode cX8_isBegun 24 = .ok (.getfield 65, 3) := dk_180 0 65 (dk_at dksX8_isBegun_1 0 rfl rfl)
theorem dX8_isBegun_27 : decode cX8_isBegun 27 = .ok (.iload_n 3, 1) := dk_29 (dk_at dksX8_isBegun_1 3 rfl rfl)
theorem dX8_isBegun_28 : decode cX8_isBegun 28 = .ok (.iaload, 1) := dk_46 (dk_at dksX8_isBegun_1 4 rfl rfl)
theorem dX8_isBegun_29 : decode cX8_isBegun 29 = .ok (.laload, 1) := dk_47 (dk_at dksX8_isBegun_1 5 rfl rfl)
theorem dX8_isBegun_30 : decode cX8_isBegun 30 = .ok (.lload_n 1, 1) := dk_31 (dk_at dksX8_isBegun_1 6 rfl rfl)
theorem dX8_isBegun_31 : decode cX8_isBegun 31 = .ok (.lcmp, 1) := dk_148 (dk_at dksX8_isBegun_1 7 rfl rfl)
theorem dX8_isBegun_32 : decode cX8_isBegun 32 = .ok (.ifCond .ne 5, 3) := dk_154 0 5 (dk_at dksX8_isBegun_1 8 rfl rfl)
theorem dX8_isBegun_35 : decode cX8_isBegun 35 = .ok (.iconst 0, 1) := dk_3 (dk_at dksX8_isBegun_1 11 rfl rfl)
theorem dX8_isBegun_36 : decode cX8_isBegun 36 = .ok (.ireturn, 1) := dk_172 (dk_at dksX8_isBegun_1 12 rfl rfl)
theorem dX8_isBegun_37 : decode cX8_isBegun 37 = .ok (.iload_n 3, 1) := dk_29 (dk_at dksX8_isBegun_1 13 rfl rfl)
theorem dX8_isBegun_38 : decode cX8_isBegun 38 = .ok (.iconst 1, 1) := dk_4 (dk_at dksX8_isBegun_1 14 rfl rfl)
theorem dX8_isBegun_39 : decode cX8_isBegun 39 = .ok (.iadd, 1) := dk_96 (dk_at dksX8_isBegun_1 15 rfl rfl)
theorem dX8_isBegun_40 : decode cX8_isBegun 40 = .ok (.sipush 16383, 3) := dk_17 63 255 (dk_at dksX8_isBegun_1 16 rfl rfl)
theorem dX8_isBegun_43 : decode cX8_isBegun 43 = .ok (.iand, 1) := dk_126 (dk_at dksX8_isBegun_1 19 rfl rfl)
theorem dX8_isBegun_44 : decode cX8_isBegun 44 = .ok (.istore_n 3, 1) := dk_62 (dk_at dksX8_isBegun_1 20 rfl rfl)
theorem dX8_isBegun_45 : decode cX8_isBegun 45 = .ok (.goto (-39), 3) := dk_167 255 217 (dk_at dksX8_isBegun_1 21 rfl rfl)
theorem dX8_isBegun_48 : decode cX8_isBegun 48 = .ok (.aload_n 0, 1) := dk_42 (dk_at dksX8_isBegun_2 0 rfl rfl)
theorem dX8_isBegun_49 : decode cX8_isBegun 49 = .ok (.getfield 68, 3) := dk_180 0 68 (dk_at dksX8_isBegun_2 1 rfl rfl)
theorem dX8_isBegun_52 : decode cX8_isBegun 52 = .ok (.iload_n 3, 1) := dk_29 (dk_at dksX8_isBegun_2 4 rfl rfl)
theorem dX8_isBegun_53 : decode cX8_isBegun 53 = .ok (.aload_n 0, 1) := dk_42 (dk_at dksX8_isBegun_2 5 rfl rfl)
theorem dX8_isBegun_54 : decode cX8_isBegun 54 = .ok (.getfield 381, 3) := dk_180 1 125 (dk_at dksX8_isBegun_2 6 rfl rfl)
theorem dX8_isBegun_57 : decode cX8_isBegun 57 = .ok (.iastore, 1) := dk_79 (dk_at dksX8_isBegun_2 9 rfl rfl)
theorem dX8_isBegun_58 : decode cX8_isBegun 58 = .ok (.aload_n 0, 1) := dk_42 (dk_at dksX8_isBegun_2 10 rfl rfl)
theorem dX8_isBegun_59 : decode cX8_isBegun 59 = .ok (.getfield 65, 3) := dk_180 0 65 (dk_at dksX8_isBegun_2 11 rfl rfl)
theorem dX8_isBegun_62 : decode cX8_isBegun 62 = .ok (.iload_n 3, 1) := dk_29 (dk_at dksX8_isBegun_2 14 rfl rfl)
theorem dX8_isBegun_63 : decode cX8_isBegun 63 = .ok (.aload_n 0, 1) := dk_42 (dk_at dksX8_isBegun_2 15 rfl rfl)
theorem dX8_isBegun_64 : decode cX8_isBegun 64 = .ok (.getfield 384, 3) := dk_180 1 128 (dk_at dksX8_isBegun_2 16 rfl rfl)
theorem dX8_isBegun_67 : decode cX8_isBegun 67 = .ok (.iastore, 1) := dk_79 (dk_at dksX8_isBegun_2 19 rfl rfl)
theorem dX8_isBegun_68 : decode cX8_isBegun 68 = .ok (.aload_n 0, 1) := dk_42 (dk_at dksX8_isBegun_2 20 rfl rfl)
theorem dX8_isBegun_69 : decode cX8_isBegun 69 = .ok (.getfield 71, 3) := dk_180 0 71 (dk_at dksX8_isBegun_2 21 rfl rfl)
theorem dX8_isBegun_72 : decode cX8_isBegun 72 = .ok (.aload_n 0, 1) := dk_42 (dk_at dksX8_isBegun_3 0 rfl rfl)
theorem dX8_isBegun_73 : decode cX8_isBegun 73 = .ok (.getfield 384, 3) := dk_180 1 128 (dk_at dksX8_isBegun_3 1 rfl rfl)
theorem dX8_isBegun_76 : decode cX8_isBegun 76 = .ok (.lload_n 1, 1) := dk_31 (dk_at dksX8_isBegun_3 4 rfl rfl)
theorem dX8_isBegun_77 : decode cX8_isBegun 77 = .ok (.lastore, 1) := dk_80 (dk_at dksX8_isBegun_3 5 rfl rfl)
theorem dX8_isBegun_78 : decode cX8_isBegun 78 = .ok (.aload_n 0, 1) := dk_42 (dk_at dksX8_isBegun_3 6 rfl rfl)
theorem dX8_isBegun_79 : decode cX8_isBegun 79 = .ok (.dup, 1) := dk_89 (dk_at dksX8_isBegun_3 7 rfl rfl)
theorem dX8_isBegun_80 : decode cX8_isBegun 80 = .ok (.getfield 384, 3) := dk_180 1 128 (dk_at dksX8_isBegun_3 8 rfl rfl)
theorem dX8_isBegun_83 : decode cX8_isBegun 83 = .ok (.iconst 1, 1) := dk_4 (dk_at dksX8_isBegun_3 11 rfl rfl)
theorem dX8_isBegun_84 : decode cX8_isBegun 84 = .ok (.iadd, 1) := dk_96 (dk_at dksX8_isBegun_3 12 rfl rfl)
theorem dX8_isBegun_85 : decode cX8_isBegun 85 = .ok (.putfield 384, 3) := dk_181 1 128 (dk_at dksX8_isBegun_3 13 rfl rfl)
theorem dX8_isBegun_88 : decode cX8_isBegun 88 = .ok (.iconst 1, 1) := dk_4 (dk_at dksX8_isBegun_3 16 rfl rfl)
theorem dX8_isBegun_89 : decode cX8_isBegun 89 = .ok (.ireturn, 1) := dk_172 (dk_at dksX8_isBegun_3 17 rfl rfl)
abbrev cX8_spreads : ByteArray := prog_20_method_87_code
def yX8_spreads : MethodName := ⟨RX8, "spreads", "(Z)V"⟩
def dkwX8_spreads_9 : List UInt8 := [132, 2, 1, 167, 255, 50, 177]
abbrev dktX8_spreads_9 : List UInt8 := dkwX8_spreads_9 ++ []
def dkwX8_spreads_8 : List UInt8 := [21, 5, 182, 1, 25, 42, 29, 181, 0, 211, 132, 5, 1, 167, 255, 115, 132, 4, 1, 167, 255, 95]
abbrev dktX8_spreads_8 : List UInt8 := dkwX8_spreads_8 ++ dktX8_spreads_9
def dkwX8_spreads_7 : List UInt8 := [180, 0, 30, 184, 1, 90, 27, 153, 0, 7, 3, 167, 0, 7, 42, 180, 0, 211, 182, 1, 134, 42, 21, 4]
abbrev dktX8_spreads_7 : List UInt8 := dkwX8_spreads_7 ++ dktX8_spreads_8
def dkwX8_spreads_6 : List UInt8 := [162, 0, 58, 42, 21, 4, 21, 5, 182, 1, 13, 154, 0, 47, 42, 21, 4, 21, 5, 182, 1, 25, 42, 42]
abbrev dktX8_spreads_6 : List UInt8 := dkwX8_spreads_6 ++ dktX8_spreads_7
def dkwX8_spreads_5 : List UInt8 := [180, 0, 211, 182, 1, 134, 42, 21, 5, 21, 4, 182, 1, 16, 42, 29, 181, 0, 211, 21, 4, 21, 5]
abbrev dktX8_spreads_5 : List UInt8 := dkwX8_spreads_5 ++ dktX8_spreads_6
def dkwX8_spreads_4 : List UInt8 := [21, 5, 182, 1, 16, 42, 42, 180, 0, 30, 184, 1, 90, 27, 153, 0, 7, 3, 167, 0, 7, 42]
abbrev dktX8_spreads_4 : List UInt8 := dkwX8_spreads_4 ++ dktX8_spreads_5
def dkwX8_spreads_3 : List UInt8 := [21, 4, 21, 5, 160, 0, 6, 167, 0, 120, 42, 21, 4, 21, 5, 182, 1, 10, 154, 0, 47, 42, 21, 4]
abbrev dktX8_spreads_3 : List UInt8 := dkwX8_spreads_3 ++ dktX8_spreads_4
def dkwX8_spreads_2 : List UInt8 := [42, 180, 0, 13, 3, 46, 162, 0, 156, 3, 54, 5, 21, 5, 42, 180, 0, 13, 3, 46, 162, 0, 136]
abbrev dktX8_spreads_2 : List UInt8 := dkwX8_spreads_2 ++ dktX8_spreads_3
def dkwX8_spreads_1 : List UInt8 := [180, 0, 52, 28, 47, 42, 180, 0, 56, 28, 46, 182, 1, 97, 42, 180, 0, 211, 62, 3, 54, 4, 21, 4]
abbrev dktX8_spreads_1 : List UInt8 := dkwX8_spreads_1 ++ dktX8_spreads_2
def dkwX8_spreads_0 : List UInt8 := [42, 180, 1, 131, 61, 28, 42, 180, 1, 118, 162, 0, 204, 42, 180, 1, 121, 154, 0, 197, 42, 42]
abbrev dktX8_spreads_0 : List UInt8 := dkwX8_spreads_0 ++ dktX8_spreads_1
theorem dksX8_spreads_0 : cX8_spreads.data.toList.drop 0 = dktX8_spreads_0 := by decide +kernel
theorem dksX8_spreads_1 : cX8_spreads.data.toList.drop 22 = dktX8_spreads_1 := dk_seg dksX8_spreads_0 22 rfl rfl
theorem dksX8_spreads_2 : cX8_spreads.data.toList.drop 46 = dktX8_spreads_2 := dk_seg dksX8_spreads_1 24 rfl rfl
theorem dksX8_spreads_3 : cX8_spreads.data.toList.drop 69 = dktX8_spreads_3 := dk_seg dksX8_spreads_2 23 rfl rfl
theorem dksX8_spreads_4 : cX8_spreads.data.toList.drop 93 = dktX8_spreads_4 := dk_seg dksX8_spreads_3 24 rfl rfl
theorem dksX8_spreads_5 : cX8_spreads.data.toList.drop 115 = dktX8_spreads_5 := dk_seg dksX8_spreads_4 22 rfl rfl
theorem dksX8_spreads_6 : cX8_spreads.data.toList.drop 138 = dktX8_spreads_6 := dk_seg dksX8_spreads_5 23 rfl rfl
theorem dksX8_spreads_7 : cX8_spreads.data.toList.drop 162 = dktX8_spreads_7 := dk_seg dksX8_spreads_6 24 rfl rfl
theorem dksX8_spreads_8 : cX8_spreads.data.toList.drop 186 = dktX8_spreads_8 := dk_seg dksX8_spreads_7 24 rfl rfl
theorem dksX8_spreads_9 : cX8_spreads.data.toList.drop 208 = dktX8_spreads_9 := dk_seg dksX8_spreads_8 22 rfl rfl
theorem dX8_spreads_0 : decode cX8_spreads 0 = .ok (.aload_n 0, 1) := dk_42 (dk_at dksX8_spreads_0 0 rfl rfl)
theorem dX8_spreads_1 : decode cX8_spreads 1 = .ok (.getfield 387, 3) := dk_180 1 131 (dk_at dksX8_spreads_0 1 rfl rfl)
theorem dX8_spreads_4 : decode cX8_spreads 4 = .ok (.istore_n 2, 1) := dk_61 (dk_at dksX8_spreads_0 4 rfl rfl)
theorem dX8_spreads_5 : decode cX8_spreads 5 = .ok (.iload_n 2, 1) := dk_28 (dk_at dksX8_spreads_0 5 rfl rfl)
theorem dX8_spreads_6 : decode cX8_spreads 6 = .ok (.aload_n 0, 1) := dk_42 (dk_at dksX8_spreads_0 6 rfl rfl)
theorem dX8_spreads_7 : decode cX8_spreads 7 = .ok (.getfield 374, 3) := dk_180 1 118 (dk_at dksX8_spreads_0 7 rfl rfl)
theorem dX8_spreads_10 : decode cX8_spreads 10 = .ok (.if_icmp .ge 204, 3) := dk_162 0 204 (dk_at dksX8_spreads_0 10 rfl rfl)
theorem dX8_spreads_13 : decode cX8_spreads 13 = .ok (.aload_n 0, 1) := dk_42 (dk_at dksX8_spreads_0 13 rfl rfl)
theorem dX8_spreads_14 : decode cX8_spreads 14 = .ok (.getfield 377, 3) := dk_180 1 121 (dk_at dksX8_spreads_0 14 rfl rfl)
theorem dX8_spreads_17 : decode cX8_spreads 17 = .ok (.ifCond .ne 197, 3) := dk_154 0 197 (dk_at dksX8_spreads_0 17 rfl rfl)
theorem dX8_spreads_20 : decode cX8_spreads 20 = .ok (.aload_n 0, 1) := dk_42 (dk_at dksX8_spreads_0 20 rfl rfl)
theorem dX8_spreads_21 : decode cX8_spreads 21 = .ok (.aload_n 0, 1) := dk_42 (dk_at dksX8_spreads_0 21 rfl rfl)
theorem dX8_spreads_22 : decode cX8_spreads 22 = .ok (.getfield 52, 3) := dk_180 0 52 (dk_at dksX8_spreads_1 0 rfl rfl)
theorem dX8_spreads_25 : decode cX8_spreads 25 = .ok (.iload_n 2, 1) := dk_28 (dk_at dksX8_spreads_1 3 rfl rfl)
theorem dX8_spreads_26 : decode cX8_spreads 26 = .ok (.laload, 1) := dk_47 (dk_at dksX8_spreads_1 4 rfl rfl)
theorem dX8_spreads_27 : decode cX8_spreads 27 = .ok (.aload_n 0, 1) := dk_42 (dk_at dksX8_spreads_1 5 rfl rfl)
theorem dX8_spreads_28 : decode cX8_spreads 28 = .ok (.getfield 56, 3) := dk_180 0 56 (dk_at dksX8_spreads_1 6 rfl rfl)
theorem dX8_spreads_31 : decode cX8_spreads 31 = .ok (.iload_n 2, 1) := dk_28 (dk_at dksX8_spreads_1 9 rfl rfl)
theorem dX8_spreads_32 : decode cX8_spreads 32 = .ok (.iaload, 1) := dk_46 (dk_at dksX8_spreads_1 10 rfl rfl)
theorem dX8_spreads_33 : decode cX8_spreads 33 = .ok (.invokevirtual 353, 3) := dk_182 1 97 (dk_at dksX8_spreads_1 11 rfl rfl)
theorem dX8_spreads_36 : decode cX8_spreads 36 = .ok (.aload_n 0, 1) := dk_42 (dk_at dksX8_spreads_1 14 rfl rfl)
theorem dX8_spreads_37 : decode cX8_spreads 37 = .ok (.getfield 211, 3) := dk_180 0 211 (dk_at dksX8_spreads_1 15 rfl rfl)
theorem dX8_spreads_40 : decode cX8_spreads 40 = .ok (.istore_n 3, 1) := dk_62 (dk_at dksX8_spreads_1 18 rfl rfl)
theorem dX8_spreads_41 : decode cX8_spreads 41 = .ok (.iconst 0, 1) := dk_3 (dk_at dksX8_spreads_1 19 rfl rfl)
theorem dX8_spreads_42 : decode cX8_spreads 42 = .ok (.istore 4, 2) := dk_54 4 (dk_at dksX8_spreads_1 20 rfl rfl)
theorem dX8_spreads_44 : decode cX8_spreads 44 = .ok (.iload 4, 2) := dk_21 4 (dk_at dksX8_spreads_1 22 rfl rfl)
theorem dX8_spreads_46 : decode cX8_spreads 46 = .ok (.aload_n 0, 1) := dk_42 (dk_at dksX8_spreads_2 0 rfl rfl)
theorem dX8_spreads_47 : decode cX8_spreads 47 = .ok (.getfield 13, 3) := dk_180 0 13 (dk_at dksX8_spreads_2 1 rfl rfl)
theorem dX8_spreads_50 : decode cX8_spreads 50 = .ok (.iconst 0, 1) := dk_3 (dk_at dksX8_spreads_2 4 rfl rfl)
theorem dX8_spreads_51 : decode cX8_spreads 51 = .ok (.iaload, 1) := dk_46 (dk_at dksX8_spreads_2 5 rfl rfl)
theorem dX8_spreads_52 : decode cX8_spreads 52 = .ok (.if_icmp .ge 156, 3) := dk_162 0 156 (dk_at dksX8_spreads_2 6 rfl rfl)
theorem dX8_spreads_55 : decode cX8_spreads 55 = .ok (.iconst 0, 1) := dk_3 (dk_at dksX8_spreads_2 9 rfl rfl)
theorem dX8_spreads_56 : decode cX8_spreads 56 = .ok (.istore 5, 2) := dk_54 5 (dk_at dksX8_spreads_2 10 rfl rfl)
theorem dX8_spreads_58 : decode cX8_spreads 58 = .ok (.iload 5, 2) := dk_21 5 (dk_at dksX8_spreads_2 12 rfl rfl)
theorem dX8_spreads_60 : decode cX8_spreads 60 = .ok (.aload_n 0, 1) := dk_42 (dk_at dksX8_spreads_2 14 rfl rfl)
theorem dX8_spreads_61 : decode cX8_spreads 61 = .ok (.getfield 13, 3) := dk_180 0 13 (dk_at dksX8_spreads_2 15 rfl rfl)
theorem dX8_spreads_64 : decode cX8_spreads 64 = .ok (.iconst 0, 1) := dk_3 (dk_at dksX8_spreads_2 18 rfl rfl)
theorem dX8_spreads_65 : decode cX8_spreads 65 = .ok (.iaload, 1) := dk_46 (dk_at dksX8_spreads_2 19 rfl rfl)
theorem dX8_spreads_66 : decode cX8_spreads 66 = .ok (.if_icmp .ge 136, 3) := dk_162 0 136 (dk_at dksX8_spreads_2 20 rfl rfl)
theorem dX8_spreads_69 : decode cX8_spreads 69 = .ok (.iload 4, 2) := dk_21 4 (dk_at dksX8_spreads_3 0 rfl rfl)
theorem dX8_spreads_71 : decode cX8_spreads 71 = .ok (.iload 5, 2) := dk_21 5 (dk_at dksX8_spreads_3 2 rfl rfl)
theorem dX8_spreads_73 : decode cX8_spreads 73 = .ok (.if_icmp .ne 6, 3) := dk_160 0 6 (dk_at dksX8_spreads_3 4 rfl rfl)
theorem dX8_spreads_76 : decode cX8_spreads 76 = .ok (.goto 120, 3) := dk_167 0 120 (dk_at dksX8_spreads_3 7 rfl rfl)
theorem dX8_spreads_79 : decode cX8_spreads 79 = .ok (.aload_n 0, 1) := dk_42 (dk_at dksX8_spreads_3 10 rfl rfl)
theorem dX8_spreads_80 : decode cX8_spreads 80 = .ok (.iload 4, 2) := dk_21 4 (dk_at dksX8_spreads_3 11 rfl rfl)
theorem dX8_spreads_82 : decode cX8_spreads 82 = .ok (.iload 5, 2) := dk_21 5 (dk_at dksX8_spreads_3 13 rfl rfl)
theorem dX8_spreads_84 : decode cX8_spreads 84 = .ok (.invokevirtual 266, 3) := dk_182 1 10 (dk_at dksX8_spreads_3 15 rfl rfl)
theorem dX8_spreads_87 : decode cX8_spreads 87 = .ok (.ifCond .ne 47, 3) := dk_154 0 47 (dk_at dksX8_spreads_3 18 rfl rfl)
theorem dX8_spreads_90 : decode cX8_spreads 90 = .ok (.aload_n 0, 1) := dk_42 (dk_at dksX8_spreads_3 21 rfl rfl)
theorem dX8_spreads_91 : decode cX8_spreads 91 = .ok (.iload 4, 2) := dk_21 4 (dk_at dksX8_spreads_3 22 rfl rfl)
theorem dX8_spreads_93 : decode cX8_spreads 93 = .ok (.iload 5, 2) := dk_21 5 (dk_at dksX8_spreads_4 0 rfl rfl)
theorem dX8_spreads_95 : decode cX8_spreads 95 = .ok (.invokevirtual 272, 3) := dk_182 1 16 (dk_at dksX8_spreads_4 2 rfl rfl)
theorem dX8_spreads_98 : decode cX8_spreads 98 = .ok (.aload_n 0, 1) := dk_42 (dk_at dksX8_spreads_4 5 rfl rfl)
theorem dX8_spreads_99 : decode cX8_spreads 99 = .ok (.aload_n 0, 1) := dk_42 (dk_at dksX8_spreads_4 6 rfl rfl)
theorem dX8_spreads_100 : decode cX8_spreads 100 = .ok (.getfield 30, 3) := dk_180 0 30 (dk_at dksX8_spreads_4 7 rfl rfl)
theorem dX8_spreads_103 : decode cX8_spreads 103 = .ok (.invokestatic 346, 3) := dk_184 1 90 (dk_at dksX8_spreads_4 10 rfl rfl)
theorem dX8_spreads_106 : decode cX8_spreads 106 = .ok (.iload_n 1, 1) := dk_27 (dk_at dksX8_spreads_4 13 rfl rfl)
theorem dX8_spreads_107 : decode cX8_spreads 107 = .ok (.ifCond .eq 7, 3) := dk_153 0 7 (dk_at dksX8_spreads_4 14 rfl rfl)
theorem dX8_spreads_110 : decode cX8_spreads 110 = .ok (.iconst 0, 1) := dk_3 (dk_at dksX8_spreads_4 17 rfl rfl)
theorem dX8_spreads_111 : decode cX8_spreads 111 = .ok (.goto 7, 3) := dk_167 0 7 (dk_at dksX8_spreads_4 18 rfl rfl)
theorem dX8_spreads_114 : decode cX8_spreads 114 = .ok (.aload_n 0, 1) := dk_42 (dk_at dksX8_spreads_4 21 rfl rfl)
theorem dX8_spreads_115 : decode cX8_spreads 115 = .ok (.getfield 211, 3) := dk_180 0 211 (dk_at dksX8_spreads_5 0 rfl rfl)
theorem dX8_spreads_118 : decode cX8_spreads 118 = .ok (.invokevirtual 390, 3) := dk_182 1 134 (dk_at dksX8_spreads_5 3 rfl rfl)
theorem dX8_spreads_121 : decode cX8_spreads 121 = .ok (.aload_n 0, 1) := dk_42 (dk_at dksX8_spreads_5 6 rfl rfl)
theorem dX8_spreads_122 : decode cX8_spreads 122 = .ok (.iload 5, 2) := dk_21 5 (dk_at dksX8_spreads_5 7 rfl rfl)
theorem dX8_spreads_124 : decode cX8_spreads 124 = .ok (.iload 4, 2) := dk_21 4 (dk_at dksX8_spreads_5 9 rfl rfl)
theorem dX8_spreads_126 : decode cX8_spreads 126 = .ok (.invokevirtual 272, 3) := dk_182 1 16 (dk_at dksX8_spreads_5 11 rfl rfl)
theorem dX8_spreads_129 : decode cX8_spreads 129 = .ok (.aload_n 0, 1) := dk_42 (dk_at dksX8_spreads_5 14 rfl rfl)
theorem dX8_spreads_130 : decode cX8_spreads 130 = .ok (.iload_n 3, 1) := dk_29 (dk_at dksX8_spreads_5 15 rfl rfl)
theorem dX8_spreads_131 : decode cX8_spreads 131 = .ok (.putfield 211, 3) := dk_181 0 211 (dk_at dksX8_spreads_5 16 rfl rfl)
theorem dX8_spreads_134 : decode cX8_spreads 134 = .ok (.iload 4, 2) := dk_21 4 (dk_at dksX8_spreads_5 19 rfl rfl)
theorem dX8_spreads_136 : decode cX8_spreads 136 = .ok (.iload 5, 2) := dk_21 5 (dk_at dksX8_spreads_5 21 rfl rfl)
theorem dX8_spreads_138 : decode cX8_spreads 138 = .ok (.if_icmp .ge 58, 3) := dk_162 0 58 (dk_at dksX8_spreads_6 0 rfl rfl)
theorem dX8_spreads_141 : decode cX8_spreads 141 = .ok (.aload_n 0, 1) := dk_42 (dk_at dksX8_spreads_6 3 rfl rfl)
theorem dX8_spreads_142 : decode cX8_spreads 142 = .ok (.iload 4, 2) := dk_21 4 (dk_at dksX8_spreads_6 4 rfl rfl)
theorem dX8_spreads_144 : decode cX8_spreads 144 = .ok (.iload 5, 2) := dk_21 5 (dk_at dksX8_spreads_6 6 rfl rfl)
theorem dX8_spreads_146 : decode cX8_spreads 146 = .ok (.invokevirtual 269, 3) := dk_182 1 13 (dk_at dksX8_spreads_6 8 rfl rfl)
theorem dX8_spreads_149 : decode cX8_spreads 149 = .ok (.ifCond .ne 47, 3) := dk_154 0 47 (dk_at dksX8_spreads_6 11 rfl rfl)
theorem dX8_spreads_152 : decode cX8_spreads 152 = .ok (.aload_n 0, 1) := dk_42 (dk_at dksX8_spreads_6 14 rfl rfl)
theorem dX8_spreads_153 : decode cX8_spreads 153 = .ok (.iload 4, 2) := dk_21 4 (dk_at dksX8_spreads_6 15 rfl rfl)
theorem dX8_spreads_155 : decode cX8_spreads 155 = .ok (.iload 5, 2) := dk_21 5 (dk_at dksX8_spreads_6 17 rfl rfl)
theorem dX8_spreads_157 : decode cX8_spreads 157 = .ok (.invokevirtual 281, 3) := dk_182 1 25 (dk_at dksX8_spreads_6 19 rfl rfl)
theorem dX8_spreads_160 : decode cX8_spreads 160 = .ok (.aload_n 0, 1) := dk_42 (dk_at dksX8_spreads_6 22 rfl rfl)
theorem dX8_spreads_161 : decode cX8_spreads 161 = .ok (.aload_n 0, 1) := dk_42 (dk_at dksX8_spreads_6 23 rfl rfl)
theorem dX8_spreads_162 : decode cX8_spreads 162 = .ok (.getfield 30, 3) := dk_180 0 30 (dk_at dksX8_spreads_7 0 rfl rfl)
theorem dX8_spreads_165 : decode cX8_spreads 165 = .ok (.invokestatic 346, 3) := dk_184 1 90 (dk_at dksX8_spreads_7 3 rfl rfl)
theorem dX8_spreads_168 : decode cX8_spreads 168 = .ok (.iload_n 1, 1) := dk_27 (dk_at dksX8_spreads_7 6 rfl rfl)
theorem dX8_spreads_169 : decode cX8_spreads 169 = .ok (.ifCond .eq 7, 3) := dk_153 0 7 (dk_at dksX8_spreads_7 7 rfl rfl)
theorem dX8_spreads_172 : decode cX8_spreads 172 = .ok (.iconst 0, 1) := dk_3 (dk_at dksX8_spreads_7 10 rfl rfl)
theorem dX8_spreads_173 : decode cX8_spreads 173 = .ok (.goto 7, 3) := dk_167 0 7 (dk_at dksX8_spreads_7 11 rfl rfl)
theorem dX8_spreads_176 : decode cX8_spreads 176 = .ok (.aload_n 0, 1) := dk_42 (dk_at dksX8_spreads_7 14 rfl rfl)
theorem dX8_spreads_177 : decode cX8_spreads 177 = .ok (.getfield 211, 3) := dk_180 0 211 (dk_at dksX8_spreads_7 15 rfl rfl)
theorem dX8_spreads_180 : decode cX8_spreads 180 = .ok (.invokevirtual 390, 3) := dk_182 1 134 (dk_at dksX8_spreads_7 18 rfl rfl)
theorem dX8_spreads_183 : decode cX8_spreads 183 = .ok (.aload_n 0, 1) := dk_42 (dk_at dksX8_spreads_7 21 rfl rfl)
theorem dX8_spreads_184 : decode cX8_spreads 184 = .ok (.iload 4, 2) := dk_21 4 (dk_at dksX8_spreads_7 22 rfl rfl)
theorem dX8_spreads_186 : decode cX8_spreads 186 = .ok (.iload 5, 2) := dk_21 5 (dk_at dksX8_spreads_8 0 rfl rfl)
theorem dX8_spreads_188 : decode cX8_spreads 188 = .ok (.invokevirtual 281, 3) := dk_182 1 25 (dk_at dksX8_spreads_8 2 rfl rfl)
theorem dX8_spreads_191 : decode cX8_spreads 191 = .ok (.aload_n 0, 1) := dk_42 (dk_at dksX8_spreads_8 5 rfl rfl)
theorem dX8_spreads_192 : decode cX8_spreads 192 = .ok (.iload_n 3, 1) := dk_29 (dk_at dksX8_spreads_8 6 rfl rfl)
theorem dX8_spreads_193 : decode cX8_spreads 193 = .ok (.putfield 211, 3) := dk_181 0 211 (dk_at dksX8_spreads_8 7 rfl rfl)
theorem dX8_spreads_196 : decode cX8_spreads 196 = .ok (.iinc 5 1, 3) := dk_132 5 1 (dk_at dksX8_spreads_8 10 rfl rfl)
theorem dX8_spreads_199 : decode cX8_spreads 199 = .ok (.goto (-141), 3) := dk_167 255 115 (dk_at dksX8_spreads_8 13 rfl rfl)
theorem dX8_spreads_202 : decode cX8_spreads 202 = .ok (.iinc 4 1, 3) := dk_132 4 1 (dk_at dksX8_spreads_8 16 rfl rfl)
theorem dX8_spreads_205 : decode cX8_spreads 205 = .ok (.goto (-161), 3) := dk_167 255 95 (dk_at dksX8_spreads_8 19 rfl rfl)
theorem dX8_spreads_208 : decode cX8_spreads 208 = .ok (.iinc 2 1, 3) := dk_132 2 1 (dk_at dksX8_spreads_9 0 rfl rfl)
theorem dX8_spreads_211 : decode cX8_spreads 211 = .ok (.goto (-206), 3) := dk_167 255 50 (dk_at dksX8_spreads_9 3 rfl rfl)
theorem dX8_spreads_214 : decode cX8_spreads 214 = .ok (.return_, 1) := dk_177 (dk_at dksX8_spreads_9 6 rfl rfl)
abbrev cX8_nextYear : ByteArray := prog_20_method_89_code
def yX8_nextYear : MethodName := ⟨RX8, "nextYear", "()Z"⟩
def dkwX8_nextYear_3 : List UInt8 := [42, 180, 1, 118, 42, 180, 1, 131, 163, 0, 10, 42, 180, 1, 121, 153, 0, 7, 4, 167, 0, 4, 3, 172]
abbrev dktX8_nextYear_3 : List UInt8 := dkwX8_nextYear_3 ++ []
def dkwX8_nextYear_2 : List UInt8 := [47, 182, 1, 137, 153, 0, 14, 42, 42, 180, 0, 52, 29, 47, 3, 182, 1, 134, 132, 3, 1, 167, 255, 217]
abbrev dktX8_nextYear_2 : List UInt8 := dkwX8_nextYear_2 ++ dktX8_nextYear_3
def dkwX8_nextYear_1 : List UInt8 := [96, 181, 1, 115, 27, 62, 29, 28, 162, 0, 40, 42, 180, 1, 121, 154, 0, 33, 42, 42, 180, 0, 52, 29]
abbrev dktX8_nextYear_1 : List UInt8 := dkwX8_nextYear_1 ++ dktX8_nextYear_2
def dkwX8_nextYear_0 : List UInt8 := [42, 180, 1, 131, 60, 42, 180, 1, 118, 61, 42, 42, 180, 1, 118, 181, 1, 131, 42, 89, 180, 1, 115, 4]
abbrev dktX8_nextYear_0 : List UInt8 := dkwX8_nextYear_0 ++ dktX8_nextYear_1
theorem dksX8_nextYear_0 : cX8_nextYear.data.toList.drop 0 = dktX8_nextYear_0 := by decide +kernel
theorem dksX8_nextYear_1 : cX8_nextYear.data.toList.drop 24 = dktX8_nextYear_1 := dk_seg dksX8_nextYear_0 24 rfl rfl
theorem dksX8_nextYear_2 : cX8_nextYear.data.toList.drop 48 = dktX8_nextYear_2 := dk_seg dksX8_nextYear_1 24 rfl rfl
theorem dksX8_nextYear_3 : cX8_nextYear.data.toList.drop 72 = dktX8_nextYear_3 := dk_seg dksX8_nextYear_2 24 rfl rfl
theorem dX8_nextYear_0 : decode cX8_nextYear 0 = .ok (.aload_n 0, 1) := dk_42 (dk_at dksX8_nextYear_0 0 rfl rfl)
theorem dX8_nextYear_1 : decode cX8_nextYear 1 = .ok (.getfield 387, 3) := dk_180 1 131 (dk_at dksX8_nextYear_0 1 rfl rfl)
theorem dX8_nextYear_4 : decode cX8_nextYear 4 = .ok (.istore_n 1, 1) := dk_60 (dk_at dksX8_nextYear_0 4 rfl rfl)
theorem dX8_nextYear_5 : decode cX8_nextYear 5 = .ok (.aload_n 0, 1) := dk_42 (dk_at dksX8_nextYear_0 5 rfl rfl)
theorem dX8_nextYear_6 : decode cX8_nextYear 6 = .ok (.getfield 374, 3) := dk_180 1 118 (dk_at dksX8_nextYear_0 6 rfl rfl)
theorem dX8_nextYear_9 : decode cX8_nextYear 9 = .ok (.istore_n 2, 1) := dk_61 (dk_at dksX8_nextYear_0 9 rfl rfl)
theorem dX8_nextYear_10 : decode cX8_nextYear 10 = .ok (.aload_n 0, 1) := dk_42 (dk_at dksX8_nextYear_0 10 rfl rfl)
theorem dX8_nextYear_11 : decode cX8_nextYear 11 = .ok (.aload_n 0, 1) := dk_42 (dk_at dksX8_nextYear_0 11 rfl rfl)
theorem dX8_nextYear_12 : decode cX8_nextYear 12 = .ok (.getfield 374, 3) := dk_180 1 118 (dk_at dksX8_nextYear_0 12 rfl rfl)
theorem dX8_nextYear_15 : decode cX8_nextYear 15 = .ok (.putfield 387, 3) := dk_181 1 131 (dk_at dksX8_nextYear_0 15 rfl rfl)
theorem dX8_nextYear_18 : decode cX8_nextYear 18 = .ok (.aload_n 0, 1) := dk_42 (dk_at dksX8_nextYear_0 18 rfl rfl)
theorem dX8_nextYear_19 : decode cX8_nextYear 19 = .ok (.dup, 1) := dk_89 (dk_at dksX8_nextYear_0 19 rfl rfl)
theorem dX8_nextYear_20 : decode cX8_nextYear 20 = .ok (.getfield 371, 3) := dk_180 1 115 (dk_at dksX8_nextYear_0 20 rfl rfl)
theorem dX8_nextYear_23 : decode cX8_nextYear 23 = .ok (.iconst 1, 1) := dk_4 (dk_at dksX8_nextYear_0 23 rfl rfl)
theorem dX8_nextYear_24 : decode cX8_nextYear 24 = .ok (.iadd, 1) := dk_96 (dk_at dksX8_nextYear_1 0 rfl rfl)
theorem dX8_nextYear_25 : decode cX8_nextYear 25 = .ok (.putfield 371, 3) := dk_181 1 115 (dk_at dksX8_nextYear_1 1 rfl rfl)
theorem dX8_nextYear_28 : decode cX8_nextYear 28 = .ok (.iload_n 1, 1) := dk_27 (dk_at dksX8_nextYear_1 4 rfl rfl)
theorem dX8_nextYear_29 : decode cX8_nextYear 29 = .ok (.istore_n 3, 1) := dk_62 (dk_at dksX8_nextYear_1 5 rfl rfl)
theorem dX8_nextYear_30 : decode cX8_nextYear 30 = .ok (.iload_n 3, 1) := dk_29 (dk_at dksX8_nextYear_1 6 rfl rfl)
theorem dX8_nextYear_31 : decode cX8_nextYear 31 = .ok (.iload_n 2, 1) := dk_28 (dk_at dksX8_nextYear_1 7 rfl rfl)
theorem dX8_nextYear_32 : decode cX8_nextYear 32 = .ok (.if_icmp .ge 40, 3) := dk_162 0 40 (dk_at dksX8_nextYear_1 8 rfl rfl)
theorem dX8_nextYear_35 : decode cX8_nextYear 35 = .ok (.aload_n 0, 1) := dk_42 (dk_at dksX8_nextYear_1 11 rfl rfl)
theorem dX8_nextYear_36 : decode cX8_nextYear 36 = .ok (.getfield 377, 3) := dk_180 1 121 (dk_at dksX8_nextYear_1 12 rfl rfl)
theorem dX8_nextYear_39 : decode cX8_nextYear 39 = .ok (.ifCond .ne 33, 3) := dk_154 0 33 (dk_at dksX8_nextYear_1 15 rfl rfl)
theorem dX8_nextYear_42 : decode cX8_nextYear 42 = .ok (.aload_n 0, 1) := dk_42 (dk_at dksX8_nextYear_1 18 rfl rfl)
theorem dX8_nextYear_43 : decode cX8_nextYear 43 = .ok (.aload_n 0, 1) := dk_42 (dk_at dksX8_nextYear_1 19 rfl rfl)
theorem dX8_nextYear_44 : decode cX8_nextYear 44 = .ok (.getfield 52, 3) := dk_180 0 52 (dk_at dksX8_nextYear_1 20 rfl rfl)
theorem dX8_nextYear_47 : decode cX8_nextYear 47 = .ok (.iload_n 3, 1) := dk_29 (dk_at dksX8_nextYear_1 23 rfl rfl)
theorem dX8_nextYear_48 : decode cX8_nextYear 48 = .ok (.laload, 1) := dk_47 (dk_at dksX8_nextYear_2 0 rfl rfl)
theorem dX8_nextYear_49 : decode cX8_nextYear 49 = .ok (.invokevirtual 393, 3) := dk_182 1 137 (dk_at dksX8_nextYear_2 1 rfl rfl)
theorem dX8_nextYear_52 : decode cX8_nextYear 52 = .ok (.ifCond .eq 14, 3) := dk_153 0 14 (dk_at dksX8_nextYear_2 4 rfl rfl)
theorem dX8_nextYear_55 : decode cX8_nextYear 55 = .ok (.aload_n 0, 1) := dk_42 (dk_at dksX8_nextYear_2 7 rfl rfl)
theorem dX8_nextYear_56 : decode cX8_nextYear 56 = .ok (.aload_n 0, 1) := dk_42 (dk_at dksX8_nextYear_2 8 rfl rfl)
theorem dX8_nextYear_57 : decode cX8_nextYear 57 = .ok (.getfield 52, 3) := dk_180 0 52 (dk_at dksX8_nextYear_2 9 rfl rfl)
theorem dX8_nextYear_60 : decode cX8_nextYear 60 = .ok (.iload_n 3, 1) := dk_29 (dk_at dksX8_nextYear_2 12 rfl rfl)
theorem dX8_nextYear_61 : decode cX8_nextYear 61 = .ok (.laload, 1) := dk_47 (dk_at dksX8_nextYear_2 13 rfl rfl)
theorem dX8_nextYear_62 : decode cX8_nextYear 62 = .ok (.iconst 0, 1) := dk_3 (dk_at dksX8_nextYear_2 14 rfl rfl)
theorem dX8_nextYear_63 : decode cX8_nextYear 63 = .ok (.invokevirtual 390, 3) := dk_182 1 134 (dk_at dksX8_nextYear_2 15 rfl rfl)
theorem dX8_nextYear_66 : decode cX8_nextYear 66 = .ok (.iinc 3 1, 3) := dk_132 3 1 (dk_at dksX8_nextYear_2 18 rfl rfl)
theorem dX8_nextYear_69 : decode cX8_nextYear 69 = .ok (.goto (-39), 3) := dk_167 255 217 (dk_at dksX8_nextYear_2 21 rfl rfl)
theorem dX8_nextYear_72 : decode cX8_nextYear 72 = .ok (.aload_n 0, 1) := dk_42 (dk_at dksX8_nextYear_3 0 rfl rfl)
theorem dX8_nextYear_73 : decode cX8_nextYear 73 = .ok (.getfield 374, 3) := dk_180 1 118 (dk_at dksX8_nextYear_3 1 rfl rfl)
theorem dX8_nextYear_76 : decode cX8_nextYear 76 = .ok (.aload_n 0, 1) := dk_42 (dk_at dksX8_nextYear_3 4 rfl rfl)
theorem dX8_nextYear_77 : decode cX8_nextYear 77 = .ok (.getfield 387, 3) := dk_180 1 131 (dk_at dksX8_nextYear_3 5 rfl rfl)
theorem dX8_nextYear_80 : decode cX8_nextYear 80 = .ok (.if_icmp .gt 10, 3) := dk_163 0 10 (dk_at dksX8_nextYear_3 8 rfl rfl)
theorem dX8_nextYear_83 : decode cX8_nextYear 83 = .ok (.aload_n 0, 1) := dk_42 (dk_at dksX8_nextYear_3 11 rfl rfl)
theorem dX8_nextYear_84 : decode cX8_nextYear 84 = .ok (.getfield 377, 3) := dk_180 1 121 (dk_at dksX8_nextYear_3 12 rfl rfl)
theorem dX8_nextYear_87 : decode cX8_nextYear 87 = .ok (.ifCond .eq 7, 3) := dk_153 0 7 (dk_at dksX8_nextYear_3 15 rfl rfl)
theorem dX8_nextYear_90 : decode cX8_nextYear 90 = .ok (.iconst 1, 1) := dk_4 (dk_at dksX8_nextYear_3 18 rfl rfl)
theorem dX8_nextYear_91 : decode cX8_nextYear 91 = .ok (.goto 4, 3) := dk_167 0 4 (dk_at dksX8_nextYear_3 19 rfl rfl)
theorem dX8_nextYear_94 : decode cX8_nextYear 94 = .ok (.iconst 0, 1) := dk_3 (dk_at dksX8_nextYear_3 22 rfl rfl)
theorem dX8_nextYear_95 : decode cX8_nextYear 95 = .ok (.ireturn, 1) := dk_172 (dk_at dksX8_nextYear_3 23 rfl rfl)
abbrev cX8_states : ByteArray := prog_20_method_92_code
def yX8_states : MethodName := ⟨RX8, "states", "()I"⟩
def dkwX8_states_0 : List UInt8 := [42, 3, 181, 0, 1, 42, 180, 1, 155, 172]
abbrev dktX8_states_0 : List UInt8 := dkwX8_states_0 ++ []
theorem dksX8_states_0 : cX8_states.data.toList.drop 0 = dktX8_states_0 := by decide +kernel
theorem dX8_states_0 : decode cX8_states 0 = .ok (.aload_n 0, 1) := dk_42 (dk_at dksX8_states_0 0 rfl rfl)
theorem dX8_states_1 : decode cX8_states 1 = .ok (.iconst 0, 1) := dk_3 (dk_at dksX8_states_0 1 rfl rfl)
theorem dX8_states_2 : decode cX8_states 2 = .ok (.putfield 1, 3) := dk_181 0 1 (dk_at dksX8_states_0 2 rfl rfl)
theorem dX8_states_5 : decode cX8_states 5 = .ok (.aload_n 0, 1) := dk_42 (dk_at dksX8_states_0 5 rfl rfl)
theorem dX8_states_6 : decode cX8_states 6 = .ok (.getfield 411, 3) := dk_180 1 155 (dk_at dksX8_states_0 6 rfl rfl)
theorem dX8_states_9 : decode cX8_states 9 = .ok (.ireturn, 1) := dk_172 (dk_at dksX8_states_0 9 rfl rfl)
abbrev cX8_after : ByteArray := prog_20_method_93_code
def yX8_after : MethodName := ⟨RX8, "after", "(II)I"⟩
def dkwX8_after_1 : List UInt8 := [182, 1, 16, 42, 2, 182, 1, 152, 172]
abbrev dktX8_after_1 : List UInt8 := dkwX8_after_1 ++ []
def dkwX8_after_0 : List UInt8 := [42, 3, 181, 0, 1, 42, 182, 1, 4, 42, 27, 28, 182, 1, 10, 153, 0, 6, 16, 251, 172, 42, 27, 28]
abbrev dktX8_after_0 : List UInt8 := dkwX8_after_0 ++ dktX8_after_1
theorem dksX8_after_0 : cX8_after.data.toList.drop 0 = dktX8_after_0 := by decide +kernel
theorem dksX8_after_1 : cX8_after.data.toList.drop 24 = dktX8_after_1 := dk_seg dksX8_after_0 24 rfl rfl
theorem dX8_after_0 : decode cX8_after 0 = .ok (.aload_n 0, 1) := dk_42 (dk_at dksX8_after_0 0 rfl rfl)
theorem dX8_after_1 : decode cX8_after 1 = .ok (.iconst 0, 1) := dk_3 (dk_at dksX8_after_0 1 rfl rfl)
theorem dX8_after_2 : decode cX8_after 2 = .ok (.putfield 1, 3) := dk_181 0 1 (dk_at dksX8_after_0 2 rfl rfl)
theorem dX8_after_5 : decode cX8_after 5 = .ok (.aload_n 0, 1) := dk_42 (dk_at dksX8_after_0 5 rfl rfl)
theorem dX8_after_6 : decode cX8_after 6 = .ok (.invokevirtual 260, 3) := dk_182 1 4 (dk_at dksX8_after_0 6 rfl rfl)
theorem dX8_after_9 : decode cX8_after 9 = .ok (.aload_n 0, 1) := dk_42 (dk_at dksX8_after_0 9 rfl rfl)
theorem dX8_after_10 : decode cX8_after 10 = .ok (.iload_n 1, 1) := dk_27 (dk_at dksX8_after_0 10 rfl rfl)
theorem dX8_after_11 : decode cX8_after 11 = .ok (.iload_n 2, 1) := dk_28 (dk_at dksX8_after_0 11 rfl rfl)
theorem dX8_after_12 : decode cX8_after 12 = .ok (.invokevirtual 266, 3) := dk_182 1 10 (dk_at dksX8_after_0 12 rfl rfl)
theorem dX8_after_15 : decode cX8_after 15 = .ok (.ifCond .eq 6, 3) := dk_153 0 6 (dk_at dksX8_after_0 15 rfl rfl)
theorem dX8_after_18 : decode cX8_after 18 = .ok (.bipush (-5), 2) := dk_16 251 (dk_at dksX8_after_0 18 rfl rfl)
theorem dX8_after_20 : decode cX8_after 20 = .ok (.ireturn, 1) := dk_172 (dk_at dksX8_after_0 20 rfl rfl)
theorem dX8_after_21 : decode cX8_after 21 = .ok (.aload_n 0, 1) := dk_42 (dk_at dksX8_after_0 21 rfl rfl)
theorem dX8_after_22 : decode cX8_after 22 = .ok (.iload_n 1, 1) := dk_27 (dk_at dksX8_after_0 22 rfl rfl)
theorem dX8_after_23 : decode cX8_after 23 = .ok (.iload_n 2, 1) := dk_28 (dk_at dksX8_after_0 23 rfl rfl)
theorem dX8_after_24 : decode cX8_after 24 = .ok (.invokevirtual 272, 3) := dk_182 1 16 (dk_at dksX8_after_1 0 rfl rfl)
theorem dX8_after_27 : decode cX8_after 27 = .ok (.aload_n 0, 1) := dk_42 (dk_at dksX8_after_1 3 rfl rfl)
theorem dX8_after_28 : decode cX8_after 28 = .ok (.iconst (-1), 1) := dk_2 (dk_at dksX8_after_1 4 rfl rfl)
theorem dX8_after_29 : decode cX8_after 29 = .ok (.invokevirtual 408, 3) := dk_182 1 152 (dk_at dksX8_after_1 5 rfl rfl)
theorem dX8_after_32 : decode cX8_after 32 = .ok (.ireturn, 1) := dk_172 (dk_at dksX8_after_1 8 rfl rfl)
abbrev cX8_without : ByteArray := prog_20_method_94_code
def yX8_without : MethodName := ⟨RX8, "without", "(I)I"⟩
def dkwX8_without_2 : List UInt8 := [172]
abbrev dktX8_without_2 : List UInt8 := dkwX8_without_2 ++ []
def dkwX8_without_1 : List UInt8 := [16, 254, 172, 42, 27, 181, 0, 39, 42, 182, 1, 4, 42, 2, 182, 1, 152, 61, 42, 2, 181, 0, 39, 28]
abbrev dktX8_without_1 : List UInt8 := dkwX8_without_1 ++ dktX8_without_2
def dkwX8_without_0 : List UInt8 := [42, 3, 181, 0, 1, 27, 133, 9, 42, 180, 0, 13, 16, 56, 46, 4, 100, 133, 184, 0, 153, 154, 0, 6]
abbrev dktX8_without_0 : List UInt8 := dkwX8_without_0 ++ dktX8_without_1
theorem dksX8_without_0 : cX8_without.data.toList.drop 0 = dktX8_without_0 := by decide +kernel
theorem dksX8_without_1 : cX8_without.data.toList.drop 24 = dktX8_without_1 := dk_seg dksX8_without_0 24 rfl rfl
theorem dksX8_without_2 : cX8_without.data.toList.drop 48 = dktX8_without_2 := dk_seg dksX8_without_1 24 rfl rfl
theorem dX8_without_0 : decode cX8_without 0 = .ok (.aload_n 0, 1) := dk_42 (dk_at dksX8_without_0 0 rfl rfl)
theorem dX8_without_1 : decode cX8_without 1 = .ok (.iconst 0, 1) := dk_3 (dk_at dksX8_without_0 1 rfl rfl)
theorem dX8_without_2 : decode cX8_without 2 = .ok (.putfield 1, 3) := dk_181 0 1 (dk_at dksX8_without_0 2 rfl rfl)
theorem dX8_without_5 : decode cX8_without 5 = .ok (.iload_n 1, 1) := dk_27 (dk_at dksX8_without_0 5 rfl rfl)
theorem dX8_without_6 : decode cX8_without 6 = .ok (.i2l, 1) := dk_133 (dk_at dksX8_without_0 6 rfl rfl)
theorem dX8_without_7 : decode cX8_without 7 = .ok (.lconst 0, 1) := dk_9 (dk_at dksX8_without_0 7 rfl rfl)
theorem dX8_without_8 : decode cX8_without 8 = .ok (.aload_n 0, 1) := dk_42 (dk_at dksX8_without_0 8 rfl rfl)
theorem dX8_without_9 : decode cX8_without 9 = .ok (.getfield 13, 3) := dk_180 0 13 (dk_at dksX8_without_0 9 rfl rfl)
theorem dX8_without_12 : decode cX8_without 12 = .ok (.bipush 56, 2) := dk_16 56 (dk_at dksX8_without_0 12 rfl rfl)
theorem dX8_without_14 : decode cX8_without 14 = .ok (.iaload, 1) := dk_46 (dk_at dksX8_without_0 14 rfl rfl)
theorem dX8_without_15 : decode cX8_without 15 = .ok (.iconst 1, 1) := dk_4 (dk_at dksX8_without_0 15 rfl rfl)
theorem dX8_without_16 : decode cX8_without 16 = .ok (.isub, 1) := dk_100 (dk_at dksX8_without_0 16 rfl rfl)
theorem dX8_without_17 : decode cX8_without 17 = .ok (.i2l, 1) := dk_133 (dk_at dksX8_without_0 17 rfl rfl)
theorem dX8_without_18 : decode cX8_without 18 = .ok (.invokestatic 153, 3) := dk_184 0 153 (dk_at dksX8_without_0 18 rfl rfl)
theorem dX8_without_21 : decode cX8_without 21 = .ok (.ifCond .ne 6, 3) := dk_154 0 6 (dk_at dksX8_without_0 21 rfl rfl)
theorem dX8_without_24 : decode cX8_without 24 = .ok (.bipush (-2), 2) := dk_16 254 (dk_at dksX8_without_1 0 rfl rfl)
theorem dX8_without_26 : decode cX8_without 26 = .ok (.ireturn, 1) := dk_172 (dk_at dksX8_without_1 2 rfl rfl)
theorem dX8_without_27 : decode cX8_without 27 = .ok (.aload_n 0, 1) := dk_42 (dk_at dksX8_without_1 3 rfl rfl)
theorem dX8_without_28 : decode cX8_without 28 = .ok (.iload_n 1, 1) := dk_27 (dk_at dksX8_without_1 4 rfl rfl)
theorem dX8_without_29 : decode cX8_without 29 = .ok (.putfield 39, 3) := dk_181 0 39 (dk_at dksX8_without_1 5 rfl rfl)
theorem dX8_without_32 : decode cX8_without 32 = .ok (.aload_n 0, 1) := dk_42 (dk_at dksX8_without_1 8 rfl rfl)
theorem dX8_without_33 : decode cX8_without 33 = .ok (.invokevirtual 260, 3) := dk_182 1 4 (dk_at dksX8_without_1 9 rfl rfl)
theorem dX8_without_36 : decode cX8_without 36 = .ok (.aload_n 0, 1) := dk_42 (dk_at dksX8_without_1 12 rfl rfl)
theorem dX8_without_37 : decode cX8_without 37 = .ok (.iconst (-1), 1) := dk_2 (dk_at dksX8_without_1 13 rfl rfl)
theorem dX8_without_38 : decode cX8_without 38 = .ok (.invokevirtual 408, 3) := dk_182 1 152 (dk_at dksX8_without_1 14 rfl rfl)
theorem dX8_without_41 : decode cX8_without 41 = .ok (.istore_n 2, 1) := dk_61 (dk_at dksX8_without_1 17 rfl rfl)
theorem dX8_without_42 : decode cX8_without 42 = .ok (.aload_n 0, 1) := dk_42 (dk_at dksX8_without_1 18 rfl rfl)
theorem dX8_without_43 : decode cX8_without 43 = .ok (.iconst (-1), 1) := dk_2 (dk_at dksX8_without_1 19 rfl rfl)
theorem dX8_without_44 : decode cX8_without 44 = .ok (.putfield 39, 3) := dk_181 0 39 (dk_at dksX8_without_1 20 rfl rfl)
theorem dX8_without_47 : decode cX8_without 47 = .ok (.iload_n 2, 1) := dk_28 (dk_at dksX8_without_1 23 rfl rfl)
theorem dX8_without_48 : decode cX8_without 48 = .ok (.ireturn, 1) := dk_172 (dk_at dksX8_without_2 0 rfl rfl)
abbrev cX8_missing : ByteArray := prog_20_method_95_code
def yX8_missing : MethodName := ⟨RX8, "missing", "(I)I"⟩
def dkwX8_missing_3 : List UInt8 := [182, 1, 152, 172]
abbrev dktX8_missing_3 : List UInt8 := dkwX8_missing_3 ++ []
def dkwX8_missing_2 : List UInt8 := [3, 79, 42, 89, 180, 0, 211, 4, 27, 120, 2, 130, 126, 181, 0, 211, 42, 182, 0, 214, 42, 2]
abbrev dktX8_missing_2 : List UInt8 := dkwX8_missing_2 ++ dktX8_missing_3
def dkwX8_missing_1 : List UInt8 := [172, 42, 27, 182, 1, 29, 61, 28, 2, 160, 0, 6, 16, 251, 172, 42, 182, 1, 4, 42, 180, 0, 30, 28]
abbrev dktX8_missing_1 : List UInt8 := dkwX8_missing_1 ++ dktX8_missing_2
def dkwX8_missing_0 : List UInt8 := [42, 3, 181, 0, 1, 42, 27, 182, 0, 250, 153, 0, 12, 42, 27, 182, 0, 255, 2, 160, 0, 6, 16, 254]
abbrev dktX8_missing_0 : List UInt8 := dkwX8_missing_0 ++ dktX8_missing_1
theorem dksX8_missing_0 : cX8_missing.data.toList.drop 0 = dktX8_missing_0 := by decide +kernel
theorem dksX8_missing_1 : cX8_missing.data.toList.drop 24 = dktX8_missing_1 := dk_seg dksX8_missing_0 24 rfl rfl
theorem dksX8_missing_2 : cX8_missing.data.toList.drop 48 = dktX8_missing_2 := dk_seg dksX8_missing_1 24 rfl rfl
theorem dksX8_missing_3 : cX8_missing.data.toList.drop 70 = dktX8_missing_3 := dk_seg dksX8_missing_2 22 rfl rfl
theorem dX8_missing_0 : decode cX8_missing 0 = .ok (.aload_n 0, 1) := dk_42 (dk_at dksX8_missing_0 0 rfl rfl)
theorem dX8_missing_1 : decode cX8_missing 1 = .ok (.iconst 0, 1) := dk_3 (dk_at dksX8_missing_0 1 rfl rfl)
theorem dX8_missing_2 : decode cX8_missing 2 = .ok (.putfield 1, 3) := dk_181 0 1 (dk_at dksX8_missing_0 2 rfl rfl)
theorem dX8_missing_5 : decode cX8_missing 5 = .ok (.aload_n 0, 1) := dk_42 (dk_at dksX8_missing_0 5 rfl rfl)
theorem dX8_missing_6 : decode cX8_missing 6 = .ok (.iload_n 1, 1) := dk_27 (dk_at dksX8_missing_0 6 rfl rfl)
theorem dX8_missing_7 : decode cX8_missing 7 = .ok (.invokevirtual 250, 3) := dk_182 0 250 (dk_at dksX8_missing_0 7 rfl rfl)
theorem dX8_missing_10 : decode cX8_missing 10 = .ok (.ifCond .eq 12, 3) := dk_153 0 12 (dk_at dksX8_missing_0 10 rfl rfl)
theorem dX8_missing_13 : decode cX8_missing 13 = .ok (.aload_n 0, 1) := dk_42 (dk_at dksX8_missing_0 13 rfl rfl)
theorem dX8_missing_14 : decode cX8_missing 14 = .ok (.iload_n 1, 1) := dk_27 (dk_at dksX8_missing_0 14 rfl rfl)
theorem dX8_missing_15 : decode cX8_missing 15 = .ok (.invokevirtual 255, 3) := dk_182 0 255 (dk_at dksX8_missing_0 15 rfl rfl)
theorem dX8_missing_18 : decode cX8_missing 18 = .ok (.iconst (-1), 1) := dk_2 (dk_at dksX8_missing_0 18 rfl rfl)
theorem dX8_missing_19 : decode cX8_missing 19 = .ok (.if_icmp .ne 6, 3) := dk_160 0 6 (dk_at dksX8_missing_0 19 rfl rfl)
theorem dX8_missing_22 : decode cX8_missing 22 = .ok (.bipush (-2), 2) := dk_16 254 (dk_at dksX8_missing_0 22 rfl rfl)
theorem dX8_missing_24 : decode cX8_missing 24 = .ok (.ireturn, 1) := dk_172 (dk_at dksX8_missing_1 0 rfl rfl)
theorem dX8_missing_25 : decode cX8_missing 25 = .ok (.aload_n 0, 1) := dk_42 (dk_at dksX8_missing_1 1 rfl rfl)
theorem dX8_missing_26 : decode cX8_missing 26 = .ok (.iload_n 1, 1) := dk_27 (dk_at dksX8_missing_1 2 rfl rfl)
theorem dX8_missing_27 : decode cX8_missing 27 = .ok (.invokevirtual 285, 3) := dk_182 1 29 (dk_at dksX8_missing_1 3 rfl rfl)
theorem dX8_missing_30 : decode cX8_missing 30 = .ok (.istore_n 2, 1) := dk_61 (dk_at dksX8_missing_1 6 rfl rfl)
theorem dX8_missing_31 : decode cX8_missing 31 = .ok (.iload_n 2, 1) := dk_28 (dk_at dksX8_missing_1 7 rfl rfl)
theorem dX8_missing_32 : decode cX8_missing 32 = .ok (.iconst (-1), 1) := dk_2 (dk_at dksX8_missing_1 8 rfl rfl)
theorem dX8_missing_33 : decode cX8_missing 33 = .ok (.if_icmp .ne 6, 3) := dk_160 0 6 (dk_at dksX8_missing_1 9 rfl rfl)
theorem dX8_missing_36 : decode cX8_missing 36 = .ok (.bipush (-5), 2) := dk_16 251 (dk_at dksX8_missing_1 12 rfl rfl)
theorem dX8_missing_38 : decode cX8_missing 38 = .ok (.ireturn, 1) := dk_172 (dk_at dksX8_missing_1 14 rfl rfl)
theorem dX8_missing_39 : decode cX8_missing 39 = .ok (.aload_n 0, 1) := dk_42 (dk_at dksX8_missing_1 15 rfl rfl)
theorem dX8_missing_40 : decode cX8_missing 40 = .ok (.invokevirtual 260, 3) := dk_182 1 4 (dk_at dksX8_missing_1 16 rfl rfl)
theorem dX8_missing_43 : decode cX8_missing 43 = .ok (.aload_n 0, 1) := dk_42 (dk_at dksX8_missing_1 19 rfl rfl)
theorem dX8_missing_44 : decode cX8_missing 44 = .ok (.getfield 30, 3) := dk_180 0 30 (dk_at dksX8_missing_1 20 rfl rfl)
theorem dX8_missing_47 : decode cX8_missing 47 = .ok (.iload_n 2, 1) := dk_28 (dk_at dksX8_missing_1 23 rfl rfl)
theorem dX8_missing_48 : decode cX8_missing 48 = .ok (.iconst 0, 1) := dk_3 (dk_at dksX8_missing_2 0 rfl rfl)
theorem dX8_missing_49 : decode cX8_missing 49 = .ok (.iastore, 1) := dk_79 (dk_at dksX8_missing_2 1 rfl rfl)
theorem dX8_missing_50 : decode cX8_missing 50 = .ok (.aload_n 0, 1) := dk_42 (dk_at dksX8_missing_2 2 rfl rfl)
theorem dX8_missing_51 : decode cX8_missing 51 = .ok (.dup, 1) := dk_89 (dk_at dksX8_missing_2 3 rfl rfl)
theorem dX8_missing_52 : decode cX8_missing 52 = .ok (.getfield 211, 3) := dk_180 0 211 (dk_at dksX8_missing_2 4 rfl rfl)
theorem dX8_missing_55 : decode cX8_missing 55 = .ok (.iconst 1, 1) := dk_4 (dk_at dksX8_missing_2 7 rfl rfl)
theorem dX8_missing_56 : decode cX8_missing 56 = .ok (.iload_n 1, 1) := dk_27 (dk_at dksX8_missing_2 8 rfl rfl)
theorem dX8_missing_57 : decode cX8_missing 57 = .ok (.ishl, 1) := dk_120 (dk_at dksX8_missing_2 9 rfl rfl)
theorem dX8_missing_58 : decode cX8_missing 58 = .ok (.iconst (-1), 1) := dk_2 (dk_at dksX8_missing_2 10 rfl rfl)
theorem dX8_missing_59 : decode cX8_missing 59 = .ok (.ixor, 1) := dk_130 (dk_at dksX8_missing_2 11 rfl rfl)
theorem dX8_missing_60 : decode cX8_missing 60 = .ok (.iand, 1) := dk_126 (dk_at dksX8_missing_2 12 rfl rfl)
theorem dX8_missing_61 : decode cX8_missing 61 = .ok (.putfield 211, 3) := dk_181 0 211 (dk_at dksX8_missing_2 13 rfl rfl)
theorem dX8_missing_64 : decode cX8_missing 64 = .ok (.aload_n 0, 1) := dk_42 (dk_at dksX8_missing_2 16 rfl rfl)
theorem dX8_missing_65 : decode cX8_missing 65 = .ok (.invokevirtual 214, 3) := dk_182 0 214 (dk_at dksX8_missing_2 17 rfl rfl)
theorem dX8_missing_68 : decode cX8_missing 68 = .ok (.aload_n 0, 1) := dk_42 (dk_at dksX8_missing_2 20 rfl rfl)
theorem dX8_missing_69 : decode cX8_missing 69 = .ok (.iconst (-1), 1) := dk_2 (dk_at dksX8_missing_2 21 rfl rfl)
theorem dX8_missing_70 : decode cX8_missing 70 = .ok (.invokevirtual 408, 3) := dk_182 1 152 (dk_at dksX8_missing_3 0 rfl rfl)
theorem dX8_missing_73 : decode cX8_missing 73 = .ok (.ireturn, 1) := dk_172 (dk_at dksX8_missing_3 3 rfl rfl)
abbrev cX8_winters : ByteArray := prog_20_method_96_code
def yX8_winters : MethodName := ⟨RX8, "winters", "(I)I"⟩
def dkwX8_winters_6 : List UInt8 := [29, 62, 132, 4, 1, 167, 255, 206, 29, 172]
abbrev dktX8_winters_6 : List UInt8 := dkwX8_winters_6 ++ []
def dkwX8_winters_5 : List UInt8 := [21, 4, 46, 182, 1, 97, 42, 2, 182, 1, 46, 54, 5, 21, 5, 29, 164, 0, 8, 21, 5, 167, 0, 4]
abbrev dktX8_winters_5 : List UInt8 := dkwX8_winters_5 ++ dktX8_winters_6
def dkwX8_winters_4 : List UInt8 := [54, 4, 21, 4, 42, 180, 1, 118, 162, 0, 47, 42, 42, 180, 0, 52, 21, 4, 47, 42, 180, 0, 56]
abbrev dktX8_winters_4 : List UInt8 := dkwX8_winters_4 ++ dktX8_winters_5
def dkwX8_winters_3 : List UInt8 := [167, 0, 4, 3, 61, 42, 180, 1, 121, 153, 0, 6, 16, 252, 172, 132, 3, 1, 167, 255, 201, 3, 62, 3]
abbrev dktX8_winters_3 : List UInt8 := dkwX8_winters_3 ++ dktX8_winters_4
def dkwX8_winters_2 : List UInt8 := [180, 1, 121, 153, 0, 6, 16, 252, 172, 29, 27, 162, 0, 14, 42, 182, 1, 148, 153, 0, 7, 4]
abbrev dktX8_winters_2 : List UInt8 := dkwX8_winters_2 ++ dktX8_winters_3
def dkwX8_winters_1 : List UInt8 := [42, 182, 1, 141, 4, 61, 4, 62, 29, 27, 163, 0, 56, 28, 153, 0, 52, 42, 3, 182, 1, 144, 42]
abbrev dktX8_winters_1 : List UInt8 := dkwX8_winters_1 ++ dktX8_winters_2
def dkwX8_winters_0 : List UInt8 := [42, 3, 181, 0, 1, 27, 133, 10, 20, 1, 63, 184, 0, 153, 154, 0, 6, 16, 253, 172, 42, 182, 1, 4]
abbrev dktX8_winters_0 : List UInt8 := dkwX8_winters_0 ++ dktX8_winters_1
theorem dksX8_winters_0 : cX8_winters.data.toList.drop 0 = dktX8_winters_0 := by decide +kernel
theorem dksX8_winters_1 : cX8_winters.data.toList.drop 24 = dktX8_winters_1 := dk_seg dksX8_winters_0 24 rfl rfl
theorem dksX8_winters_2 : cX8_winters.data.toList.drop 47 = dktX8_winters_2 := dk_seg dksX8_winters_1 23 rfl rfl
theorem dksX8_winters_3 : cX8_winters.data.toList.drop 69 = dktX8_winters_3 := dk_seg dksX8_winters_2 22 rfl rfl
theorem dksX8_winters_4 : cX8_winters.data.toList.drop 93 = dktX8_winters_4 := dk_seg dksX8_winters_3 24 rfl rfl
theorem dksX8_winters_5 : cX8_winters.data.toList.drop 116 = dktX8_winters_5 := dk_seg dksX8_winters_4 23 rfl rfl
theorem dksX8_winters_6 : cX8_winters.data.toList.drop 140 = dktX8_winters_6 := dk_seg dksX8_winters_5 24 rfl rfl
theorem dX8_winters_0 : decode cX8_winters 0 = .ok (.aload_n 0, 1) := dk_42 (dk_at dksX8_winters_0 0 rfl rfl)
theorem dX8_winters_1 : decode cX8_winters 1 = .ok (.iconst 0, 1) := dk_3 (dk_at dksX8_winters_0 1 rfl rfl)
theorem dX8_winters_2 : decode cX8_winters 2 = .ok (.putfield 1, 3) := dk_181 0 1 (dk_at dksX8_winters_0 2 rfl rfl)
theorem dX8_winters_5 : decode cX8_winters 5 = .ok (.iload_n 1, 1) := dk_27 (dk_at dksX8_winters_0 5 rfl rfl)
theorem dX8_winters_6 : decode cX8_winters 6 = .ok (.i2l, 1) := dk_133 (dk_at dksX8_winters_0 6 rfl rfl)
theorem dX8_winters_7 : decode cX8_winters 7 = .ok (.lconst 1, 1) := dk_10 (dk_at dksX8_winters_0 7 rfl rfl)
theorem dX8_winters_8 : decode cX8_winters 8 = .ok (.ldc2_w 319, 3) := dk_20 1 63 (dk_at dksX8_winters_0 8 rfl rfl)
theorem dX8_winters_11 : decode cX8_winters 11 = .ok (.invokestatic 153, 3) := dk_184 0 153 (dk_at dksX8_winters_0 11 rfl rfl)
theorem dX8_winters_14 : decode cX8_winters 14 = .ok (.ifCond .ne 6, 3) := dk_154 0 6 (dk_at dksX8_winters_0 14 rfl rfl)
theorem dX8_winters_17 : decode cX8_winters 17 = .ok (.bipush (-3), 2) := dk_16 253 (dk_at dksX8_winters_0 17 rfl rfl)
theorem dX8_winters_19 : decode cX8_winters 19 = .ok (.ireturn, 1) := dk_172 (dk_at dksX8_winters_0 19 rfl rfl)
theorem dX8_winters_20 : decode cX8_winters 20 = .ok (.aload_n 0, 1) := dk_42 (dk_at dksX8_winters_0 20 rfl rfl)
theorem dX8_winters_21 : decode cX8_winters 21 = .ok (.invokevirtual 260, 3) := dk_182 1 4 (dk_at dksX8_winters_0 21 rfl rfl)
theorem dX8_winters_24 : decode cX8_winters 24 = .ok (.aload_n 0, 1) := dk_42 (dk_at dksX8_winters_1 0 rfl rfl)
theorem dX8_winters_25 : decode cX8_winters 25 = .ok (.invokevirtual 397, 3) := dk_182 1 141 (dk_at dksX8_winters_1 1 rfl rfl)
theorem dX8_winters_28 : decode cX8_winters 28 = .ok (.iconst 1, 1) := dk_4 (dk_at dksX8_winters_1 4 rfl rfl)
theorem dX8_winters_29 : decode cX8_winters 29 = .ok (.istore_n 2, 1) := dk_61 (dk_at dksX8_winters_1 5 rfl rfl)
theorem dX8_winters_30 : decode cX8_winters 30 = .ok (.iconst 1, 1) := dk_4 (dk_at dksX8_winters_1 6 rfl rfl)
theorem dX8_winters_31 : decode cX8_winters 31 = .ok (.istore_n 3, 1) := dk_62 (dk_at dksX8_winters_1 7 rfl rfl)
theorem dX8_winters_32 : decode cX8_winters 32 = .ok (.iload_n 3, 1) := dk_29 (dk_at dksX8_winters_1 8 rfl rfl)
theorem dX8_winters_33 : decode cX8_winters 33 = .ok (.iload_n 1, 1) := dk_27 (dk_at dksX8_winters_1 9 rfl rfl)
theorem dX8_winters_34 : decode cX8_winters 34 = .ok (.if_icmp .gt 56, 3) := dk_163 0 56 (dk_at dksX8_winters_1 10 rfl rfl)
theorem dX8_winters_37 : decode cX8_winters 37 = .ok (.iload_n 2, 1) := dk_28 (dk_at dksX8_winters_1 13 rfl rfl)
theorem dX8_winters_38 : decode cX8_winters 38 = .ok (.ifCond .eq 52, 3) := dk_153 0 52 (dk_at dksX8_winters_1 14 rfl rfl)
theorem dX8_winters_41 : decode cX8_winters 41 = .ok (.aload_n 0, 1) := dk_42 (dk_at dksX8_winters_1 17 rfl rfl)
theorem dX8_winters_42 : decode cX8_winters 42 = .ok (.iconst 0, 1) := dk_3 (dk_at dksX8_winters_1 18 rfl rfl)
theorem dX8_winters_43 : decode cX8_winters 43 = .ok (.invokevirtual 400, 3) := dk_182 1 144 (dk_at dksX8_winters_1 19 rfl rfl)
theorem dX8_winters_46 : decode cX8_winters 46 = .ok (.aload_n 0, 1) := dk_42 (dk_at dksX8_winters_1 22 rfl rfl)
theorem dX8_winters_47 : decode cX8_winters 47 = .ok (.getfield 377, 3) := dk_180 1 121 (dk_at dksX8_winters_2 0 rfl rfl)
theorem dX8_winters_50 : decode cX8_winters 50 = .ok (.ifCond .eq 6, 3) := dk_153 0 6 (dk_at dksX8_winters_2 3 rfl rfl)
theorem dX8_winters_53 : decode cX8_winters 53 = .ok (.bipush (-4), 2) := dk_16 252 (dk_at dksX8_winters_2 6 rfl rfl)
theorem dX8_winters_55 : decode cX8_winters 55 = .ok (.ireturn, 1) := dk_172 (dk_at dksX8_winters_2 8 rfl rfl)
theorem dX8_winters_56 : decode cX8_winters 56 = .ok (.iload_n 3, 1) := dk_29 (dk_at dksX8_winters_2 9 rfl rfl)
theorem dX8_winters_57 : decode cX8_winters 57 = .ok (.iload_n 1, 1) := dk_27 (dk_at dksX8_winters_2 10 rfl rfl)
theorem dX8_winters_58 : decode cX8_winters 58 = .ok (.if_icmp .ge 14, 3) := dk_162 0 14 (dk_at dksX8_winters_2 11 rfl rfl)
theorem dX8_winters_61 : decode cX8_winters 61 = .ok (.aload_n 0, 1) := dk_42 (dk_at dksX8_winters_2 14 rfl rfl)
theorem dX8_winters_62 : decode cX8_winters 62 = .ok (.invokevirtual 404, 3) := dk_182 1 148 (dk_at dksX8_winters_2 15 rfl rfl)
theorem dX8_winters_65 : decode cX8_winters 65 = .ok (.ifCond .eq 7, 3) := dk_153 0 7 (dk_at dksX8_winters_2 18 rfl rfl)
theorem dX8_winters_68 : decode cX8_winters 68 = .ok (.iconst 1, 1) := dk_4 (dk_at dksX8_winters_2 21 rfl rfl)
theorem dX8_winters_69 : decode cX8_winters 69 = .ok (.goto 4, 3) := dk_167 0 4 (dk_at dksX8_winters_3 0 rfl rfl)
theorem dX8_winters_72 : decode cX8_winters 72 = .ok (.iconst 0, 1) := dk_3 (dk_at dksX8_winters_3 3 rfl rfl)
theorem dX8_winters_73 : decode cX8_winters 73 = .ok (.istore_n 2, 1) := dk_61 (dk_at dksX8_winters_3 4 rfl rfl)
theorem dX8_winters_74 : decode cX8_winters 74 = .ok (.aload_n 0, 1) := dk_42 (dk_at dksX8_winters_3 5 rfl rfl)
theorem dX8_winters_75 : decode cX8_winters 75 = .ok (.getfield 377, 3) := dk_180 1 121 (dk_at dksX8_winters_3 6 rfl rfl)
theorem dX8_winters_78 : decode cX8_winters 78 = .ok (.ifCond .eq 6, 3) := dk_153 0 6 (dk_at dksX8_winters_3 9 rfl rfl)
theorem dX8_winters_81 : decode cX8_winters 81 = .ok (.bipush (-4), 2) := dk_16 252 (dk_at dksX8_winters_3 12 rfl rfl)
theorem dX8_winters_83 : decode cX8_winters 83 = .ok (.ireturn, 1) := dk_172 (dk_at dksX8_winters_3 14 rfl rfl)
theorem dX8_winters_84 : decode cX8_winters 84 = .ok (.iinc 3 1, 3) := dk_132 3 1 (dk_at dksX8_winters_3 15 rfl rfl)
theorem dX8_winters_87 : decode cX8_winters 87 = .ok (.goto (-55), 3) := dk_167 255 201 (dk_at dksX8_winters_3 18 rfl rfl)
theorem dX8_winters_90 : decode cX8_winters 90 = .ok (.iconst 0, 1) := dk_3 (dk_at dksX8_winters_3 21 rfl rfl)
theorem dX8_winters_91 : decode cX8_winters 91 = .ok (.istore_n 3, 1) := dk_62 (dk_at dksX8_winters_3 22 rfl rfl)
theorem dX8_winters_92 : decode cX8_winters 92 = .ok (.iconst 0, 1) := dk_3 (dk_at dksX8_winters_3 23 rfl rfl)
theorem dX8_winters_93 : decode cX8_winters 93 = .ok (.istore 4, 2) := dk_54 4 (dk_at dksX8_winters_4 0 rfl rfl)
theorem dX8_winters_95 : decode cX8_winters 95 = .ok (.iload 4, 2) := dk_21 4 (dk_at dksX8_winters_4 2 rfl rfl)
theorem dX8_winters_97 : decode cX8_winters 97 = .ok (.aload_n 0, 1) := dk_42 (dk_at dksX8_winters_4 4 rfl rfl)
theorem dX8_winters_98 : decode cX8_winters 98 = .ok (.getfield 374, 3) := dk_180 1 118 (dk_at dksX8_winters_4 5 rfl rfl)
theorem dX8_winters_101 : decode cX8_winters 101 = .ok (.if_icmp .ge 47, 3) := dk_162 0 47 (dk_at dksX8_winters_4 8 rfl rfl)
theorem dX8_winters_104 : decode cX8_winters 104 = .ok (.aload_n 0, 1) := dk_42 (dk_at dksX8_winters_4 11 rfl rfl)
theorem dX8_winters_105 : decode cX8_winters 105 = .ok (.aload_n 0, 1) := dk_42 (dk_at dksX8_winters_4 12 rfl rfl)
theorem dX8_winters_106 : decode cX8_winters 106 = .ok (.getfield 52, 3) := dk_180 0 52 (dk_at dksX8_winters_4 13 rfl rfl)
theorem dX8_winters_109 : decode cX8_winters 109 = .ok (.iload 4, 2) := dk_21 4 (dk_at dksX8_winters_4 16 rfl rfl)
theorem dX8_winters_111 : decode cX8_winters 111 = .ok (.laload, 1) := dk_47 (dk_at dksX8_winters_4 18 rfl rfl)
theorem dX8_winters_112 : decode cX8_winters 112 = .ok (.aload_n 0, 1) := dk_42 (dk_at dksX8_winters_4 19 rfl rfl)
theorem dX8_winters_113 : decode cX8_winters 113 = .ok (.getfield 56, 3) := dk_180 0 56 (dk_at dksX8_winters_4 20 rfl rfl)
theorem dX8_winters_116 : decode cX8_winters 116 = .ok (.iload 4, 2) := dk_21 4 (dk_at dksX8_winters_5 0 rfl rfl)
theorem dX8_winters_118 : decode cX8_winters 118 = .ok (.iaload, 1) := dk_46 (dk_at dksX8_winters_5 2 rfl rfl)
theorem dX8_winters_119 : decode cX8_winters 119 = .ok (.invokevirtual 353, 3) := dk_182 1 97 (dk_at dksX8_winters_5 3 rfl rfl)
theorem dX8_winters_122 : decode cX8_winters 122 = .ok (.aload_n 0, 1) := dk_42 (dk_at dksX8_winters_5 6 rfl rfl)
theorem dX8_winters_123 : decode cX8_winters 123 = .ok (.iconst (-1), 1) := dk_2 (dk_at dksX8_winters_5 7 rfl rfl)
theorem dX8_winters_124 : decode cX8_winters 124 = .ok (.invokevirtual 302, 3) := dk_182 1 46 (dk_at dksX8_winters_5 8 rfl rfl)
theorem dX8_winters_127 : decode cX8_winters 127 = .ok (.istore 5, 2) := dk_54 5 (dk_at dksX8_winters_5 11 rfl rfl)
theorem dX8_winters_129 : decode cX8_winters 129 = .ok (.iload 5, 2) := dk_21 5 (dk_at dksX8_winters_5 13 rfl rfl)
theorem dX8_winters_131 : decode cX8_winters 131 = .ok (.iload_n 3, 1) := dk_29 (dk_at dksX8_winters_5 15 rfl rfl)
theorem dX8_winters_132 : decode cX8_winters 132 = .ok (.if_icmp .le 8, 3) := dk_164 0 8 (dk_at dksX8_winters_5 16 rfl rfl)
theorem dX8_winters_135 : decode cX8_winters 135 = .ok (.iload 5, 2) := dk_21 5 (dk_at dksX8_winters_5 19 rfl rfl)
theorem dX8_winters_137 : decode cX8_winters 137 = .ok (.goto 4, 3) := dk_167 0 4 (dk_at dksX8_winters_5 21 rfl rfl)
theorem dX8_winters_140 : decode cX8_winters 140 = .ok (.iload_n 3, 1) := dk_29 (dk_at dksX8_winters_6 0 rfl rfl)
theorem dX8_winters_141 : decode cX8_winters 141 = .ok (.istore_n 3, 1) := dk_62 (dk_at dksX8_winters_6 1 rfl rfl)
theorem dX8_winters_142 : decode cX8_winters 142 = .ok (.iinc 4 1, 3) := dk_132 4 1 (dk_at dksX8_winters_6 2 rfl rfl)
theorem dX8_winters_145 : decode cX8_winters 145 = .ok (.goto (-50), 3) := dk_167 255 206 (dk_at dksX8_winters_6 5 rfl rfl)
theorem dX8_winters_148 : decode cX8_winters 148 = .ok (.iload_n 3, 1) := dk_29 (dk_at dksX8_winters_6 8 rfl rfl)
theorem dX8_winters_149 : decode cX8_winters 149 = .ok (.ireturn, 1) := dk_172 (dk_at dksX8_winters_6 9 rfl rfl)
abbrev cX8_can : ByteArray := prog_20_method_98_code
def yX8_can : MethodName := ⟨RX8, "can", "(I)I"⟩
def dkwX8_can_0 : List UInt8 := [42, 3, 181, 0, 1, 27, 184, 1, 40, 153, 0, 11, 42, 27, 182, 1, 158, 167, 0, 5, 16, 254, 172]
abbrev dktX8_can_0 : List UInt8 := dkwX8_can_0 ++ []
theorem dksX8_can_0 : cX8_can.data.toList.drop 0 = dktX8_can_0 := by decide +kernel
theorem dX8_can_0 : decode cX8_can 0 = .ok (.aload_n 0, 1) := dk_42 (dk_at dksX8_can_0 0 rfl rfl)
theorem dX8_can_1 : decode cX8_can 1 = .ok (.iconst 0, 1) := dk_3 (dk_at dksX8_can_0 1 rfl rfl)
theorem dX8_can_2 : decode cX8_can 2 = .ok (.putfield 1, 3) := dk_181 0 1 (dk_at dksX8_can_0 2 rfl rfl)
theorem dX8_can_5 : decode cX8_can 5 = .ok (.iload_n 1, 1) := dk_27 (dk_at dksX8_can_0 5 rfl rfl)
theorem dX8_can_6 : decode cX8_can 6 = .ok (.invokestatic 296, 3) := dk_184 1 40 (dk_at dksX8_can_0 6 rfl rfl)
theorem dX8_can_9 : decode cX8_can 9 = .ok (.ifCond .eq 11, 3) := dk_153 0 11 (dk_at dksX8_can_0 9 rfl rfl)
theorem dX8_can_12 : decode cX8_can 12 = .ok (.aload_n 0, 1) := dk_42 (dk_at dksX8_can_0 12 rfl rfl)
theorem dX8_can_13 : decode cX8_can 13 = .ok (.iload_n 1, 1) := dk_27 (dk_at dksX8_can_0 13 rfl rfl)
theorem dX8_can_14 : decode cX8_can 14 = .ok (.invokevirtual 414, 3) := dk_182 1 158 (dk_at dksX8_can_0 14 rfl rfl)
theorem dX8_can_17 : decode cX8_can 17 = .ok (.goto 5, 3) := dk_167 0 5 (dk_at dksX8_can_0 17 rfl rfl)
theorem dX8_can_20 : decode cX8_can 20 = .ok (.bipush (-2), 2) := dk_16 254 (dk_at dksX8_can_0 20 rfl rfl)
theorem dX8_can_22 : decode cX8_can 22 = .ok (.ireturn, 1) := dk_172 (dk_at dksX8_can_0 22 rfl rfl)
abbrev cX8_canBe : ByteArray := prog_20_method_97_code
def yX8_canBe : MethodName := ⟨RX8, "canBe", "(I)I"⟩
def dkwX8_canBe_2 : List UInt8 := [182, 1, 97, 42, 27, 182, 1, 43, 153, 0, 5, 4, 172, 132, 2, 1, 167, 255, 224, 3, 172]
abbrev dktX8_canBe_2 : List UInt8 := dkwX8_canBe_2 ++ []
def dkwX8_canBe_1 : List UInt8 := [153, 0, 6, 16, 252, 172, 3, 61, 28, 42, 180, 1, 118, 162, 0, 30, 42, 42, 180, 0, 52, 28, 47, 3]
abbrev dktX8_canBe_1 : List UInt8 := dkwX8_canBe_1 ++ dktX8_canBe_2
def dkwX8_canBe_0 : List UInt8 := [42, 182, 1, 4, 42, 3, 181, 0, 211, 42, 182, 1, 141, 42, 4, 182, 1, 144, 42, 180, 1, 121]
abbrev dktX8_canBe_0 : List UInt8 := dkwX8_canBe_0 ++ dktX8_canBe_1
theorem dksX8_canBe_0 : cX8_canBe.data.toList.drop 0 = dktX8_canBe_0 := by decide +kernel
theorem dksX8_canBe_1 : cX8_canBe.data.toList.drop 22 = dktX8_canBe_1 := dk_seg dksX8_canBe_0 22 rfl rfl
theorem dksX8_canBe_2 : cX8_canBe.data.toList.drop 46 = dktX8_canBe_2 := dk_seg dksX8_canBe_1 24 rfl rfl
theorem dX8_canBe_0 : decode cX8_canBe 0 = .ok (.aload_n 0, 1) := dk_42 (dk_at dksX8_canBe_0 0 rfl rfl)
theorem dX8_canBe_1 : decode cX8_canBe 1 = .ok (.invokevirtual 260, 3) := dk_182 1 4 (dk_at dksX8_canBe_0 1 rfl rfl)
theorem dX8_canBe_4 : decode cX8_canBe 4 = .ok (.aload_n 0, 1) := dk_42 (dk_at dksX8_canBe_0 4 rfl rfl)
theorem dX8_canBe_5 : decode cX8_canBe 5 = .ok (.iconst 0, 1) := dk_3 (dk_at dksX8_canBe_0 5 rfl rfl)
theorem dX8_canBe_6 : decode cX8_canBe 6 = .ok (.putfield 211, 3) := dk_181 0 211 (dk_at dksX8_canBe_0 6 rfl rfl)
theorem dX8_canBe_9 : decode cX8_canBe 9 = .ok (.aload_n 0, 1) := dk_42 (dk_at dksX8_canBe_0 9 rfl rfl)
theorem dX8_canBe_10 : decode cX8_canBe 10 = .ok (.invokevirtual 397, 3) := dk_182 1 141 (dk_at dksX8_canBe_0 10 rfl rfl)
theorem dX8_canBe_13 : decode cX8_canBe 13 = .ok (.aload_n 0, 1) := dk_42 (dk_at dksX8_canBe_0 13 rfl rfl)
theorem dX8_canBe_14 : decode cX8_canBe 14 = .ok (.iconst 1, 1) := dk_4 (dk_at dksX8_canBe_0 14 rfl rfl)
theorem dX8_canBe_15 : decode cX8_canBe 15 = .ok (.invokevirtual 400, 3) := dk_182 1 144 (dk_at dksX8_canBe_0 15 rfl rfl)
theorem dX8_canBe_18 : decode cX8_canBe 18 = .ok (.aload_n 0, 1) := dk_42 (dk_at dksX8_canBe_0 18 rfl rfl)
theorem dX8_canBe_19 : decode cX8_canBe 19 = .ok (.getfield 377, 3) := dk_180 1 121 (dk_at dksX8_canBe_0 19 rfl rfl)
theorem dX8_canBe_22 : decode cX8_canBe 22 = .ok (.ifCond .eq 6, 3) := dk_153 0 6 (dk_at dksX8_canBe_1 0 rfl rfl)
theorem dX8_canBe_25 : decode cX8_canBe 25 = .ok (.bipush (-4), 2) := dk_16 252 (dk_at dksX8_canBe_1 3 rfl rfl)
theorem dX8_canBe_27 : decode cX8_canBe 27 = .ok (.ireturn, 1) := dk_172 (dk_at dksX8_canBe_1 5 rfl rfl)
theorem dX8_canBe_28 : decode cX8_canBe 28 = .ok (.iconst 0, 1) := dk_3 (dk_at dksX8_canBe_1 6 rfl rfl)
theorem dX8_canBe_29 : decode cX8_canBe 29 = .ok (.istore_n 2, 1) := dk_61 (dk_at dksX8_canBe_1 7 rfl rfl)
theorem dX8_canBe_30 : decode cX8_canBe 30 = .ok (.iload_n 2, 1) := dk_28 (dk_at dksX8_canBe_1 8 rfl rfl)
theorem dX8_canBe_31 : decode cX8_canBe 31 = .ok (.aload_n 0, 1) := dk_42 (dk_at dksX8_canBe_1 9 rfl rfl)
theorem dX8_canBe_32 : decode cX8_canBe 32 = .ok (.getfield 374, 3) := dk_180 1 118 (dk_at dksX8_canBe_1 10 rfl rfl)
theorem dX8_canBe_35 : decode cX8_canBe 35 = .ok (.if_icmp .ge 30, 3) := dk_162 0 30 (dk_at dksX8_canBe_1 13 rfl rfl)
theorem dX8_canBe_38 : decode cX8_canBe 38 = .ok (.aload_n 0, 1) := dk_42 (dk_at dksX8_canBe_1 16 rfl rfl)
theorem dX8_canBe_39 : decode cX8_canBe 39 = .ok (.aload_n 0, 1) := dk_42 (dk_at dksX8_canBe_1 17 rfl rfl)
theorem dX8_canBe_40 : decode cX8_canBe 40 = .ok (.getfield 52, 3) := dk_180 0 52 (dk_at dksX8_canBe_1 18 rfl rfl)
theorem dX8_canBe_43 : decode cX8_canBe 43 = .ok (.iload_n 2, 1) := dk_28 (dk_at dksX8_canBe_1 21 rfl rfl)
theorem dX8_canBe_44 : decode cX8_canBe 44 = .ok (.laload, 1) := dk_47 (dk_at dksX8_canBe_1 22 rfl rfl)
theorem dX8_canBe_45 : decode cX8_canBe 45 = .ok (.iconst 0, 1) := dk_3 (dk_at dksX8_canBe_1 23 rfl rfl)
theorem dX8_canBe_46 : decode cX8_canBe 46 = .ok (.invokevirtual 353, 3) := dk_182 1 97 (dk_at dksX8_canBe_2 0 rfl rfl)
theorem dX8_canBe_49 : decode cX8_canBe 49 = .ok (.aload_n 0, 1) := dk_42 (dk_at dksX8_canBe_2 3 rfl rfl)
theorem dX8_canBe_50 : decode cX8_canBe 50 = .ok (.iload_n 1, 1) := dk_27 (dk_at dksX8_canBe_2 4 rfl rfl)
theorem dX8_canBe_51 : decode cX8_canBe 51 = .ok (.invokevirtual 299, 3) := dk_182 1 43 (dk_at dksX8_canBe_2 5 rfl rfl)
theorem dX8_canBe_54 : decode cX8_canBe 54 = .ok (.ifCond .eq 5, 3) := dk_153 0 5 (dk_at dksX8_canBe_2 8 rfl rfl)
theorem dX8_canBe_57 : decode cX8_canBe 57 = .ok (.iconst 1, 1) := dk_4 (dk_at dksX8_canBe_2 11 rfl rfl)
theorem dX8_canBe_58 : decode cX8_canBe 58 = .ok (.ireturn, 1) := dk_172 (dk_at dksX8_canBe_2 12 rfl rfl)
theorem dX8_canBe_59 : decode cX8_canBe 59 = .ok (.iinc 2 1, 3) := dk_132 2 1 (dk_at dksX8_canBe_2 13 rfl rfl)
theorem dX8_canBe_62 : decode cX8_canBe 62 = .ok (.goto (-32), 3) := dk_167 255 224 (dk_at dksX8_canBe_2 16 rfl rfl)
theorem dX8_canBe_65 : decode cX8_canBe 65 = .ok (.iconst 0, 1) := dk_3 (dk_at dksX8_canBe_2 19 rfl rfl)
theorem dX8_canBe_66 : decode cX8_canBe 66 = .ok (.ireturn, 1) := dk_172 (dk_at dksX8_canBe_2 20 rfl rfl)
abbrev cX8_why : ByteArray := prog_20_method_101_code
def yX8_why : MethodName := ⟨RX8, "why", "(I)I"⟩
def dkwX8_why_2 : List UInt8 := [153, 0, 7, 5, 167, 0, 15, 28, 16, 252, 160, 0, 8, 16, 252, 167, 0, 4, 6, 172]
abbrev dktX8_why_2 : List UInt8 := dkwX8_why_2 ++ []
def dkwX8_why_1 : List UInt8 := [160, 0, 5, 3, 172, 42, 27, 182, 1, 161, 153, 0, 7, 4, 167, 0, 27, 42, 27, 182, 1, 164]
abbrev dktX8_why_1 : List UInt8 := dkwX8_why_1 ++ dktX8_why_2
def dkwX8_why_0 : List UInt8 := [42, 3, 181, 0, 1, 27, 184, 1, 40, 154, 0, 6, 16, 254, 172, 42, 27, 182, 1, 158, 61, 28, 4]
abbrev dktX8_why_0 : List UInt8 := dkwX8_why_0 ++ dktX8_why_1
theorem dksX8_why_0 : cX8_why.data.toList.drop 0 = dktX8_why_0 := by decide +kernel
theorem dksX8_why_1 : cX8_why.data.toList.drop 23 = dktX8_why_1 := dk_seg dksX8_why_0 23 rfl rfl
theorem dksX8_why_2 : cX8_why.data.toList.drop 45 = dktX8_why_2 := dk_seg dksX8_why_1 22 rfl rfl
theorem dX8_why_0 : decode cX8_why 0 = .ok (.aload_n 0, 1) := dk_42 (dk_at dksX8_why_0 0 rfl rfl)
theorem dX8_why_1 : decode cX8_why 1 = .ok (.iconst 0, 1) := dk_3 (dk_at dksX8_why_0 1 rfl rfl)
theorem dX8_why_2 : decode cX8_why 2 = .ok (.putfield 1, 3) := dk_181 0 1 (dk_at dksX8_why_0 2 rfl rfl)
theorem dX8_why_5 : decode cX8_why 5 = .ok (.iload_n 1, 1) := dk_27 (dk_at dksX8_why_0 5 rfl rfl)
theorem dX8_why_6 : decode cX8_why 6 = .ok (.invokestatic 296, 3) := dk_184 1 40 (dk_at dksX8_why_0 6 rfl rfl)
theorem dX8_why_9 : decode cX8_why 9 = .ok (.ifCond .ne 6, 3) := dk_154 0 6 (dk_at dksX8_why_0 9 rfl rfl)
theorem dX8_why_12 : decode cX8_why 12 = .ok (.bipush (-2), 2) := dk_16 254 (dk_at dksX8_why_0 12 rfl rfl)
theorem dX8_why_14 : decode cX8_why 14 = .ok (.ireturn, 1) := dk_172 (dk_at dksX8_why_0 14 rfl rfl)
theorem dX8_why_15 : decode cX8_why 15 = .ok (.aload_n 0, 1) := dk_42 (dk_at dksX8_why_0 15 rfl rfl)
theorem dX8_why_16 : decode cX8_why 16 = .ok (.iload_n 1, 1) := dk_27 (dk_at dksX8_why_0 16 rfl rfl)
theorem dX8_why_17 : decode cX8_why 17 = .ok (.invokevirtual 414, 3) := dk_182 1 158 (dk_at dksX8_why_0 17 rfl rfl)
theorem dX8_why_20 : decode cX8_why 20 = .ok (.istore_n 2, 1) := dk_61 (dk_at dksX8_why_0 20 rfl rfl)
theorem dX8_why_21 : decode cX8_why 21 = .ok (.iload_n 2, 1) := dk_28 (dk_at dksX8_why_0 21 rfl rfl)
theorem dX8_why_22 : decode cX8_why 22 = .ok (.iconst 1, 1) := dk_4 (dk_at dksX8_why_0 22 rfl rfl)
theorem dX8_why_23 : decode cX8_why 23 = .ok (.if_icmp .ne 5, 3) := dk_160 0 5 (dk_at dksX8_why_1 0 rfl rfl)
theorem dX8_why_26 : decode cX8_why 26 = .ok (.iconst 0, 1) := dk_3 (dk_at dksX8_why_1 3 rfl rfl)
theorem dX8_why_27 : decode cX8_why 27 = .ok (.ireturn, 1) := dk_172 (dk_at dksX8_why_1 4 rfl rfl)
theorem dX8_why_28 : decode cX8_why 28 = .ok (.aload_n 0, 1) := dk_42 (dk_at dksX8_why_1 5 rfl rfl)
theorem dX8_why_29 : decode cX8_why 29 = .ok (.iload_n 1, 1) := dk_27 (dk_at dksX8_why_1 6 rfl rfl)
theorem dX8_why_30 : decode cX8_why 30 = .ok (.invokevirtual 417, 3) := dk_182 1 161 (dk_at dksX8_why_1 7 rfl rfl)
theorem dX8_why_33 : decode cX8_why 33 = .ok (.ifCond .eq 7, 3) := dk_153 0 7 (dk_at dksX8_why_1 10 rfl rfl)
theorem dX8_why_36 : decode cX8_why 36 = .ok (.iconst 1, 1) := dk_4 (dk_at dksX8_why_1 13 rfl rfl)
theorem dX8_why_37 : decode cX8_why 37 = .ok (.goto 27, 3) := dk_167 0 27 (dk_at dksX8_why_1 14 rfl rfl)
theorem dX8_why_40 : decode cX8_why 40 = .ok (.aload_n 0, 1) := dk_42 (dk_at dksX8_why_1 17 rfl rfl)
theorem dX8_why_41 : decode cX8_why 41 = .ok (.iload_n 1, 1) := dk_27 (dk_at dksX8_why_1 18 rfl rfl)
theorem dX8_why_42 : decode cX8_why 42 = .ok (.invokevirtual 420, 3) := dk_182 1 164 (dk_at dksX8_why_1 19 rfl rfl)
theorem dX8_why_45 : decode cX8_why 45 = .ok (.ifCond .eq 7, 3) := dk_153 0 7 (dk_at dksX8_why_2 0 rfl rfl)
theorem dX8_why_48 : decode cX8_why 48 = .ok (.iconst 2, 1) := dk_5 (dk_at dksX8_why_2 3 rfl rfl)
theorem dX8_why_49 : decode cX8_why 49 = .ok (.goto 15, 3) := dk_167 0 15 (dk_at dksX8_why_2 4 rfl rfl)
theorem dX8_why_52 : decode cX8_why 52 = .ok (.iload_n 2, 1) := dk_28 (dk_at dksX8_why_2 7 rfl rfl)
theorem dX8_why_53 : decode cX8_why 53 = .ok (.bipush (-4), 2) := dk_16 252 (dk_at dksX8_why_2 8 rfl rfl)
theorem dX8_why_55 : decode cX8_why 55 = .ok (.if_icmp .ne 8, 3) := dk_160 0 8 (dk_at dksX8_why_2 10 rfl rfl)
theorem dX8_why_58 : decode cX8_why 58 = .ok (.bipush (-4), 2) := dk_16 252 (dk_at dksX8_why_2 13 rfl rfl)
theorem dX8_why_60 : decode cX8_why 60 = .ok (.goto 4, 3) := dk_167 0 4 (dk_at dksX8_why_2 15 rfl rfl)
theorem dX8_why_63 : decode cX8_why 63 = .ok (.iconst 3, 1) := dk_6 (dk_at dksX8_why_2 18 rfl rfl)
theorem dX8_why_64 : decode cX8_why 64 = .ok (.ireturn, 1) := dk_172 (dk_at dksX8_why_2 19 rfl rfl)
abbrev cX8_areTooFew : ByteArray := prog_20_method_99_code
def yX8_areTooFew : MethodName := ⟨RX8, "areTooFew", "(I)Z"⟩
def dkwX8_areTooFew_5 : List UInt8 := [172, 132, 2, 1, 167, 255, 136, 3, 172]
abbrev dktX8_areTooFew_5 : List UInt8 := dkwX8_areTooFew_5 ++ []
def dkwX8_areTooFew_4 : List UInt8 := [96, 46, 28, 160, 0, 7, 4, 167, 0, 4, 3, 100, 62, 132, 4, 1, 167, 255, 212, 29, 156, 0, 5, 4]
abbrev dktX8_areTooFew_4 : List UInt8 := dkwX8_areTooFew_4 ++ dktX8_areTooFew_5
def dkwX8_areTooFew_3 : List UInt8 := [162, 0, 43, 29, 42, 21, 4, 6, 108, 27, 182, 1, 34, 153, 0, 21, 42, 180, 0, 13, 16, 41, 21, 4]
abbrev dktX8_areTooFew_3 : List UInt8 := dkwX8_areTooFew_3 ++ dktX8_areTooFew_4
def dkwX8_areTooFew_2 : List UInt8 := [2, 159, 0, 7, 4, 167, 0, 4, 3, 96, 62, 132, 4, 1, 167, 255, 209, 3, 54, 4, 21, 4, 16, 15]
abbrev dktX8_areTooFew_2 : List UInt8 := dkwX8_areTooFew_2 ++ dktX8_areTooFew_3
def dkwX8_areTooFew_1 : List UInt8 := [162, 0, 41, 29, 42, 180, 0, 13, 16, 7, 21, 4, 96, 46, 28, 160, 0, 17, 42, 21, 4, 182, 0, 255]
abbrev dktX8_areTooFew_1 : List UInt8 := dkwX8_areTooFew_1 ++ dktX8_areTooFew_2
def dkwX8_areTooFew_0 : List UInt8 := [3, 61, 28, 16, 8, 162, 0, 120, 3, 62, 3, 54, 4, 21, 4, 42, 180, 0, 13, 16, 6, 46]
abbrev dktX8_areTooFew_0 : List UInt8 := dkwX8_areTooFew_0 ++ dktX8_areTooFew_1
theorem dksX8_areTooFew_0 : cX8_areTooFew.data.toList.drop 0 = dktX8_areTooFew_0 := by decide +kernel
theorem dksX8_areTooFew_1 : cX8_areTooFew.data.toList.drop 22 = dktX8_areTooFew_1 := dk_seg dksX8_areTooFew_0 22 rfl rfl
theorem dksX8_areTooFew_2 : cX8_areTooFew.data.toList.drop 46 = dktX8_areTooFew_2 := dk_seg dksX8_areTooFew_1 24 rfl rfl
theorem dksX8_areTooFew_3 : cX8_areTooFew.data.toList.drop 70 = dktX8_areTooFew_3 := dk_seg dksX8_areTooFew_2 24 rfl rfl
theorem dksX8_areTooFew_4 : cX8_areTooFew.data.toList.drop 94 = dktX8_areTooFew_4 := dk_seg dksX8_areTooFew_3 24 rfl rfl
theorem dksX8_areTooFew_5 : cX8_areTooFew.data.toList.drop 118 = dktX8_areTooFew_5 := dk_seg dksX8_areTooFew_4 24 rfl rfl
theorem dX8_areTooFew_0 : decode cX8_areTooFew 0 = .ok (.iconst 0, 1) := dk_3 (dk_at dksX8_areTooFew_0 0 rfl rfl)
theorem dX8_areTooFew_1 : decode cX8_areTooFew 1 = .ok (.istore_n 2, 1) := dk_61 (dk_at dksX8_areTooFew_0 1 rfl rfl)
theorem dX8_areTooFew_2 : decode cX8_areTooFew 2 = .ok (.iload_n 2, 1) := dk_28 (dk_at dksX8_areTooFew_0 2 rfl rfl)
theorem dX8_areTooFew_3 : decode cX8_areTooFew 3 = .ok (.bipush 8, 2) := dk_16 8 (dk_at dksX8_areTooFew_0 3 rfl rfl)
theorem dX8_areTooFew_5 : decode cX8_areTooFew 5 = .ok (.if_icmp .ge 120, 3) := dk_162 0 120 (dk_at dksX8_areTooFew_0 5 rfl rfl)
theorem dX8_areTooFew_8 : decode cX8_areTooFew 8 = .ok (.iconst 0, 1) := dk_3 (dk_at dksX8_areTooFew_0 8 rfl rfl)
theorem dX8_areTooFew_9 : decode cX8_areTooFew 9 = .ok (.istore_n 3, 1) := dk_62 (dk_at dksX8_areTooFew_0 9 rfl rfl)
theorem dX8_areTooFew_10 : decode cX8_areTooFew 10 = .ok (.iconst 0, 1) := dk_3 (dk_at dksX8_areTooFew_0 10 rfl rfl)
theorem dX8_areTooFew_11 : decode cX8_areTooFew 11 = .ok (.istore 4, 2) := dk_54 4 (dk_at dksX8_areTooFew_0 11 rfl rfl)
theorem dX8_areTooFew_13 : decode cX8_areTooFew 13 = .ok (.iload 4, 2) := dk_21 4 (dk_at dksX8_areTooFew_0 13 rfl rfl)
theorem dX8_areTooFew_15 : decode cX8_areTooFew 15 = .ok (.aload_n 0, 1) := dk_42 (dk_at dksX8_areTooFew_0 15 rfl rfl)
theorem dX8_areTooFew_16 : decode cX8_areTooFew 16 = .ok (.getfield 13, 3) := dk_180 0 13 (dk_at dksX8_areTooFew_0 16 rfl rfl)
theorem dX8_areTooFew_19 : decode cX8_areTooFew 19 = .ok (.bipush 6, 2) := dk_16 6 (dk_at dksX8_areTooFew_0 19 rfl rfl)
theorem dX8_areTooFew_21 : decode cX8_areTooFew 21 = .ok (.iaload, 1) := dk_46 (dk_at dksX8_areTooFew_0 21 rfl rfl)
theorem dX8_areTooFew_22 : decode cX8_areTooFew 22 = .ok (.if_icmp .ge 41, 3) := dk_162 0 41 (dk_at dksX8_areTooFew_1 0 rfl rfl)
theorem dX8_areTooFew_25 : decode cX8_areTooFew 25 = .ok (.iload_n 3, 1) := dk_29 (dk_at dksX8_areTooFew_1 3 rfl rfl)
theorem dX8_areTooFew_26 : decode cX8_areTooFew 26 = .ok (.aload_n 0, 1) := dk_42 (dk_at dksX8_areTooFew_1 4 rfl rfl)
theorem dX8_areTooFew_27 : decode cX8_areTooFew 27 = .ok (.getfield 13, 3) := dk_180 0 13 (dk_at dksX8_areTooFew_1 5 rfl rfl)
theorem dX8_areTooFew_30 : decode cX8_areTooFew 30 = .ok (.bipush 7, 2) := dk_16 7 (dk_at dksX8_areTooFew_1 8 rfl rfl)
theorem dX8_areTooFew_32 : decode cX8_areTooFew 32 = .ok (.iload 4, 2) := dk_21 4 (dk_at dksX8_areTooFew_1 10 rfl rfl)
theorem dX8_areTooFew_34 : decode cX8_areTooFew 34 = .ok (.iadd, 1) := dk_96 (dk_at dksX8_areTooFew_1 12 rfl rfl)
theorem dX8_areTooFew_35 : decode cX8_areTooFew 35 = .ok (.iaload, 1) := dk_46 (dk_at dksX8_areTooFew_1 13 rfl rfl)
theorem dX8_areTooFew_36 : decode cX8_areTooFew 36 = .ok (.iload_n 2, 1) := dk_28 (dk_at dksX8_areTooFew_1 14 rfl rfl)
theorem dX8_areTooFew_37 : decode cX8_areTooFew 37 = .ok (.if_icmp .ne 17, 3) := dk_160 0 17 (dk_at dksX8_areTooFew_1 15 rfl rfl)
theorem dX8_areTooFew_40 : decode cX8_areTooFew 40 = .ok (.aload_n 0, 1) := dk_42 (dk_at dksX8_areTooFew_1 18 rfl rfl)
theorem dX8_areTooFew_41 : decode cX8_areTooFew 41 = .ok (.iload 4, 2) := dk_21 4 (dk_at dksX8_areTooFew_1 19 rfl rfl)
theorem dX8_areTooFew_43 : decode cX8_areTooFew 43 = .ok (.invokevirtual 255, 3) := dk_182 0 255 (dk_at dksX8_areTooFew_1 21 rfl rfl)
theorem dX8_areTooFew_46 : decode cX8_areTooFew 46 = .ok (.iconst (-1), 1) := dk_2 (dk_at dksX8_areTooFew_2 0 rfl rfl)
theorem dX8_areTooFew_47 : decode cX8_areTooFew 47 = .ok (.if_icmp .eq 7, 3) := dk_159 0 7 (dk_at dksX8_areTooFew_2 1 rfl rfl)
theorem dX8_areTooFew_50 : decode cX8_areTooFew 50 = .ok (.iconst 1, 1) := dk_4 (dk_at dksX8_areTooFew_2 4 rfl rfl)
theorem dX8_areTooFew_51 : decode cX8_areTooFew 51 = .ok (.goto 4, 3) := dk_167 0 4 (dk_at dksX8_areTooFew_2 5 rfl rfl)
theorem dX8_areTooFew_54 : decode cX8_areTooFew 54 = .ok (.iconst 0, 1) := dk_3 (dk_at dksX8_areTooFew_2 8 rfl rfl)
theorem dX8_areTooFew_55 : decode cX8_areTooFew 55 = .ok (.iadd, 1) := dk_96 (dk_at dksX8_areTooFew_2 9 rfl rfl)
theorem dX8_areTooFew_56 : decode cX8_areTooFew 56 = .ok (.istore_n 3, 1) := dk_62 (dk_at dksX8_areTooFew_2 10 rfl rfl)
theorem dX8_areTooFew_57 : decode cX8_areTooFew 57 = .ok (.iinc 4 1, 3) := dk_132 4 1 (dk_at dksX8_areTooFew_2 11 rfl rfl)
theorem dX8_areTooFew_60 : decode cX8_areTooFew 60 = .ok (.goto (-47), 3) := dk_167 255 209 (dk_at dksX8_areTooFew_2 14 rfl rfl)
theorem dX8_areTooFew_63 : decode cX8_areTooFew 63 = .ok (.iconst 0, 1) := dk_3 (dk_at dksX8_areTooFew_2 17 rfl rfl)
theorem dX8_areTooFew_64 : decode cX8_areTooFew 64 = .ok (.istore 4, 2) := dk_54 4 (dk_at dksX8_areTooFew_2 18 rfl rfl)
theorem dX8_areTooFew_66 : decode cX8_areTooFew 66 = .ok (.iload 4, 2) := dk_21 4 (dk_at dksX8_areTooFew_2 20 rfl rfl)
theorem dX8_areTooFew_68 : decode cX8_areTooFew 68 = .ok (.bipush 15, 2) := dk_16 15 (dk_at dksX8_areTooFew_2 22 rfl rfl)
theorem dX8_areTooFew_70 : decode cX8_areTooFew 70 = .ok (.if_icmp .ge 43, 3) := dk_162 0 43 (dk_at dksX8_areTooFew_3 0 rfl rfl)
theorem dX8_areTooFew_73 : decode cX8_areTooFew 73 = .ok (.iload_n 3, 1) := dk_29 (dk_at dksX8_areTooFew_3 3 rfl rfl)
theorem dX8_areTooFew_74 : decode cX8_areTooFew 74 = .ok (.aload_n 0, 1) := dk_42 (dk_at dksX8_areTooFew_3 4 rfl rfl)
theorem dX8_areTooFew_75 : decode cX8_areTooFew 75 = .ok (.iload 4, 2) := dk_21 4 (dk_at dksX8_areTooFew_3 5 rfl rfl)
theorem dX8_areTooFew_77 : decode cX8_areTooFew 77 = .ok (.iconst 3, 1) := dk_6 (dk_at dksX8_areTooFew_3 7 rfl rfl)
theorem dX8_areTooFew_78 : decode cX8_areTooFew 78 = .ok (.idiv, 1) := dk_108 (dk_at dksX8_areTooFew_3 8 rfl rfl)
theorem dX8_areTooFew_79 : decode cX8_areTooFew 79 = .ok (.iload_n 1, 1) := dk_27 (dk_at dksX8_areTooFew_3 9 rfl rfl)
theorem dX8_areTooFew_80 : decode cX8_areTooFew 80 = .ok (.invokevirtual 290, 3) := dk_182 1 34 (dk_at dksX8_areTooFew_3 10 rfl rfl)
theorem dX8_areTooFew_83 : decode cX8_areTooFew 83 = .ok (.ifCond .eq 21, 3) := dk_153 0 21 (dk_at dksX8_areTooFew_3 13 rfl rfl)
theorem dX8_areTooFew_86 : decode cX8_areTooFew 86 = .ok (.aload_n 0, 1) := dk_42 (dk_at dksX8_areTooFew_3 16 rfl rfl)
theorem dX8_areTooFew_87 : decode cX8_areTooFew 87 = .ok (.getfield 13, 3) := dk_180 0 13 (dk_at dksX8_areTooFew_3 17 rfl rfl)
theorem dX8_areTooFew_90 : decode cX8_areTooFew 90 = .ok (.bipush 41, 2) := dk_16 41 (dk_at dksX8_areTooFew_3 20 rfl rfl)
theorem dX8_areTooFew_92 : decode cX8_areTooFew 92 = .ok (.iload 4, 2) := dk_21 4 (dk_at dksX8_areTooFew_3 22 rfl rfl)
theorem dX8_areTooFew_94 : decode cX8_areTooFew 94 = .ok (.iadd, 1) := dk_96 (dk_at dksX8_areTooFew_4 0 rfl rfl)
theorem dX8_areTooFew_95 : decode cX8_areTooFew 95 = .ok (.iaload, 1) := dk_46 (dk_at dksX8_areTooFew_4 1 rfl rfl)
theorem dX8_areTooFew_96 : decode cX8_areTooFew 96 = .ok (.iload_n 2, 1) := dk_28 (dk_at dksX8_areTooFew_4 2 rfl rfl)
theorem dX8_areTooFew_97 : decode cX8_areTooFew 97 = .ok (.if_icmp .ne 7, 3) := dk_160 0 7 (dk_at dksX8_areTooFew_4 3 rfl rfl)
theorem dX8_areTooFew_100 : decode cX8_areTooFew 100 = .ok (.iconst 1, 1) := dk_4 (dk_at dksX8_areTooFew_4 6 rfl rfl)
theorem dX8_areTooFew_101 : decode cX8_areTooFew 101 = .ok (.goto 4, 3) := dk_167 0 4 (dk_at dksX8_areTooFew_4 7 rfl rfl)
theorem dX8_areTooFew_104 : decode cX8_areTooFew 104 = .ok (.iconst 0, 1) := dk_3 (dk_at dksX8_areTooFew_4 10 rfl rfl)
theorem dX8_areTooFew_105 : decode cX8_areTooFew 105 = .ok (.isub, 1) := dk_100 (dk_at dksX8_areTooFew_4 11 rfl rfl)
theorem dX8_areTooFew_106 : decode cX8_areTooFew 106 = .ok (.istore_n 3, 1) := dk_62 (dk_at dksX8_areTooFew_4 12 rfl rfl)
theorem dX8_areTooFew_107 : decode cX8_areTooFew 107 = .ok (.iinc 4 1, 3) := dk_132 4 1 (dk_at dksX8_areTooFew_4 13 rfl rfl)
theorem dX8_areTooFew_110 : decode cX8_areTooFew 110 = .ok (.goto (-44), 3) := dk_167 255 212 (dk_at dksX8_areTooFew_4 16 rfl rfl)
theorem dX8_areTooFew_113 : decode cX8_areTooFew 113 = .ok (.iload_n 3, 1) := dk_29 (dk_at dksX8_areTooFew_4 19 rfl rfl)
theorem dX8_areTooFew_114 : decode cX8_areTooFew 114 = .ok (.ifCond .ge 5, 3) := dk_156 0 5 (dk_at dksX8_areTooFew_4 20 rfl rfl)
theorem dX8_areTooFew_117 : decode cX8_areTooFew 117 = .ok (.iconst 1, 1) := dk_4 (dk_at dksX8_areTooFew_4 23 rfl rfl)
theorem dX8_areTooFew_118 : decode cX8_areTooFew 118 = .ok (.ireturn, 1) := dk_172 (dk_at dksX8_areTooFew_5 0 rfl rfl)
theorem dX8_areTooFew_119 : decode cX8_areTooFew 119 = .ok (.iinc 2 1, 3) := dk_132 2 1 (dk_at dksX8_areTooFew_5 1 rfl rfl)
theorem dX8_areTooFew_122 : decode cX8_areTooFew 122 = .ok (.goto (-120), 3) := dk_167 255 136 (dk_at dksX8_areTooFew_5 4 rfl rfl)
theorem dX8_areTooFew_125 : decode cX8_areTooFew 125 = .ok (.iconst 0, 1) := dk_3 (dk_at dksX8_areTooFew_5 7 rfl rfl)
theorem dX8_areTooFew_126 : decode cX8_areTooFew 126 = .ok (.ireturn, 1) := dk_172 (dk_at dksX8_areTooFew_5 8 rfl rfl)
abbrev cX8_breaksMust : ByteArray := prog_20_method_100_code
def yX8_breaksMust : MethodName := ⟨RX8, "breaksMust", "(I)Z"⟩
def dkwX8_breaksMust_4 : List UInt8 := [132, 2, 1, 167, 255, 161, 3, 172]
abbrev dktX8_breaksMust_4 : List UInt8 := dkwX8_breaksMust_4 ++ []
def dkwX8_breaksMust_3 : List UInt8 := [180, 0, 13, 16, 31, 29, 96, 46, 42, 180, 0, 13, 16, 69, 28, 96, 46, 164, 0, 5, 4, 172]
abbrev dktX8_breaksMust_3 : List UInt8 := dkwX8_breaksMust_3 ++ dktX8_breaksMust_4
def dkwX8_breaksMust_2 : List UInt8 := [180, 0, 13, 16, 31, 29, 96, 46, 42, 180, 0, 13, 16, 69, 28, 96, 46, 162, 0, 29, 167, 0, 24, 42]
abbrev dktX8_breaksMust_2 : List UInt8 := dkwX8_breaksMust_2 ++ dktX8_breaksMust_3
def dkwX8_breaksMust_1 : List UInt8 := [29, 27, 182, 1, 34, 154, 0, 6, 167, 0, 62, 42, 180, 0, 13, 16, 57, 28, 96, 46, 154, 0, 27, 42]
abbrev dktX8_breaksMust_1 : List UInt8 := dkwX8_breaksMust_1 ++ dktX8_breaksMust_2
def dkwX8_breaksMust_0 : List UInt8 := [3, 61, 28, 42, 180, 0, 13, 16, 56, 46, 162, 0, 90, 42, 180, 0, 13, 16, 63, 28, 96, 46, 62, 42]
abbrev dktX8_breaksMust_0 : List UInt8 := dkwX8_breaksMust_0 ++ dktX8_breaksMust_1
theorem dksX8_breaksMust_0 : cX8_breaksMust.data.toList.drop 0 = dktX8_breaksMust_0 := by decide +kernel
theorem dksX8_breaksMust_1 : cX8_breaksMust.data.toList.drop 24 = dktX8_breaksMust_1 := dk_seg dksX8_breaksMust_0 24 rfl rfl
theorem dksX8_breaksMust_2 : cX8_breaksMust.data.toList.drop 48 = dktX8_breaksMust_2 := dk_seg dksX8_breaksMust_1 24 rfl rfl
theorem dksX8_breaksMust_3 : cX8_breaksMust.data.toList.drop 72 = dktX8_breaksMust_3 := dk_seg dksX8_breaksMust_2 24 rfl rfl
theorem dksX8_breaksMust_4 : cX8_breaksMust.data.toList.drop 94 = dktX8_breaksMust_4 := dk_seg dksX8_breaksMust_3 22 rfl rfl
theorem dX8_breaksMust_0 : decode cX8_breaksMust 0 = .ok (.iconst 0, 1) := dk_3 (dk_at dksX8_breaksMust_0 0 rfl rfl)
theorem dX8_breaksMust_1 : decode cX8_breaksMust 1 = .ok (.istore_n 2, 1) := dk_61 (dk_at dksX8_breaksMust_0 1 rfl rfl)
theorem dX8_breaksMust_2 : decode cX8_breaksMust 2 = .ok (.iload_n 2, 1) := dk_28 (dk_at dksX8_breaksMust_0 2 rfl rfl)
theorem dX8_breaksMust_3 : decode cX8_breaksMust 3 = .ok (.aload_n 0, 1) := dk_42 (dk_at dksX8_breaksMust_0 3 rfl rfl)
theorem dX8_breaksMust_4 : decode cX8_breaksMust 4 = .ok (.getfield 13, 3) := dk_180 0 13 (dk_at dksX8_breaksMust_0 4 rfl rfl)
theorem dX8_breaksMust_7 : decode cX8_breaksMust 7 = .ok (.bipush 56, 2) := dk_16 56 (dk_at dksX8_breaksMust_0 7 rfl rfl)
theorem dX8_breaksMust_9 : decode cX8_breaksMust 9 = .ok (.iaload, 1) := dk_46 (dk_at dksX8_breaksMust_0 9 rfl rfl)
theorem dX8_breaksMust_10 : decode cX8_breaksMust 10 = .ok (.if_icmp .ge 90, 3) := dk_162 0 90 (dk_at dksX8_breaksMust_0 10 rfl rfl)
theorem dX8_breaksMust_13 : decode cX8_breaksMust 13 = .ok (.aload_n 0, 1) := dk_42 (dk_at dksX8_breaksMust_0 13 rfl rfl)
theorem dX8_breaksMust_14 : decode cX8_breaksMust 14 = .ok (.getfield 13, 3) := dk_180 0 13 (dk_at dksX8_breaksMust_0 14 rfl rfl)
theorem dX8_breaksMust_17 : decode cX8_breaksMust 17 = .ok (.bipush 63, 2) := dk_16 63 (dk_at dksX8_breaksMust_0 17 rfl rfl)
theorem dX8_breaksMust_19 : decode cX8_breaksMust 19 = .ok (.iload_n 2, 1) := dk_28 (dk_at dksX8_breaksMust_0 19 rfl rfl)
theorem dX8_breaksMust_20 : decode cX8_breaksMust 20 = .ok (.iadd, 1) := dk_96 (dk_at dksX8_breaksMust_0 20 rfl rfl)
theorem dX8_breaksMust_21 : decode cX8_breaksMust 21 = .ok (.iaload, 1) := dk_46 (dk_at dksX8_breaksMust_0 21 rfl rfl)
theorem dX8_breaksMust_22 : decode cX8_breaksMust 22 = .ok (.istore_n 3, 1) := dk_62 (dk_at dksX8_breaksMust_0 22 rfl rfl)
theorem dX8_breaksMust_23 : decode cX8_breaksMust 23 = .ok (.aload_n 0, 1) := dk_42 (dk_at dksX8_breaksMust_0 23 rfl rfl)
theorem dX8_breaksMust_24 : decode cX8_breaksMust 24 = .ok (.iload_n 3, 1) := dk_29 (dk_at dksX8_breaksMust_1 0 rfl rfl)
theorem dX8_breaksMust_25 : decode cX8_breaksMust 25 = .ok (.iload_n 1, 1) := dk_27 (dk_at dksX8_breaksMust_1 1 rfl rfl)
theorem dX8_breaksMust_26 : decode cX8_breaksMust 26 = .ok (.invokevirtual 290, 3) := dk_182 1 34 (dk_at dksX8_breaksMust_1 2 rfl rfl)
theorem dX8_breaksMust_29 : decode cX8_breaksMust 29 = .ok (.ifCond .ne 6, 3) := dk_154 0 6 (dk_at dksX8_breaksMust_1 5 rfl rfl)
theorem dX8_breaksMust_32 : decode cX8_breaksMust 32 = .ok (.goto 62, 3) := dk_167 0 62 (dk_at dksX8_breaksMust_1 8 rfl rfl)
theorem dX8_breaksMust_35 : decode cX8_breaksMust 35 = .ok (.aload_n 0, 1) := dk_42 (dk_at dksX8_breaksMust_1 11 rfl rfl)
theorem dX8_breaksMust_36 : decode cX8_breaksMust 36 = .ok (.getfield 13, 3) := dk_180 0 13 (dk_at dksX8_breaksMust_1 12 rfl rfl)
theorem dX8_breaksMust_39 : decode cX8_breaksMust 39 = .ok (.bipush 57, 2) := dk_16 57 (dk_at dksX8_breaksMust_1 15 rfl rfl)
theorem dX8_breaksMust_41 : decode cX8_breaksMust 41 = .ok (.iload_n 2, 1) := dk_28 (dk_at dksX8_breaksMust_1 17 rfl rfl)
theorem dX8_breaksMust_42 : decode cX8_breaksMust 42 = .ok (.iadd, 1) := dk_96 (dk_at dksX8_breaksMust_1 18 rfl rfl)
theorem dX8_breaksMust_43 : decode cX8_breaksMust 43 = .ok (.iaload, 1) := dk_46 (dk_at dksX8_breaksMust_1 19 rfl rfl)
theorem dX8_breaksMust_44 : decode cX8_breaksMust 44 = .ok (.ifCond .ne 27, 3) := dk_154 0 27 (dk_at dksX8_breaksMust_1 20 rfl rfl)
theorem dX8_breaksMust_47 : decode cX8_breaksMust 47 = .ok (.aload_n 0, 1) := dk_42 (dk_at dksX8_breaksMust_1 23 rfl rfl)
theorem dX8_breaksMust_48 : decode cX8_breaksMust 48 = .ok (.getfield 13, 3) := dk_180 0 13 (dk_at dksX8_breaksMust_2 0 rfl rfl)
theorem dX8_breaksMust_51 : decode cX8_breaksMust 51 = .ok (.bipush 31, 2) := dk_16 31 (dk_at dksX8_breaksMust_2 3 rfl rfl)
theorem dX8_breaksMust_53 : decode cX8_breaksMust 53 = .ok (.iload_n 3, 1) := dk_29 (dk_at dksX8_breaksMust_2 5 rfl rfl)
theorem dX8_breaksMust_54 : decode cX8_breaksMust 54 = .ok (.iadd, 1) := dk_96 (dk_at dksX8_breaksMust_2 6 rfl rfl)
theorem dX8_breaksMust_55 : decode cX8_breaksMust 55 = .ok (.iaload, 1) := dk_46 (dk_at dksX8_breaksMust_2 7 rfl rfl)
theorem dX8_breaksMust_56 : decode cX8_breaksMust 56 = .ok (.aload_n 0, 1) := dk_42 (dk_at dksX8_breaksMust_2 8 rfl rfl)
theorem dX8_breaksMust_57 : decode cX8_breaksMust 57 = .ok (.getfield 13, 3) := dk_180 0 13 (dk_at dksX8_breaksMust_2 9 rfl rfl)
theorem dX8_breaksMust_60 : decode cX8_breaksMust 60 = .ok (.bipush 69, 2) := dk_16 69 (dk_at dksX8_breaksMust_2 12 rfl rfl)
theorem dX8_breaksMust_62 : decode cX8_breaksMust 62 = .ok (.iload_n 2, 1) := dk_28 (dk_at dksX8_breaksMust_2 14 rfl rfl)
theorem dX8_breaksMust_63 : decode cX8_breaksMust 63 = .ok (.iadd, 1) := dk_96 (dk_at dksX8_breaksMust_2 15 rfl rfl)
theorem dX8_breaksMust_64 : decode cX8_breaksMust 64 = .ok (.iaload, 1) := dk_46 (dk_at dksX8_breaksMust_2 16 rfl rfl)
theorem dX8_breaksMust_65 : decode cX8_breaksMust 65 = .ok (.if_icmp .ge 29, 3) := dk_162 0 29 (dk_at dksX8_breaksMust_2 17 rfl rfl)
theorem dX8_breaksMust_68 : decode cX8_breaksMust 68 = .ok (.goto 24, 3) := dk_167 0 24 (dk_at dksX8_breaksMust_2 20 rfl rfl)
theorem dX8_breaksMust_71 : decode cX8_breaksMust 71 = .ok (.aload_n 0, 1) := dk_42 (dk_at dksX8_breaksMust_2 23 rfl rfl)
theorem dX8_breaksMust_72 : decode cX8_breaksMust 72 = .ok (.getfield 13, 3) := dk_180 0 13 (dk_at dksX8_breaksMust_3 0 rfl rfl)
theorem dX8_breaksMust_75 : decode cX8_breaksMust 75 = .ok (.bipush 31, 2) := dk_16 31 (dk_at dksX8_breaksMust_3 3 rfl rfl)
theorem dX8_breaksMust_77 : decode cX8_breaksMust 77 = .ok (.iload_n 3, 1) := dk_29 (dk_at dksX8_breaksMust_3 5 rfl rfl)
theorem dX8_breaksMust_78 : decode cX8_breaksMust 78 = .ok (.iadd, 1) := dk_96 (dk_at dksX8_breaksMust_3 6 rfl rfl)
theorem dX8_breaksMust_79 : decode cX8_breaksMust 79 = .ok (.iaload, 1) := dk_46 (dk_at dksX8_breaksMust_3 7 rfl rfl)
theorem dX8_breaksMust_80 : decode cX8_breaksMust 80 = .ok (.aload_n 0, 1) := dk_42 (dk_at dksX8_breaksMust_3 8 rfl rfl)
theorem dX8_breaksMust_81 : decode cX8_breaksMust 81 = .ok (.getfield 13, 3) := dk_180 0 13 (dk_at dksX8_breaksMust_3 9 rfl rfl)
theorem dX8_breaksMust_84 : decode cX8_breaksMust 84 = .ok (.bipush 69, 2) := dk_16 69 (dk_at dksX8_breaksMust_3 12 rfl rfl)
theorem dX8_breaksMust_86 : decode cX8_breaksMust 86 = .ok (.iload_n 2, 1) := dk_28 (dk_at dksX8_breaksMust_3 14 rfl rfl)
theorem dX8_breaksMust_87 : decode cX8_breaksMust 87 = .ok (.iadd, 1) := dk_96 (dk_at dksX8_breaksMust_3 15 rfl rfl)
theorem dX8_breaksMust_88 : decode cX8_breaksMust 88 = .ok (.iaload, 1) := dk_46 (dk_at dksX8_breaksMust_3 16 rfl rfl)
theorem dX8_breaksMust_89 : decode cX8_breaksMust 89 = .ok (.if_icmp .le 5, 3) := dk_164 0 5 (dk_at dksX8_breaksMust_3 17 rfl rfl)
theorem dX8_breaksMust_92 : decode cX8_breaksMust 92 = .ok (.iconst 1, 1) := dk_4 (dk_at dksX8_breaksMust_3 20 rfl rfl)
theorem dX8_breaksMust_93 : decode cX8_breaksMust 93 = .ok (.ireturn, 1) := dk_172 (dk_at dksX8_breaksMust_3 21 rfl rfl)
theorem dX8_breaksMust_94 : decode cX8_breaksMust 94 = .ok (.iinc 2 1, 3) := dk_132 2 1 (dk_at dksX8_breaksMust_4 0 rfl rfl)
theorem dX8_breaksMust_97 : decode cX8_breaksMust 97 = .ok (.goto (-95), 3) := dk_167 255 161 (dk_at dksX8_breaksMust_4 3 rfl rfl)
theorem dX8_breaksMust_100 : decode cX8_breaksMust 100 = .ok (.iconst 0, 1) := dk_3 (dk_at dksX8_breaksMust_4 6 rfl rfl)
theorem dX8_breaksMust_101 : decode cX8_breaksMust 101 = .ok (.ireturn, 1) := dk_172 (dk_at dksX8_breaksMust_4 7 rfl rfl)
abbrev cX8_easier : ByteArray := prog_20_method_102_code
def yX8_easier : MethodName := ⟨RX8, "easier", "(I)I"⟩
def dkwX8_easier_9 : List UInt8 := [27, 4, 160, 0, 8, 21, 4, 167, 0, 5, 21, 5, 172]
abbrev dktX8_easier_9 : List UInt8 := dkwX8_easier_9 ++ []
def dkwX8_easier_8 : List UInt8 := [132, 6, 1, 167, 255, 116, 21, 4, 2, 160, 0, 7, 2, 167, 0, 23, 27, 154, 0, 7, 29, 167, 0, 15]
abbrev dktX8_easier_8 : List UInt8 := dkwX8_easier_8 ++ dktX8_easier_9
def dkwX8_easier_7 : List UInt8 := [161, 0, 6, 167, 0, 14, 21, 8, 62, 21, 6, 54, 4, 21, 7, 54, 5, 132, 7, 1, 167, 255, 135]
abbrev dktX8_easier_7 : List UInt8 := dkwX8_easier_7 ++ dktX8_easier_8
def dkwX8_easier_6 : List UInt8 := [54, 8, 42, 21, 6, 21, 7, 182, 1, 169, 21, 8, 155, 0, 28, 29, 2, 159, 0, 12, 21, 8, 29]
abbrev dktX8_easier_6 : List UInt8 := dkwX8_easier_6 ++ dktX8_easier_7
def dkwX8_easier_5 : List UInt8 := [160, 0, 6, 167, 0, 60, 42, 21, 6, 21, 7, 182, 1, 169, 42, 182, 1, 4, 42, 2, 182, 1, 152]
abbrev dktX8_easier_5 : List UInt8 := dkwX8_easier_5 ++ dktX8_easier_6
def dkwX8_easier_4 : List UInt8 := [159, 0, 86, 42, 180, 0, 13, 16, 41, 21, 6, 96, 46, 42, 180, 0, 13, 16, 41, 21, 7, 96, 46]
abbrev dktX8_easier_4 : List UInt8 := dkwX8_easier_4 ++ dktX8_easier_5
def dkwX8_easier_3 : List UInt8 := [180, 0, 13, 16, 41, 21, 6, 96, 46, 2, 159, 0, 100, 42, 180, 0, 13, 16, 41, 21, 7, 96, 46, 2]
abbrev dktX8_easier_3 : List UInt8 := dkwX8_easier_3 ++ dktX8_easier_4
def dkwX8_easier_2 : List UInt8 := [54, 6, 21, 6, 16, 15, 162, 0, 139, 21, 6, 4, 96, 54, 7, 21, 7, 16, 15, 162, 0, 120, 42]
abbrev dktX8_easier_2 : List UInt8 := dkwX8_easier_2 ++ dktX8_easier_3
def dkwX8_easier_1 : List UInt8 := [42, 2, 182, 1, 152, 61, 28, 16, 252, 160, 0, 6, 16, 252, 172, 28, 62, 2, 54, 4, 2, 54, 5, 3]
abbrev dktX8_easier_1 : List UInt8 := dkwX8_easier_1 ++ dktX8_easier_2
def dkwX8_easier_0 : List UInt8 := [42, 3, 181, 0, 1, 27, 133, 9, 20, 1, 167, 184, 0, 153, 154, 0, 6, 16, 254, 172, 42, 182, 1, 4]
abbrev dktX8_easier_0 : List UInt8 := dkwX8_easier_0 ++ dktX8_easier_1
theorem dksX8_easier_0 : cX8_easier.data.toList.drop 0 = dktX8_easier_0 := by decide +kernel
theorem dksX8_easier_1 : cX8_easier.data.toList.drop 24 = dktX8_easier_1 := dk_seg dksX8_easier_0 24 rfl rfl
theorem dksX8_easier_2 : cX8_easier.data.toList.drop 48 = dktX8_easier_2 := dk_seg dksX8_easier_1 24 rfl rfl
theorem dksX8_easier_3 : cX8_easier.data.toList.drop 71 = dktX8_easier_3 := dk_seg dksX8_easier_2 23 rfl rfl
theorem dksX8_easier_4 : cX8_easier.data.toList.drop 95 = dktX8_easier_4 := dk_seg dksX8_easier_3 24 rfl rfl
theorem dksX8_easier_5 : cX8_easier.data.toList.drop 118 = dktX8_easier_5 := dk_seg dksX8_easier_4 23 rfl rfl
theorem dksX8_easier_6 : cX8_easier.data.toList.drop 141 = dktX8_easier_6 := dk_seg dksX8_easier_5 23 rfl rfl
theorem dksX8_easier_7 : cX8_easier.data.toList.drop 164 = dktX8_easier_7 := dk_seg dksX8_easier_6 23 rfl rfl
theorem dksX8_easier_8 : cX8_easier.data.toList.drop 187 = dktX8_easier_8 := dk_seg dksX8_easier_7 23 rfl rfl
theorem dksX8_easier_9 : cX8_easier.data.toList.drop 211 = dktX8_easier_9 := dk_seg dksX8_easier_8 24 rfl rfl
theorem dX8_easier_0 : decode cX8_easier 0 = .ok (.aload_n 0, 1) := dk_42 (dk_at dksX8_easier_0 0 rfl rfl)
theorem dX8_easier_1 : decode cX8_easier 1 = .ok (.iconst 0, 1) := dk_3 (dk_at dksX8_easier_0 1 rfl rfl)
theorem dX8_easier_2 : decode cX8_easier 2 = .ok (.putfield 1, 3) := dk_181 0 1 (dk_at dksX8_easier_0 2 rfl rfl)
theorem dX8_easier_5 : decode cX8_easier 5 = .ok (.iload_n 1, 1) := dk_27 (dk_at dksX8_easier_0 5 rfl rfl)
theorem dX8_easier_6 : decode cX8_easier 6 = .ok (.i2l, 1) := dk_133 (dk_at dksX8_easier_0 6 rfl rfl)
theorem dX8_easier_7 : decode cX8_easier 7 = .ok (.lconst 0, 1) := dk_9 (dk_at dksX8_easier_0 7 rfl rfl)
theorem dX8_easier_8 : decode cX8_easier 8 = .ok (.ldc2_w 423, 3) := dk_20 1 167 (dk_at dksX8_easier_0 8 rfl rfl)
theorem dX8_easier_11 : decode cX8_easier 11 = .ok (.invokestatic 153, 3) := dk_184 0 153 (dk_at dksX8_easier_0 11 rfl rfl)
theorem dX8_easier_14 : decode cX8_easier 14 = .ok (.ifCond .ne 6, 3) := dk_154 0 6 (dk_at dksX8_easier_0 14 rfl rfl)
theorem dX8_easier_17 : decode cX8_easier 17 = .ok (.bipush (-2), 2) := dk_16 254 (dk_at dksX8_easier_0 17 rfl rfl)
theorem dX8_easier_19 : decode cX8_easier 19 = .ok (.ireturn, 1) := dk_172 (dk_at dksX8_easier_0 19 rfl rfl)
theorem dX8_easier_20 : decode cX8_easier 20 = .ok (.aload_n 0, 1) := dk_42 (dk_at dksX8_easier_0 20 rfl rfl)
theorem dX8_easier_21 : decode cX8_easier 21 = .ok (.invokevirtual 260, 3) := dk_182 1 4 (dk_at dksX8_easier_0 21 rfl rfl)
theorem dX8_easier_24 : decode cX8_easier 24 = .ok (.aload_n 0, 1) := dk_42 (dk_at dksX8_easier_1 0 rfl rfl)
theorem dX8_easier_25 : decode cX8_easier 25 = .ok (.iconst (-1), 1) := dk_2 (dk_at dksX8_easier_1 1 rfl rfl)
theorem dX8_easier_26 : decode cX8_easier 26 = .ok (.invokevirtual 408, 3) := dk_182 1 152 (dk_at dksX8_easier_1 2 rfl rfl)
theorem dX8_easier_29 : decode cX8_easier 29 = .ok (.istore_n 2, 1) := dk_61 (dk_at dksX8_easier_1 5 rfl rfl)
theorem dX8_easier_30 : decode cX8_easier 30 = .ok (.iload_n 2, 1) := dk_28 (dk_at dksX8_easier_1 6 rfl rfl)
theorem dX8_easier_31 : decode cX8_easier 31 = .ok (.bipush (-4), 2) := dk_16 252 (dk_at dksX8_easier_1 7 rfl rfl)
theorem dX8_easier_33 : decode cX8_easier 33 = .ok (.if_icmp .ne 6, 3) := dk_160 0 6 (dk_at dksX8_easier_1 9 rfl rfl)
theorem dX8_easier_36 : decode cX8_easier 36 = .ok (.bipush (-4), 2) := dk_16 252 (dk_at dksX8_easier_1 12 rfl rfl)
theorem dX8_easier_38 : decode cX8_easier 38 = .ok (.ireturn, 1) := dk_172 (dk_at dksX8_easier_1 14 rfl rfl)
theorem dX8_easier_39 : decode cX8_easier 39 = .ok (.iload_n 2, 1) := dk_28 (dk_at dksX8_easier_1 15 rfl rfl)
theorem dX8_easier_40 : decode cX8_easier 40 = .ok (.istore_n 3, 1) := dk_62 (dk_at dksX8_easier_1 16 rfl rfl)
theorem dX8_easier_41 : decode cX8_easier 41 = .ok (.iconst (-1), 1) := dk_2 (dk_at dksX8_easier_1 17 rfl rfl)
theorem dX8_easier_42 : decode cX8_easier 42 = .ok (.istore 4, 2) := dk_54 4 (dk_at dksX8_easier_1 18 rfl rfl)
theorem dX8_easier_44 : decode cX8_easier 44 = .ok (.iconst (-1), 1) := dk_2 (dk_at dksX8_easier_1 20 rfl rfl)
theorem dX8_easier_45 : decode cX8_easier 45 = .ok (.istore 5, 2) := dk_54 5 (dk_at dksX8_easier_1 21 rfl rfl)
theorem dX8_easier_47 : decode cX8_easier 47 = .ok (.iconst 0, 1) := dk_3 (dk_at dksX8_easier_1 23 rfl rfl)
theorem dX8_easier_48 : decode cX8_easier 48 = .ok (.istore 6, 2) := dk_54 6 (dk_at dksX8_easier_2 0 rfl rfl)
theorem dX8_easier_50 : decode cX8_easier 50 = .ok (.iload 6, 2) := dk_21 6 (dk_at dksX8_easier_2 2 rfl rfl)
theorem dX8_easier_52 : decode cX8_easier 52 = .ok (.bipush 15, 2) := dk_16 15 (dk_at dksX8_easier_2 4 rfl rfl)
theorem dX8_easier_54 : decode cX8_easier 54 = .ok (.if_icmp .ge 139, 3) := dk_162 0 139 (dk_at dksX8_easier_2 6 rfl rfl)
theorem dX8_easier_57 : decode cX8_easier 57 = .ok (.iload 6, 2) := dk_21 6 (dk_at dksX8_easier_2 9 rfl rfl)
theorem dX8_easier_59 : decode cX8_easier 59 = .ok (.iconst 1, 1) := dk_4 (dk_at dksX8_easier_2 11 rfl rfl)
theorem dX8_easier_60 : decode cX8_easier 60 = .ok (.iadd, 1) := dk_96 (dk_at dksX8_easier_2 12 rfl rfl)
theorem dX8_easier_61 : decode cX8_easier 61 = .ok (.istore 7, 2) := dk_54 7 (dk_at dksX8_easier_2 13 rfl rfl)
theorem dX8_easier_63 : decode cX8_easier 63 = .ok (.iload 7, 2) := dk_21 7 (dk_at dksX8_easier_2 15 rfl rfl)
theorem dX8_easier_65 : decode cX8_easier 65 = .ok (.bipush 15, 2) := dk_16 15 (dk_at dksX8_easier_2 17 rfl rfl)
theorem dX8_easier_67 : decode cX8_easier 67 = .ok (.if_icmp .ge 120, 3) := dk_162 0 120 (dk_at dksX8_easier_2 19 rfl rfl)
theorem dX8_easier_70 : decode cX8_easier 70 = .ok (.aload_n 0, 1) := dk_42 (dk_at dksX8_easier_2 22 rfl rfl)
theorem dX8_easier_71 : decode cX8_easier 71 = .ok (.getfield 13, 3) := dk_180 0 13 (dk_at dksX8_easier_3 0 rfl rfl)
theorem dX8_easier_74 : decode cX8_easier 74 = .ok (.bipush 41, 2) := dk_16 41 (dk_at dksX8_easier_3 3 rfl rfl)
theorem dX8_easier_76 : decode cX8_easier 76 = .ok (.iload 6, 2) := dk_21 6 (dk_at dksX8_easier_3 5 rfl rfl)
theorem dX8_easier_78 : decode cX8_easier 78 = .ok (.iadd, 1) := dk_96 (dk_at dksX8_easier_3 7 rfl rfl)
theorem dX8_easier_79 : decode cX8_easier 79 = .ok (.iaload, 1) := dk_46 (dk_at dksX8_easier_3 8 rfl rfl)
theorem dX8_easier_80 : decode cX8_easier 80 = .ok (.iconst (-1), 1) := dk_2 (dk_at dksX8_easier_3 9 rfl rfl)
theorem dX8_easier_81 : decode cX8_easier 81 = .ok (.if_icmp .eq 100, 3) := dk_159 0 100 (dk_at dksX8_easier_3 10 rfl rfl)
theorem dX8_easier_84 : decode cX8_easier 84 = .ok (.aload_n 0, 1) := dk_42 (dk_at dksX8_easier_3 13 rfl rfl)
theorem dX8_easier_85 : decode cX8_easier 85 = .ok (.getfield 13, 3) := dk_180 0 13 (dk_at dksX8_easier_3 14 rfl rfl)
theorem dX8_easier_88 : decode cX8_easier 88 = .ok (.bipush 41, 2) := dk_16 41 (dk_at dksX8_easier_3 17 rfl rfl)
theorem dX8_easier_90 : decode cX8_easier 90 = .ok (.iload 7, 2) := dk_21 7 (dk_at dksX8_easier_3 19 rfl rfl)
theorem dX8_easier_92 : decode cX8_easier 92 = .ok (.iadd, 1) := dk_96 (dk_at dksX8_easier_3 21 rfl rfl)
theorem dX8_easier_93 : decode cX8_easier 93 = .ok (.iaload, 1) := dk_46 (dk_at dksX8_easier_3 22 rfl rfl)
theorem dX8_easier_94 : decode cX8_easier 94 = .ok (.iconst (-1), 1) := dk_2 (dk_at dksX8_easier_3 23 rfl rfl)
theorem dX8_easier_95 : decode cX8_easier 95 = .ok (.if_icmp .eq 86, 3) := dk_159 0 86 (dk_at dksX8_easier_4 0 rfl rfl)
theorem dX8_easier_98 : decode cX8_easier 98 = .ok (.aload_n 0, 1) := dk_42 (dk_at dksX8_easier_4 3 rfl rfl)
theorem dX8_easier_99 : decode cX8_easier 99 = .ok (.getfield 13, 3) := dk_180 0 13 (dk_at dksX8_easier_4 4 rfl rfl)
theorem dX8_easier_102 : decode cX8_easier 102 = .ok (.bipush 41, 2) := dk_16 41 (dk_at dksX8_easier_4 7 rfl rfl)
theorem dX8_easier_104 : decode cX8_easier 104 = .ok (.iload 6, 2) := dk_21 6 (dk_at dksX8_easier_4 9 rfl rfl)
theorem dX8_easier_106 : decode cX8_easier 106 = .ok (.iadd, 1) := dk_96 (dk_at dksX8_easier_4 11 rfl rfl)
theorem dX8_easier_107 : decode cX8_easier 107 = .ok (.iaload, 1) := dk_46 (dk_at dksX8_easier_4 12 rfl rfl)
theorem dX8_easier_108 : decode cX8_easier 108 = .ok (.aload_n 0, 1) := dk_42 (dk_at dksX8_easier_4 13 rfl rfl)
theorem dX8_easier_109 : decode cX8_easier 109 = .ok (.getfield 13, 3) := dk_180 0 13 (dk_at dksX8_easier_4 14 rfl rfl)
theorem dX8_easier_112 : decode cX8_easier 112 = .ok (.bipush 41, 2) := dk_16 41 (dk_at dksX8_easier_4 17 rfl rfl)
theorem dX8_easier_114 : decode cX8_easier 114 = .ok (.iload 7, 2) := dk_21 7 (dk_at dksX8_easier_4 19 rfl rfl)
theorem dX8_easier_116 : decode cX8_easier 116 = .ok (.iadd, 1) := dk_96 (dk_at dksX8_easier_4 21 rfl rfl)
theorem dX8_easier_117 : decode cX8_easier 117 = .ok (.iaload, 1) := dk_46 (dk_at dksX8_easier_4 22 rfl rfl)
theorem dX8_easier_118 : decode cX8_easier 118 = .ok (.if_icmp .ne 6, 3) := dk_160 0 6 (dk_at dksX8_easier_5 0 rfl rfl)
theorem dX8_easier_121 : decode cX8_easier 121 = .ok (.goto 60, 3) := dk_167 0 60 (dk_at dksX8_easier_5 3 rfl rfl)
theorem dX8_easier_124 : decode cX8_easier 124 = .ok (.aload_n 0, 1) := dk_42 (dk_at dksX8_easier_5 6 rfl rfl)
theorem dX8_easier_125 : decode cX8_easier 125 = .ok (.iload 6, 2) := dk_21 6 (dk_at dksX8_easier_5 7 rfl rfl)
theorem dX8_easier_127 : decode cX8_easier 127 = .ok (.iload 7, 2) := dk_21 7 (dk_at dksX8_easier_5 9 rfl rfl)
theorem dX8_easier_129 : decode cX8_easier 129 = .ok (.invokevirtual 425, 3) := dk_182 1 169 (dk_at dksX8_easier_5 11 rfl rfl)
theorem dX8_easier_132 : decode cX8_easier 132 = .ok (.aload_n 0, 1) := dk_42 (dk_at dksX8_easier_5 14 rfl rfl)
theorem dX8_easier_133 : decode cX8_easier 133 = .ok (.invokevirtual 260, 3) := dk_182 1 4 (dk_at dksX8_easier_5 15 rfl rfl)
theorem dX8_easier_136 : decode cX8_easier 136 = .ok (.aload_n 0, 1) := dk_42 (dk_at dksX8_easier_5 18 rfl rfl)
theorem dX8_easier_137 : decode cX8_easier 137 = .ok (.iconst (-1), 1) := dk_2 (dk_at dksX8_easier_5 19 rfl rfl)
theorem dX8_easier_138 : decode cX8_easier 138 = .ok (.invokevirtual 408, 3) := dk_182 1 152 (dk_at dksX8_easier_5 20 rfl rfl)
theorem dX8_easier_141 : decode cX8_easier 141 = .ok (.istore 8, 2) := dk_54 8 (dk_at dksX8_easier_6 0 rfl rfl)
theorem dX8_easier_143 : decode cX8_easier 143 = .ok (.aload_n 0, 1) := dk_42 (dk_at dksX8_easier_6 2 rfl rfl)
theorem dX8_easier_144 : decode cX8_easier 144 = .ok (.iload 6, 2) := dk_21 6 (dk_at dksX8_easier_6 3 rfl rfl)
theorem dX8_easier_146 : decode cX8_easier 146 = .ok (.iload 7, 2) := dk_21 7 (dk_at dksX8_easier_6 5 rfl rfl)
theorem dX8_easier_148 : decode cX8_easier 148 = .ok (.invokevirtual 425, 3) := dk_182 1 169 (dk_at dksX8_easier_6 7 rfl rfl)
theorem dX8_easier_151 : decode cX8_easier 151 = .ok (.iload 8, 2) := dk_21 8 (dk_at dksX8_easier_6 10 rfl rfl)
theorem dX8_easier_153 : decode cX8_easier 153 = .ok (.ifCond .lt 28, 3) := dk_155 0 28 (dk_at dksX8_easier_6 12 rfl rfl)
theorem dX8_easier_156 : decode cX8_easier 156 = .ok (.iload_n 3, 1) := dk_29 (dk_at dksX8_easier_6 15 rfl rfl)
theorem dX8_easier_157 : decode cX8_easier 157 = .ok (.iconst (-1), 1) := dk_2 (dk_at dksX8_easier_6 16 rfl rfl)
theorem dX8_easier_158 : decode cX8_easier 158 = .ok (.if_icmp .eq 12, 3) := dk_159 0 12 (dk_at dksX8_easier_6 17 rfl rfl)
theorem dX8_easier_161 : decode cX8_easier 161 = .ok (.iload 8, 2) := dk_21 8 (dk_at dksX8_easier_6 20 rfl rfl)
theorem dX8_easier_163 : decode cX8_easier 163 = .ok (.iload_n 3, 1) := dk_29 (dk_at dksX8_easier_6 22 rfl rfl)
theorem dX8_easier_164 : decode cX8_easier 164 = .ok (.if_icmp .lt 6, 3) := dk_161 0 6 (dk_at dksX8_easier_7 0 rfl rfl)
theorem dX8_easier_167 : decode cX8_easier 167 = .ok (.goto 14, 3) := dk_167 0 14 (dk_at dksX8_easier_7 3 rfl rfl)
theorem dX8_easier_170 : decode cX8_easier 170 = .ok (.iload 8, 2) := dk_21 8 (dk_at dksX8_easier_7 6 rfl rfl)
theorem dX8_easier_172 : decode cX8_easier 172 = .ok (.istore_n 3, 1) := dk_62 (dk_at dksX8_easier_7 8 rfl rfl)
theorem dX8_easier_173 : decode cX8_easier 173 = .ok (.iload 6, 2) := dk_21 6 (dk_at dksX8_easier_7 9 rfl rfl)
theorem dX8_easier_175 : decode cX8_easier 175 = .ok (.istore 4, 2) := dk_54 4 (dk_at dksX8_easier_7 11 rfl rfl)
theorem dX8_easier_177 : decode cX8_easier 177 = .ok (.iload 7, 2) := dk_21 7 (dk_at dksX8_easier_7 13 rfl rfl)
theorem dX8_easier_179 : decode cX8_easier 179 = .ok (.istore 5, 2) := dk_54 5 (dk_at dksX8_easier_7 15 rfl rfl)
theorem dX8_easier_181 : decode cX8_easier 181 = .ok (.iinc 7 1, 3) := dk_132 7 1 (dk_at dksX8_easier_7 17 rfl rfl)
theorem dX8_easier_184 : decode cX8_easier 184 = .ok (.goto (-121), 3) := dk_167 255 135 (dk_at dksX8_easier_7 20 rfl rfl)
theorem dX8_easier_187 : decode cX8_easier 187 = .ok (.iinc 6 1, 3) := dk_132 6 1 (dk_at dksX8_easier_8 0 rfl rfl)
theorem dX8_easier_190 : decode cX8_easier 190 = .ok (.goto (-140), 3) := dk_167 255 116 (dk_at dksX8_easier_8 3 rfl rfl)
theorem dX8_easier_193 : decode cX8_easier 193 = .ok (.iload 4, 2) := dk_21 4 (dk_at dksX8_easier_8 6 rfl rfl)
theorem dX8_easier_195 : decode cX8_easier 195 = .ok (.iconst (-1), 1) := dk_2 (dk_at dksX8_easier_8 8 rfl rfl)
theorem dX8_easier_196 : decode cX8_easier 196 = .ok (.if_icmp .ne 7, 3) := dk_160 0 7 (dk_at dksX8_easier_8 9 rfl rfl)
theorem dX8_easier_199 : decode cX8_easier 199 = .ok (.iconst (-1), 1) := dk_2 (dk_at dksX8_easier_8 12 rfl rfl)
theorem dX8_easier_200 : decode cX8_easier 200 = .ok (.goto 23, 3) := dk_167 0 23 (dk_at dksX8_easier_8 13 rfl rfl)
theorem dX8_easier_203 : decode cX8_easier 203 = .ok (.iload_n 1, 1) := dk_27 (dk_at dksX8_easier_8 16 rfl rfl)
theorem dX8_easier_204 : decode cX8_easier 204 = .ok (.ifCond .ne 7, 3) := dk_154 0 7 (dk_at dksX8_easier_8 17 rfl rfl)
theorem dX8_easier_207 : decode cX8_easier 207 = .ok (.iload_n 3, 1) := dk_29 (dk_at dksX8_easier_8 20 rfl rfl)
theorem dX8_easier_208 : decode cX8_easier 208 = .ok (.goto 15, 3) := dk_167 0 15 (dk_at dksX8_easier_8 21 rfl rfl)
theorem dX8_easier_211 : decode cX8_easier 211 = .ok (.iload_n 1, 1) := dk_27 (dk_at dksX8_easier_9 0 rfl rfl)
theorem dX8_easier_212 : decode cX8_easier 212 = .ok (.iconst 1, 1) := dk_4 (dk_at dksX8_easier_9 1 rfl rfl)
theorem dX8_easier_213 : decode cX8_easier 213 = .ok (.if_icmp .ne 8, 3) := dk_160 0 8 (dk_at dksX8_easier_9 2 rfl rfl)
theorem dX8_easier_216 : decode cX8_easier 216 = .ok (.iload 4, 2) := dk_21 4 (dk_at dksX8_easier_9 5 rfl rfl)
theorem dX8_easier_218 : decode cX8_easier 218 = .ok (.goto 5, 3) := dk_167 0 5 (dk_at dksX8_easier_9 7 rfl rfl)
theorem dX8_easier_221 : decode cX8_easier 221 = .ok (.iload 5, 2) := dk_21 5 (dk_at dksX8_easier_9 10 rfl rfl)
theorem dX8_easier_223 : decode cX8_easier 223 = .ok (.ireturn, 1) := dk_172 (dk_at dksX8_easier_9 12 rfl rfl)
abbrev cX8_swaps : ByteArray := prog_20_method_103_code
def yX8_swaps : MethodName := ⟨RX8, "swaps", "(II)V"⟩
def dkwX8_swaps_1 : List UInt8 := [28, 96, 46, 79, 42, 180, 0, 13, 16, 41, 28, 96, 29, 79, 177]
abbrev dktX8_swaps_1 : List UInt8 := dkwX8_swaps_1 ++ []
def dkwX8_swaps_0 : List UInt8 := [42, 180, 0, 13, 16, 41, 27, 96, 46, 62, 42, 180, 0, 13, 16, 41, 27, 96, 42, 180, 0, 13, 16, 41]
abbrev dktX8_swaps_0 : List UInt8 := dkwX8_swaps_0 ++ dktX8_swaps_1
theorem dksX8_swaps_0 : cX8_swaps.data.toList.drop 0 = dktX8_swaps_0 := by decide +kernel
theorem dksX8_swaps_1 : cX8_swaps.data.toList.drop 24 = dktX8_swaps_1 := dk_seg dksX8_swaps_0 24 rfl rfl
theorem dX8_swaps_0 : decode cX8_swaps 0 = .ok (.aload_n 0, 1) := dk_42 (dk_at dksX8_swaps_0 0 rfl rfl)
theorem dX8_swaps_1 : decode cX8_swaps 1 = .ok (.getfield 13, 3) := dk_180 0 13 (dk_at dksX8_swaps_0 1 rfl rfl)
theorem dX8_swaps_4 : decode cX8_swaps 4 = .ok (.bipush 41, 2) := dk_16 41 (dk_at dksX8_swaps_0 4 rfl rfl)
theorem dX8_swaps_6 : decode cX8_swaps 6 = .ok (.iload_n 1, 1) := dk_27 (dk_at dksX8_swaps_0 6 rfl rfl)
theorem dX8_swaps_7 : decode cX8_swaps 7 = .ok (.iadd, 1) := dk_96 (dk_at dksX8_swaps_0 7 rfl rfl)
theorem dX8_swaps_8 : decode cX8_swaps 8 = .ok (.iaload, 1) := dk_46 (dk_at dksX8_swaps_0 8 rfl rfl)
theorem dX8_swaps_9 : decode cX8_swaps 9 = .ok (.istore_n 3, 1) := dk_62 (dk_at dksX8_swaps_0 9 rfl rfl)
theorem dX8_swaps_10 : decode cX8_swaps 10 = .ok (.aload_n 0, 1) := dk_42 (dk_at dksX8_swaps_0 10 rfl rfl)
theorem dX8_swaps_11 : decode cX8_swaps 11 = .ok (.getfield 13, 3) := dk_180 0 13 (dk_at dksX8_swaps_0 11 rfl rfl)
theorem dX8_swaps_14 : decode cX8_swaps 14 = .ok (.bipush 41, 2) := dk_16 41 (dk_at dksX8_swaps_0 14 rfl rfl)
theorem dX8_swaps_16 : decode cX8_swaps 16 = .ok (.iload_n 1, 1) := dk_27 (dk_at dksX8_swaps_0 16 rfl rfl)
theorem dX8_swaps_17 : decode cX8_swaps 17 = .ok (.iadd, 1) := dk_96 (dk_at dksX8_swaps_0 17 rfl rfl)
theorem dX8_swaps_18 : decode cX8_swaps 18 = .ok (.aload_n 0, 1) := dk_42 (dk_at dksX8_swaps_0 18 rfl rfl)
theorem dX8_swaps_19 : decode cX8_swaps 19 = .ok (.getfield 13, 3) := dk_180 0 13 (dk_at dksX8_swaps_0 19 rfl rfl)
theorem dX8_swaps_22 : decode cX8_swaps 22 = .ok (.bipush 41, 2) := dk_16 41 (dk_at dksX8_swaps_0 22 rfl rfl)
theorem dX8_swaps_24 : decode cX8_swaps 24 = .ok (.iload_n 2, 1) := dk_28 (dk_at dksX8_swaps_1 0 rfl rfl)
theorem dX8_swaps_25 : decode cX8_swaps 25 = .ok (.iadd, 1) := dk_96 (dk_at dksX8_swaps_1 1 rfl rfl)
theorem dX8_swaps_26 : decode cX8_swaps 26 = .ok (.iaload, 1) := dk_46 (dk_at dksX8_swaps_1 2 rfl rfl)
theorem dX8_swaps_27 : decode cX8_swaps 27 = .ok (.iastore, 1) := dk_79 (dk_at dksX8_swaps_1 3 rfl rfl)
theorem dX8_swaps_28 : decode cX8_swaps 28 = .ok (.aload_n 0, 1) := dk_42 (dk_at dksX8_swaps_1 4 rfl rfl)
theorem dX8_swaps_29 : decode cX8_swaps 29 = .ok (.getfield 13, 3) := dk_180 0 13 (dk_at dksX8_swaps_1 5 rfl rfl)
theorem dX8_swaps_32 : decode cX8_swaps 32 = .ok (.bipush 41, 2) := dk_16 41 (dk_at dksX8_swaps_1 8 rfl rfl)
theorem dX8_swaps_34 : decode cX8_swaps 34 = .ok (.iload_n 2, 1) := dk_28 (dk_at dksX8_swaps_1 10 rfl rfl)
theorem dX8_swaps_35 : decode cX8_swaps 35 = .ok (.iadd, 1) := dk_96 (dk_at dksX8_swaps_1 11 rfl rfl)
theorem dX8_swaps_36 : decode cX8_swaps 36 = .ok (.iload_n 3, 1) := dk_29 (dk_at dksX8_swaps_1 12 rfl rfl)
theorem dX8_swaps_37 : decode cX8_swaps 37 = .ok (.iastore, 1) := dk_79 (dk_at dksX8_swaps_1 13 rfl rfl)
theorem dX8_swaps_38 : decode cX8_swaps 38 = .ok (.return_, 1) := dk_177 (dk_at dksX8_swaps_1 14 rfl rfl)
abbrev cX8_wall : ByteArray := prog_20_method_106_code
def yX8_wall : MethodName := ⟨RX8, "wall", "(II)I"⟩
def dkwX8_wall_1 : List UInt8 := [182, 1, 174, 62, 29, 153, 0, 7, 29, 167, 0, 8, 42, 28, 182, 1, 177, 172]
abbrev dktX8_wall_1 : List UInt8 := dkwX8_wall_1 ++ []
def dkwX8_wall_0 : List UInt8 := [42, 3, 181, 0, 1, 27, 133, 9, 20, 1, 63, 184, 0, 153, 154, 0, 6, 16, 254, 172, 42, 27, 28]
abbrev dktX8_wall_0 : List UInt8 := dkwX8_wall_0 ++ dktX8_wall_1
theorem dksX8_wall_0 : cX8_wall.data.toList.drop 0 = dktX8_wall_0 := by decide +kernel
theorem dksX8_wall_1 : cX8_wall.data.toList.drop 23 = dktX8_wall_1 := dk_seg dksX8_wall_0 23 rfl rfl
theorem dX8_wall_0 : decode cX8_wall 0 = .ok (.aload_n 0, 1) := dk_42 (dk_at dksX8_wall_0 0 rfl rfl)
theorem dX8_wall_1 : decode cX8_wall 1 = .ok (.iconst 0, 1) := dk_3 (dk_at dksX8_wall_0 1 rfl rfl)
theorem dX8_wall_2 : decode cX8_wall 2 = .ok (.putfield 1, 3) := dk_181 0 1 (dk_at dksX8_wall_0 2 rfl rfl)
theorem dX8_wall_5 : decode cX8_wall 5 = .ok (.iload_n 1, 1) := dk_27 (dk_at dksX8_wall_0 5 rfl rfl)
theorem dX8_wall_6 : decode cX8_wall 6 = .ok (.i2l, 1) := dk_133 (dk_at dksX8_wall_0 6 rfl rfl)
theorem dX8_wall_7 : decode cX8_wall 7 = .ok (.lconst 0, 1) := dk_9 (dk_at dksX8_wall_0 7 rfl rfl)
theorem dX8_wall_8 : decode cX8_wall 8 = .ok (.ldc2_w 319, 3) := dk_20 1 63 (dk_at dksX8_wall_0 8 rfl rfl)
theorem dX8_wall_11 : decode cX8_wall 11 = .ok (.invokestatic 153, 3) := dk_184 0 153 (dk_at dksX8_wall_0 11 rfl rfl)
theorem dX8_wall_14 : decode cX8_wall 14 = .ok (.ifCond .ne 6, 3) := dk_154 0 6 (dk_at dksX8_wall_0 14 rfl rfl)
theorem dX8_wall_17 : decode cX8_wall 17 = .ok (.bipush (-2), 2) := dk_16 254 (dk_at dksX8_wall_0 17 rfl rfl)
theorem dX8_wall_19 : decode cX8_wall 19 = .ok (.ireturn, 1) := dk_172 (dk_at dksX8_wall_0 19 rfl rfl)
theorem dX8_wall_20 : decode cX8_wall 20 = .ok (.aload_n 0, 1) := dk_42 (dk_at dksX8_wall_0 20 rfl rfl)
theorem dX8_wall_21 : decode cX8_wall 21 = .ok (.iload_n 1, 1) := dk_27 (dk_at dksX8_wall_0 21 rfl rfl)
theorem dX8_wall_22 : decode cX8_wall 22 = .ok (.iload_n 2, 1) := dk_28 (dk_at dksX8_wall_0 22 rfl rfl)
theorem dX8_wall_23 : decode cX8_wall 23 = .ok (.invokevirtual 430, 3) := dk_182 1 174 (dk_at dksX8_wall_1 0 rfl rfl)
theorem dX8_wall_26 : decode cX8_wall 26 = .ok (.istore_n 3, 1) := dk_62 (dk_at dksX8_wall_1 3 rfl rfl)
theorem dX8_wall_27 : decode cX8_wall 27 = .ok (.iload_n 3, 1) := dk_29 (dk_at dksX8_wall_1 4 rfl rfl)
theorem dX8_wall_28 : decode cX8_wall 28 = .ok (.ifCond .eq 7, 3) := dk_153 0 7 (dk_at dksX8_wall_1 5 rfl rfl)
theorem dX8_wall_31 : decode cX8_wall 31 = .ok (.iload_n 3, 1) := dk_29 (dk_at dksX8_wall_1 8 rfl rfl)
theorem dX8_wall_32 : decode cX8_wall 32 = .ok (.goto 8, 3) := dk_167 0 8 (dk_at dksX8_wall_1 9 rfl rfl)
theorem dX8_wall_35 : decode cX8_wall 35 = .ok (.aload_n 0, 1) := dk_42 (dk_at dksX8_wall_1 12 rfl rfl)
theorem dX8_wall_36 : decode cX8_wall 36 = .ok (.iload_n 2, 1) := dk_28 (dk_at dksX8_wall_1 13 rfl rfl)
theorem dX8_wall_37 : decode cX8_wall 37 = .ok (.invokevirtual 433, 3) := dk_182 1 177 (dk_at dksX8_wall_1 14 rfl rfl)
theorem dX8_wall_40 : decode cX8_wall 40 = .ok (.ireturn, 1) := dk_172 (dk_at dksX8_wall_1 17 rfl rfl)
abbrev cX8_laysWall : ByteArray := prog_20_method_104_code
def yX8_laysWall : MethodName := ⟨RX8, "laysWall", "(II)I"⟩
def dkwX8_laysWall_5 : List UInt8 := [3, 172]
abbrev dktX8_laysWall_5 : List UInt8 := dkwX8_laysWall_5 ++ []
def dkwX8_laysWall_4 : List UInt8 := [33, 10, 22, 6, 136, 121, 129, 66, 42, 180, 0, 74, 21, 5, 22, 6, 136, 79, 132, 5, 1, 167, 255, 187]
abbrev dktX8_laysWall_4 : List UInt8 := dkwX8_laysWall_4 ++ dktX8_laysWall_5
def dkwX8_laysWall_3 : List UInt8 := [4, 100, 133, 184, 0, 153, 153, 0, 15, 33, 22, 6, 136, 123, 10, 127, 10, 148, 154, 0, 6, 16, 253, 172]
abbrev dktX8_laysWall_3 : List UInt8 := dkwX8_laysWall_3 ++ dktX8_laysWall_4
def dkwX8_laysWall_2 : List UInt8 := [21, 5, 28, 162, 0, 69, 42, 180, 0, 83, 16, 40, 27, 104, 21, 5, 96, 47, 55, 6, 22, 6, 9, 28]
abbrev dktX8_laysWall_2 : List UInt8 := dkwX8_laysWall_2 ++ dktX8_laysWall_3
def dkwX8_laysWall_1 : List UInt8 := [160, 0, 6, 16, 250, 172, 42, 180, 0, 80, 27, 46, 28, 162, 0, 6, 16, 249, 172, 9, 66, 3, 54, 5]
abbrev dktX8_laysWall_1 : List UInt8 := dkwX8_laysWall_1 ++ dktX8_laysWall_2
def dkwX8_laysWall_0 : List UInt8 := [28, 133, 10, 20, 1, 172, 184, 0, 153, 154, 0, 6, 16, 253, 172, 42, 180, 0, 77, 27, 46, 2]
abbrev dktX8_laysWall_0 : List UInt8 := dkwX8_laysWall_0 ++ dktX8_laysWall_1
theorem dksX8_laysWall_0 : cX8_laysWall.data.toList.drop 0 = dktX8_laysWall_0 := by decide +kernel
theorem dksX8_laysWall_1 : cX8_laysWall.data.toList.drop 22 = dktX8_laysWall_1 := dk_seg dksX8_laysWall_0 22 rfl rfl
theorem dksX8_laysWall_2 : cX8_laysWall.data.toList.drop 46 = dktX8_laysWall_2 := dk_seg dksX8_laysWall_1 24 rfl rfl
theorem dksX8_laysWall_3 : cX8_laysWall.data.toList.drop 70 = dktX8_laysWall_3 := dk_seg dksX8_laysWall_2 24 rfl rfl
theorem dksX8_laysWall_4 : cX8_laysWall.data.toList.drop 94 = dktX8_laysWall_4 := dk_seg dksX8_laysWall_3 24 rfl rfl
theorem dksX8_laysWall_5 : cX8_laysWall.data.toList.drop 118 = dktX8_laysWall_5 := dk_seg dksX8_laysWall_4 24 rfl rfl
theorem dX8_laysWall_0 : decode cX8_laysWall 0 = .ok (.iload_n 2, 1) := dk_28 (dk_at dksX8_laysWall_0 0 rfl rfl)
theorem dX8_laysWall_1 : decode cX8_laysWall 1 = .ok (.i2l, 1) := dk_133 (dk_at dksX8_laysWall_0 1 rfl rfl)
theorem dX8_laysWall_2 : decode cX8_laysWall 2 = .ok (.lconst 1, 1) := dk_10 (dk_at dksX8_laysWall_0 2 rfl rfl)
theorem dX8_laysWall_3 : decode cX8_laysWall 3 = .ok (.ldc2_w 428, 3) := dk_20 1 172 (dk_at dksX8_laysWall_0 3 rfl rfl)
theorem dX8_laysWall_6 : decode cX8_laysWall 6 = .ok (.invokestatic 153, 3) := dk_184 0 153 (dk_at dksX8_laysWall_0 6 rfl rfl)
theorem dX8_laysWall_9 : decode cX8_laysWall 9 = .ok (.ifCond .ne 6, 3) := dk_154 0 6 (dk_at dksX8_laysWall_0 9 rfl rfl)
theorem dX8_laysWall_12 : decode cX8_laysWall 12 = .ok (.bipush (-3), 2) := dk_16 253 (dk_at dksX8_laysWall_0 12 rfl rfl)
theorem dX8_laysWall_14 : decode cX8_laysWall 14 = .ok (.ireturn, 1) := dk_172 (dk_at dksX8_laysWall_0 14 rfl rfl)
theorem dX8_laysWall_15 : decode cX8_laysWall 15 = .ok (.aload_n 0, 1) := dk_42 (dk_at dksX8_laysWall_0 15 rfl rfl)
theorem dX8_laysWall_16 : decode cX8_laysWall 16 = .ok (.getfield 77, 3) := dk_180 0 77 (dk_at dksX8_laysWall_0 16 rfl rfl)
theorem dX8_laysWall_19 : decode cX8_laysWall 19 = .ok (.iload_n 1, 1) := dk_27 (dk_at dksX8_laysWall_0 19 rfl rfl)
theorem dX8_laysWall_20 : decode cX8_laysWall 20 = .ok (.iaload, 1) := dk_46 (dk_at dksX8_laysWall_0 20 rfl rfl)
theorem dX8_laysWall_21 : decode cX8_laysWall 21 = .ok (.iconst (-1), 1) := dk_2 (dk_at dksX8_laysWall_0 21 rfl rfl)
theorem dX8_laysWall_22 : decode cX8_laysWall 22 = .ok (.if_icmp .ne 6, 3) := dk_160 0 6 (dk_at dksX8_laysWall_1 0 rfl rfl)
theorem dX8_laysWall_25 : decode cX8_laysWall 25 = .ok (.bipush (-6), 2) := dk_16 250 (dk_at dksX8_laysWall_1 3 rfl rfl)
theorem dX8_laysWall_27 : decode cX8_laysWall 27 = .ok (.ireturn, 1) := dk_172 (dk_at dksX8_laysWall_1 5 rfl rfl)
theorem dX8_laysWall_28 : decode cX8_laysWall 28 = .ok (.aload_n 0, 1) := dk_42 (dk_at dksX8_laysWall_1 6 rfl rfl)
theorem dX8_laysWall_29 : decode cX8_laysWall 29 = .ok (.getfield 80, 3) := dk_180 0 80 (dk_at dksX8_laysWall_1 7 rfl rfl)
theorem dX8_laysWall_32 : decode cX8_laysWall 32 = .ok (.iload_n 1, 1) := dk_27 (dk_at dksX8_laysWall_1 10 rfl rfl)
theorem dX8_laysWall_33 : decode cX8_laysWall 33 = .ok (.iaload, 1) := dk_46 (dk_at dksX8_laysWall_1 11 rfl rfl)
theorem dX8_laysWall_34 : decode cX8_laysWall 34 = .ok (.iload_n 2, 1) := dk_28 (dk_at dksX8_laysWall_1 12 rfl rfl)
theorem dX8_laysWall_35 : decode cX8_laysWall 35 = .ok (.if_icmp .ge 6, 3) := dk_162 0 6 (dk_at dksX8_laysWall_1 13 rfl rfl)
theorem dX8_laysWall_38 : decode cX8_laysWall 38 = .ok (.bipush (-7), 2) := dk_16 249 (dk_at dksX8_laysWall_1 16 rfl rfl)
theorem dX8_laysWall_40 : decode cX8_laysWall 40 = .ok (.ireturn, 1) := dk_172 (dk_at dksX8_laysWall_1 18 rfl rfl)
theorem dX8_laysWall_41 : decode cX8_laysWall 41 = .ok (.lconst 0, 1) := dk_9 (dk_at dksX8_laysWall_1 19 rfl rfl)
theorem dX8_laysWall_42 : decode cX8_laysWall 42 = .ok (.lstore_n 3, 1) := dk_66 (dk_at dksX8_laysWall_1 20 rfl rfl)
theorem dX8_laysWall_43 : decode cX8_laysWall 43 = .ok (.iconst 0, 1) := dk_3 (dk_at dksX8_laysWall_1 21 rfl rfl)
theorem dX8_laysWall_44 : decode cX8_laysWall 44 = .ok (.istore 5, 2) := dk_54 5 (dk_at dksX8_laysWall_1 22 rfl rfl)
theorem dX8_laysWall_46 : decode cX8_laysWall 46 = .ok (.iload 5, 2) := dk_21 5 (dk_at dksX8_laysWall_2 0 rfl rfl)
theorem dX8_laysWall_48 : decode cX8_laysWall 48 = .ok (.iload_n 2, 1) := dk_28 (dk_at dksX8_laysWall_2 2 rfl rfl)
theorem dX8_laysWall_49 : decode cX8_laysWall 49 = .ok (.if_icmp .ge 69, 3) := dk_162 0 69 (dk_at dksX8_laysWall_2 3 rfl rfl)
theorem dX8_laysWall_52 : decode cX8_laysWall 52 = .ok (.aload_n 0, 1) := dk_42 (dk_at dksX8_laysWall_2 6 rfl rfl)
theorem dX8_laysWall_53 : decode cX8_laysWall 53 = .ok (.getfield 83, 3) := dk_180 0 83 (dk_at dksX8_laysWall_2 7 rfl rfl)
theorem dX8_laysWall_56 : decode cX8_laysWall 56 = .ok (.bipush 40, 2) := dk_16 40 (dk_at dksX8_laysWall_2 10 rfl rfl)
theorem dX8_laysWall_58 : decode cX8_laysWall 58 = .ok (.iload_n 1, 1) := dk_27 (dk_at dksX8_laysWall_2 12 rfl rfl)
theorem dX8_laysWall_59 : decode cX8_laysWall 59 = .ok (.imul, 1) := dk_104 (dk_at dksX8_laysWall_2 13 rfl rfl)
theorem dX8_laysWall_60 : decode cX8_laysWall 60 = .ok (.iload 5, 2) := dk_21 5 (dk_at dksX8_laysWall_2 14 rfl rfl)
theorem dX8_laysWall_62 : decode cX8_laysWall 62 = .ok (.iadd, 1) := dk_96 (dk_at dksX8_laysWall_2 16 rfl rfl)
theorem dX8_laysWall_63 : decode cX8_laysWall 63 = .ok (.laload, 1) := dk_47 (dk_at dksX8_laysWall_2 17 rfl rfl)
theorem dX8_laysWall_64 : decode cX8_laysWall 64 = .ok (.lstore 6, 2) := dk_55 6 (dk_at dksX8_laysWall_2 18 rfl rfl)
theorem dX8_laysWall_66 : decode cX8_laysWall 66 = .ok (.lload 6, 2) := dk_22 6 (dk_at dksX8_laysWall_2 20 rfl rfl)
theorem dX8_laysWall_68 : decode cX8_laysWall 68 = .ok (.lconst 0, 1) := dk_9 (dk_at dksX8_laysWall_2 22 rfl rfl)
theorem dX8_laysWall_69 : decode cX8_laysWall 69 = .ok (.iload_n 2, 1) := dk_28 (dk_at dksX8_laysWall_2 23 rfl rfl)
theorem dX8_laysWall_70 : decode cX8_laysWall 70 = .ok (.iconst 1, 1) := dk_4 (dk_at dksX8_laysWall_3 0 rfl rfl)
theorem dX8_laysWall_71 : decode cX8_laysWall 71 = .ok (.isub, 1) := dk_100 (dk_at dksX8_laysWall_3 1 rfl rfl)
theorem dX8_laysWall_72 : decode cX8_laysWall 72 = .ok (.i2l, 1) := dk_133 (dk_at dksX8_laysWall_3 2 rfl rfl)
theorem dX8_laysWall_73 : decode cX8_laysWall 73 = .ok (.invokestatic 153, 3) := dk_184 0 153 (dk_at dksX8_laysWall_3 3 rfl rfl)
theorem dX8_laysWall_76 : decode cX8_laysWall 76 = .ok (.ifCond .eq 15, 3) := dk_153 0 15 (dk_at dksX8_laysWall_3 6 rfl rfl)
theorem dX8_laysWall_79 : decode cX8_laysWall 79 = .ok (.lload_n 3, 1) := dk_33 (dk_at dksX8_laysWall_3 9 rfl rfl)
theorem dX8_laysWall_80 : decode cX8_laysWall 80 = .ok (.lload 6, 2) := dk_22 6 (dk_at dksX8_laysWall_3 10 rfl rfl)
theorem dX8_laysWall_82 : decode cX8_laysWall 82 = .ok (.l2i, 1) := dk_136 (dk_at dksX8_laysWall_3 12 rfl rfl)
theorem dX8_laysWall_83 : decode cX8_laysWall 83 = .ok (.lshr, 1) := dk_123 (dk_at dksX8_laysWall_3 13 rfl rfl)
theorem dX8_laysWall_84 : decode cX8_laysWall 84 = .ok (.lconst 1, 1) := dk_10 (dk_at dksX8_laysWall_3 14 rfl rfl)
theorem dX8_laysWall_85 : decode cX8_laysWall 85 = .ok (.land, 1) := dk_127 (dk_at dksX8_laysWall_3 15 rfl rfl)
theorem dX8_laysWall_86 : decode cX8_laysWall 86 = .ok (.lconst 1, 1) := dk_10 (dk_at dksX8_laysWall_3 16 rfl rfl)
theorem dX8_laysWall_87 : decode cX8_laysWall 87 = .ok (.lcmp, 1) := dk_148 (dk_at dksX8_laysWall_3 17 rfl rfl)
theorem dX8_laysWall_88 : decode cX8_laysWall 88 = .ok (.ifCond .ne 6, 3) := dk_154 0 6 (dk_at dksX8_laysWall_3 18 rfl rfl)
theorem dX8_laysWall_91 : decode cX8_laysWall 91 = .ok (.bipush (-3), 2) := dk_16 253 (dk_at dksX8_laysWall_3 21 rfl rfl)
theorem dX8_laysWall_93 : decode cX8_laysWall 93 = .ok (.ireturn, 1) := dk_172 (dk_at dksX8_laysWall_3 23 rfl rfl)
theorem dX8_laysWall_94 : decode cX8_laysWall 94 = .ok (.lload_n 3, 1) := dk_33 (dk_at dksX8_laysWall_4 0 rfl rfl)
theorem dX8_laysWall_95 : decode cX8_laysWall 95 = .ok (.lconst 1, 1) := dk_10 (dk_at dksX8_laysWall_4 1 rfl rfl)
theorem dX8_laysWall_96 : decode cX8_laysWall 96 = .ok (.lload 6, 2) := dk_22 6 (dk_at dksX8_laysWall_4 2 rfl rfl)
theorem dX8_laysWall_98 : decode cX8_laysWall 98 = .ok (.l2i, 1) := dk_136 (dk_at dksX8_laysWall_4 4 rfl rfl)
theorem dX8_laysWall_99 : decode cX8_laysWall 99 = .ok (.lshl, 1) := dk_121 (dk_at dksX8_laysWall_4 5 rfl rfl)
theorem dX8_laysWall_100 : decode cX8_laysWall 100 = .ok (.lor, 1) := dk_129 (dk_at dksX8_laysWall_4 6 rfl rfl)
theorem dX8_laysWall_101 : decode cX8_laysWall 101 = .ok (.lstore_n 3, 1) := dk_66 (dk_at dksX8_laysWall_4 7 rfl rfl)
theorem dX8_laysWall_102 : decode cX8_laysWall 102 = .ok (.aload_n 0, 1) := dk_42 (dk_at dksX8_laysWall_4 8 rfl rfl)
theorem dX8_laysWall_103 : decode cX8_laysWall 103 = .ok (.getfield 74, 3) := dk_180 0 74 (dk_at dksX8_laysWall_4 9 rfl rfl)
theorem dX8_laysWall_106 : decode cX8_laysWall 106 = .ok (.iload 5, 2) := dk_21 5 (dk_at dksX8_laysWall_4 12 rfl rfl)
theorem dX8_laysWall_108 : decode cX8_laysWall 108 = .ok (.lload 6, 2) := dk_22 6 (dk_at dksX8_laysWall_4 14 rfl rfl)
theorem dX8_laysWall_110 : decode cX8_laysWall 110 = .ok (.l2i, 1) := dk_136 (dk_at dksX8_laysWall_4 16 rfl rfl)
theorem dX8_laysWall_111 : decode cX8_laysWall 111 = .ok (.iastore, 1) := dk_79 (dk_at dksX8_laysWall_4 17 rfl rfl)
theorem dX8_laysWall_112 : decode cX8_laysWall 112 = .ok (.iinc 5 1, 3) := dk_132 5 1 (dk_at dksX8_laysWall_4 18 rfl rfl)
theorem dX8_laysWall_115 : decode cX8_laysWall 115 = .ok (.goto (-69), 3) := dk_167 255 187 (dk_at dksX8_laysWall_4 21 rfl rfl)
theorem dX8_laysWall_118 : decode cX8_laysWall 118 = .ok (.iconst 0, 1) := dk_3 (dk_at dksX8_laysWall_5 0 rfl rfl)
theorem dX8_laysWall_119 : decode cX8_laysWall 119 = .ok (.ireturn, 1) := dk_172 (dk_at dksX8_laysWall_5 1 rfl rfl)
abbrev cX8_wallYears : ByteArray := prog_20_method_105_code
def yX8_wallYears : MethodName := ⟨RX8, "wallYears", "(I)I"⟩
def dkwX8_wallYears_2 : List UInt8 := [164, 0, 8, 21, 4, 167, 0, 4, 28, 61, 132, 3, 1, 167, 255, 200, 28, 172]
abbrev dktX8_wallYears_2 : List UInt8 := dkwX8_wallYears_2 ++ []
def dkwX8_wallYears_1 : List UInt8 := [180, 0, 74, 42, 180, 0, 74, 29, 46, 46, 29, 160, 0, 7, 4, 167, 0, 4, 5, 54, 4, 21, 4, 28]
abbrev dktX8_wallYears_1 : List UInt8 := dkwX8_wallYears_1 ++ dktX8_wallYears_2
def dkwX8_wallYears_0 : List UInt8 := [3, 61, 3, 62, 29, 27, 162, 0, 57, 42, 180, 0, 74, 29, 46, 29, 160, 0, 6, 167, 0, 38, 42]
abbrev dktX8_wallYears_0 : List UInt8 := dkwX8_wallYears_0 ++ dktX8_wallYears_1
theorem dksX8_wallYears_0 : cX8_wallYears.data.toList.drop 0 = dktX8_wallYears_0 := by decide +kernel
theorem dksX8_wallYears_1 : cX8_wallYears.data.toList.drop 23 = dktX8_wallYears_1 := dk_seg dksX8_wallYears_0 23 rfl rfl
theorem dksX8_wallYears_2 : cX8_wallYears.data.toList.drop 47 = dktX8_wallYears_2 := dk_seg dksX8_wallYears_1 24 rfl rfl
theorem dX8_wallYears_0 : decode cX8_wallYears 0 = .ok (.iconst 0, 1) := dk_3 (dk_at dksX8_wallYears_0 0 rfl rfl)
theorem dX8_wallYears_1 : decode cX8_wallYears 1 = .ok (.istore_n 2, 1) := dk_61 (dk_at dksX8_wallYears_0 1 rfl rfl)
theorem dX8_wallYears_2 : decode cX8_wallYears 2 = .ok (.iconst 0, 1) := dk_3 (dk_at dksX8_wallYears_0 2 rfl rfl)
theorem dX8_wallYears_3 : decode cX8_wallYears 3 = .ok (.istore_n 3, 1) := dk_62 (dk_at dksX8_wallYears_0 3 rfl rfl)
theorem dX8_wallYears_4 : decode cX8_wallYears 4 = .ok (.iload_n 3, 1) := dk_29 (dk_at dksX8_wallYears_0 4 rfl rfl)
theorem dX8_wallYears_5 : decode cX8_wallYears 5 = .ok (.iload_n 1, 1) := dk_27 (dk_at dksX8_wallYears_0 5 rfl rfl)
theorem dX8_wallYears_6 : decode cX8_wallYears 6 = .ok (.if_icmp .ge 57, 3) := dk_162 0 57 (dk_at dksX8_wallYears_0 6 rfl rfl)
theorem dX8_wallYears_9 : decode cX8_wallYears 9 = .ok (.aload_n 0, 1) := dk_42 (dk_at dksX8_wallYears_0 9 rfl rfl)
theorem dX8_wallYears_10 : decode cX8_wallYears 10 = .ok (.getfield 74, 3) := dk_180 0 74 (dk_at dksX8_wallYears_0 10 rfl rfl)
theorem dX8_wallYears_13 : decode cX8_wallYears 13 = .ok (.iload_n 3, 1) := dk_29 (dk_at dksX8_wallYears_0 13 rfl rfl)
theorem dX8_wallYears_14 : decode cX8_wallYears 14 = .ok (.iaload, 1) := dk_46 (dk_at dksX8_wallYears_0 14 rfl rfl)
theorem dX8_wallYears_15 : decode cX8_wallYears 15 = .ok (.iload_n 3, 1) := dk_29 (dk_at dksX8_wallYears_0 15 rfl rfl)
theorem dX8_wallYears_16 : decode cX8_wallYears 16 = .ok (.if_icmp .ne 6, 3) := dk_160 0 6 (dk_at dksX8_wallYears_0 16 rfl rfl)
theorem dX8_wallYears_19 : decode cX8_wallYears 19 = .ok (.goto 38, 3) := dk_167 0 38 (dk_at dksX8_wallYears_0 19 rfl rfl)
theorem dX8_wallYears_22 : decode cX8_wallYears 22 = .ok (.aload_n 0, 1) := dk_42 (dk_at dksX8_wallYears_0 22 rfl rfl)
theorem dX8_wallYears_23 : decode cX8_wallYears 23 = .ok (.getfield 74, 3) := dk_180 0 74 (dk_at dksX8_wallYears_1 0 rfl rfl)
theorem dX8_wallYears_26 : decode cX8_wallYears 26 = .ok (.aload_n 0, 1) := dk_42 (dk_at dksX8_wallYears_1 3 rfl rfl)
theorem dX8_wallYears_27 : decode cX8_wallYears 27 = .ok (.getfield 74, 3) := dk_180 0 74 (dk_at dksX8_wallYears_1 4 rfl rfl)
theorem dX8_wallYears_30 : decode cX8_wallYears 30 = .ok (.iload_n 3, 1) := dk_29 (dk_at dksX8_wallYears_1 7 rfl rfl)
theorem dX8_wallYears_31 : decode cX8_wallYears 31 = .ok (.iaload, 1) := dk_46 (dk_at dksX8_wallYears_1 8 rfl rfl)
theorem dX8_wallYears_32 : decode cX8_wallYears 32 = .ok (.iaload, 1) := dk_46 (dk_at dksX8_wallYears_1 9 rfl rfl)
theorem dX8_wallYears_33 : decode cX8_wallYears 33 = .ok (.iload_n 3, 1) := dk_29 (dk_at dksX8_wallYears_1 10 rfl rfl)
theorem dX8_wallYears_34 : decode cX8_wallYears 34 = .ok (.if_icmp .ne 7, 3) := dk_160 0 7 (dk_at dksX8_wallYears_1 11 rfl rfl)
theorem dX8_wallYears_37 : decode cX8_wallYears 37 = .ok (.iconst 1, 1) := dk_4 (dk_at dksX8_wallYears_1 14 rfl rfl)
theorem dX8_wallYears_38 : decode cX8_wallYears 38 = .ok (.goto 4, 3) := dk_167 0 4 (dk_at dksX8_wallYears_1 15 rfl rfl)
theorem dX8_wallYears_41 : decode cX8_wallYears 41 = .ok (.iconst 2, 1) := dk_5 (dk_at dksX8_wallYears_1 18 rfl rfl)
theorem dX8_wallYears_42 : decode cX8_wallYears 42 = .ok (.istore 4, 2) := dk_54 4 (dk_at dksX8_wallYears_1 19 rfl rfl)
theorem dX8_wallYears_44 : decode cX8_wallYears 44 = .ok (.iload 4, 2) := dk_21 4 (dk_at dksX8_wallYears_1 21 rfl rfl)
theorem dX8_wallYears_46 : decode cX8_wallYears 46 = .ok (.iload_n 2, 1) := dk_28 (dk_at dksX8_wallYears_1 23 rfl rfl)
theorem dX8_wallYears_47 : decode cX8_wallYears 47 = .ok (.if_icmp .le 8, 3) := dk_164 0 8 (dk_at dksX8_wallYears_2 0 rfl rfl)
theorem dX8_wallYears_50 : decode cX8_wallYears 50 = .ok (.iload 4, 2) := dk_21 4 (dk_at dksX8_wallYears_2 3 rfl rfl)
theorem dX8_wallYears_52 : decode cX8_wallYears 52 = .ok (.goto 4, 3) := dk_167 0 4 (dk_at dksX8_wallYears_2 5 rfl rfl)
theorem dX8_wallYears_55 : decode cX8_wallYears 55 = .ok (.iload_n 2, 1) := dk_28 (dk_at dksX8_wallYears_2 8 rfl rfl)
theorem dX8_wallYears_56 : decode cX8_wallYears 56 = .ok (.istore_n 2, 1) := dk_61 (dk_at dksX8_wallYears_2 9 rfl rfl)
theorem dX8_wallYears_57 : decode cX8_wallYears 57 = .ok (.iinc 3 1, 3) := dk_132 3 1 (dk_at dksX8_wallYears_2 10 rfl rfl)
theorem dX8_wallYears_60 : decode cX8_wallYears 60 = .ok (.goto (-56), 3) := dk_167 255 200 (dk_at dksX8_wallYears_2 13 rfl rfl)
theorem dX8_wallYears_63 : decode cX8_wallYears 63 = .ok (.iload_n 2, 1) := dk_28 (dk_at dksX8_wallYears_2 16 rfl rfl)
theorem dX8_wallYears_64 : decode cX8_wallYears 64 = .ok (.ireturn, 1) := dk_172 (dk_at dksX8_wallYears_2 17 rfl rfl)
abbrev cX8_partner : ByteArray := prog_20_method_107_code
def yX8_partner : MethodName := ⟨RX8, "partner", "(IIII)I"⟩
def dkwX8_partner_11 : List UInt8 := [54, 11, 132, 12, 1, 167, 255, 237, 21, 11, 21, 4, 160, 0, 7, 2, 167, 0, 5, 21, 11, 172]
abbrev dktX8_partner_11 : List UInt8 := dkwX8_partner_11 ++ []
def dkwX8_partner_10 : List UInt8 := [112, 54, 10, 21, 7, 54, 11, 3, 54, 12, 21, 12, 21, 10, 162, 0, 18, 42, 180, 0, 74, 21, 11, 46]
abbrev dktX8_partner_10 : List UInt8 := dkwX8_partner_10 ++ dktX8_partner_11
def dkwX8_partner_9 : List UInt8 := [154, 0, 7, 3, 167, 0, 21, 21, 8, 21, 9, 100, 167, 0, 13, 4, 21, 9, 100, 21, 8, 96, 21, 8]
abbrev dktX8_partner_9 : List UInt8 := dkwX8_partner_9 ++ dktX8_partner_10
def dkwX8_partner_8 : List UInt8 := [132, 8, 1, 42, 180, 0, 74, 21, 10, 46, 54, 10, 167, 255, 221, 29, 4, 160, 0, 20, 21, 9]
abbrev dktX8_partner_8 : List UInt8 := dkwX8_partner_8 ++ dktX8_partner_9
def dkwX8_partner_7 : List UInt8 := [21, 10, 21, 7, 159, 0, 34, 21, 10, 21, 4, 160, 0, 8, 21, 8, 167, 0, 5, 21, 9, 54, 9]
abbrev dktX8_partner_7 : List UInt8 := dkwX8_partner_7 ++ dktX8_partner_8
def dkwX8_partner_6 : List UInt8 := [21, 8, 46, 54, 8, 167, 255, 224, 4, 54, 8, 3, 54, 9, 42, 180, 0, 74, 21, 7, 46, 54, 10]
abbrev dktX8_partner_6 : List UInt8 := dkwX8_partner_6 ++ dktX8_partner_7
def dkwX8_partner_5 : List UInt8 := [159, 0, 31, 21, 8, 21, 7, 162, 0, 8, 21, 8, 167, 0, 5, 21, 7, 54, 7, 42, 180, 0, 74]
abbrev dktX8_partner_5 : List UInt8 := dkwX8_partner_5 ++ dktX8_partner_6
def dkwX8_partner_4 : List UInt8 := [180, 0, 74, 21, 4, 46, 172, 21, 4, 54, 7, 42, 180, 0, 74, 21, 4, 46, 54, 8, 21, 8, 21, 4]
abbrev dktX8_partner_4 : List UInt8 := dkwX8_partner_4 ++ dktX8_partner_5
def dkwX8_partner_3 : List UInt8 := [163, 0, 15, 42, 180, 0, 74, 21, 4, 46, 21, 4, 160, 0, 5, 2, 172, 21, 6, 4, 160, 0, 11, 42]
abbrev dktX8_partner_3 : List UInt8 := dkwX8_partner_3 ++ dktX8_partner_4
def dkwX8_partner_2 : List UInt8 := [182, 1, 174, 54, 5, 21, 5, 153, 0, 6, 21, 5, 172, 42, 28, 182, 1, 177, 54, 6, 29, 21, 6]
abbrev dktX8_partner_2 : List UInt8 := dkwX8_partner_2 ++ dktX8_partner_3
def dkwX8_partner_1 : List UInt8 := [184, 0, 153, 153, 0, 14, 21, 4, 155, 0, 9, 21, 4, 28, 161, 0, 6, 16, 254, 172, 42, 27, 28]
abbrev dktX8_partner_1 : List UInt8 := dkwX8_partner_1 ++ dktX8_partner_2
def dkwX8_partner_0 : List UInt8 := [42, 3, 181, 0, 1, 27, 133, 9, 20, 1, 63, 184, 0, 153, 153, 0, 26, 29, 133, 10, 20, 1, 167]
abbrev dktX8_partner_0 : List UInt8 := dkwX8_partner_0 ++ dktX8_partner_1
theorem dksX8_partner_0 : cX8_partner.data.toList.drop 0 = dktX8_partner_0 := by decide +kernel
theorem dksX8_partner_1 : cX8_partner.data.toList.drop 23 = dktX8_partner_1 := dk_seg dksX8_partner_0 23 rfl rfl
theorem dksX8_partner_2 : cX8_partner.data.toList.drop 46 = dktX8_partner_2 := dk_seg dksX8_partner_1 23 rfl rfl
theorem dksX8_partner_3 : cX8_partner.data.toList.drop 69 = dktX8_partner_3 := dk_seg dksX8_partner_2 23 rfl rfl
theorem dksX8_partner_4 : cX8_partner.data.toList.drop 93 = dktX8_partner_4 := dk_seg dksX8_partner_3 24 rfl rfl
theorem dksX8_partner_5 : cX8_partner.data.toList.drop 117 = dktX8_partner_5 := dk_seg dksX8_partner_4 24 rfl rfl
theorem dksX8_partner_6 : cX8_partner.data.toList.drop 140 = dktX8_partner_6 := dk_seg dksX8_partner_5 23 rfl rfl
theorem dksX8_partner_7 : cX8_partner.data.toList.drop 163 = dktX8_partner_7 := dk_seg dksX8_partner_6 23 rfl rfl
theorem dksX8_partner_8 : cX8_partner.data.toList.drop 186 = dktX8_partner_8 := dk_seg dksX8_partner_7 23 rfl rfl
theorem dksX8_partner_9 : cX8_partner.data.toList.drop 208 = dktX8_partner_9 := dk_seg dksX8_partner_8 22 rfl rfl
theorem dksX8_partner_10 : cX8_partner.data.toList.drop 232 = dktX8_partner_10 := dk_seg dksX8_partner_9 24 rfl rfl
theorem dksX8_partner_11 : cX8_partner.data.toList.drop 256 = dktX8_partner_11 := dk_seg dksX8_partner_10 24 rfl rfl
theorem dX8_partner_0 : decode cX8_partner 0 = .ok (.aload_n 0, 1) := dk_42 (dk_at dksX8_partner_0 0 rfl rfl)
theorem dX8_partner_1 : decode cX8_partner 1 = .ok (.iconst 0, 1) := dk_3 (dk_at dksX8_partner_0 1 rfl rfl)
theorem dX8_partner_2 : decode cX8_partner 2 = .ok (.putfield 1, 3) := dk_181 0 1 (dk_at dksX8_partner_0 2 rfl rfl)
theorem dX8_partner_5 : decode cX8_partner 5 = .ok (.iload_n 1, 1) := dk_27 (dk_at dksX8_partner_0 5 rfl rfl)
theorem dX8_partner_6 : decode cX8_partner 6 = .ok (.i2l, 1) := dk_133 (dk_at dksX8_partner_0 6 rfl rfl)
theorem dX8_partner_7 : decode cX8_partner 7 = .ok (.lconst 0, 1) := dk_9 (dk_at dksX8_partner_0 7 rfl rfl)
theorem dX8_partner_8 : decode cX8_partner 8 = .ok (.ldc2_w 319, 3) := dk_20 1 63 (dk_at dksX8_partner_0 8 rfl rfl)
theorem dX8_partner_11 : decode cX8_partner 11 = .ok (.invokestatic 153, 3) := dk_184 0 153 (dk_at dksX8_partner_0 11 rfl rfl)
theorem dX8_partner_14 : decode cX8_partner 14 = .ok (.ifCond .eq 26, 3) := dk_153 0 26 (dk_at dksX8_partner_0 14 rfl rfl)
theorem dX8_partner_17 : decode cX8_partner 17 = .ok (.iload_n 3, 1) := dk_29 (dk_at dksX8_partner_0 17 rfl rfl)
theorem dX8_partner_18 : decode cX8_partner 18 = .ok (.i2l, 1) := dk_133 (dk_at dksX8_partner_0 18 rfl rfl)
theorem dX8_partner_19 : decode cX8_partner 19 = .ok (.lconst 1, 1) := dk_10 (dk_at dksX8_partner_0 19 rfl rfl)
theorem dX8_partner_20 : decode cX8_partner 20 = .ok (.ldc2_w 423, 3) := dk_20 1 167 (dk_at dksX8_partner_0 20 rfl rfl)
theorem dX8_partner_23 : decode cX8_partner 23 = .ok (.invokestatic 153, 3) := dk_184 0 153 (dk_at dksX8_partner_1 0 rfl rfl)
theorem dX8_partner_26 : decode cX8_partner 26 = .ok (.ifCond .eq 14, 3) := dk_153 0 14 (dk_at dksX8_partner_1 3 rfl rfl)
theorem dX8_partner_29 : decode cX8_partner 29 = .ok (.iload 4, 2) := dk_21 4 (dk_at dksX8_partner_1 6 rfl rfl)
theorem dX8_partner_31 : decode cX8_partner 31 = .ok (.ifCond .lt 9, 3) := dk_155 0 9 (dk_at dksX8_partner_1 8 rfl rfl)
theorem dX8_partner_34 : decode cX8_partner 34 = .ok (.iload 4, 2) := dk_21 4 (dk_at dksX8_partner_1 11 rfl rfl)
theorem dX8_partner_36 : decode cX8_partner 36 = .ok (.iload_n 2, 1) := dk_28 (dk_at dksX8_partner_1 13 rfl rfl)
theorem dX8_partner_37 : decode cX8_partner 37 = .ok (.if_icmp .lt 6, 3) := dk_161 0 6 (dk_at dksX8_partner_1 14 rfl rfl)
theorem dX8_partner_40 : decode cX8_partner 40 = .ok (.bipush (-2), 2) := dk_16 254 (dk_at dksX8_partner_1 17 rfl rfl)
theorem dX8_partner_42 : decode cX8_partner 42 = .ok (.ireturn, 1) := dk_172 (dk_at dksX8_partner_1 19 rfl rfl)
theorem dX8_partner_43 : decode cX8_partner 43 = .ok (.aload_n 0, 1) := dk_42 (dk_at dksX8_partner_1 20 rfl rfl)
theorem dX8_partner_44 : decode cX8_partner 44 = .ok (.iload_n 1, 1) := dk_27 (dk_at dksX8_partner_1 21 rfl rfl)
theorem dX8_partner_45 : decode cX8_partner 45 = .ok (.iload_n 2, 1) := dk_28 (dk_at dksX8_partner_1 22 rfl rfl)
theorem dX8_partner_46 : decode cX8_partner 46 = .ok (.invokevirtual 430, 3) := dk_182 1 174 (dk_at dksX8_partner_2 0 rfl rfl)
theorem dX8_partner_49 : decode cX8_partner 49 = .ok (.istore 5, 2) := dk_54 5 (dk_at dksX8_partner_2 3 rfl rfl)
theorem dX8_partner_51 : decode cX8_partner 51 = .ok (.iload 5, 2) := dk_21 5 (dk_at dksX8_partner_2 5 rfl rfl)
theorem dX8_partner_53 : decode cX8_partner 53 = .ok (.ifCond .eq 6, 3) := dk_153 0 6 (dk_at dksX8_partner_2 7 rfl rfl)
theorem dX8_partner_56 : decode cX8_partner 56 = .ok (.iload 5, 2) := dk_21 5 (dk_at dksX8_partner_2 10 rfl rfl)
theorem dX8_partner_58 : decode cX8_partner 58 = .ok (.ireturn, 1) := dk_172 (dk_at dksX8_partner_2 12 rfl rfl)
theorem dX8_partner_59 : decode cX8_partner 59 = .ok (.aload_n 0, 1) := dk_42 (dk_at dksX8_partner_2 13 rfl rfl)
theorem dX8_partner_60 : decode cX8_partner 60 = .ok (.iload_n 2, 1) := dk_28 (dk_at dksX8_partner_2 14 rfl rfl)
theorem dX8_partner_61 : decode cX8_partner 61 = .ok (.invokevirtual 433, 3) := dk_182 1 177 (dk_at dksX8_partner_2 15 rfl rfl)
theorem dX8_partner_64 : decode cX8_partner 64 = .ok (.istore 6, 2) := dk_54 6 (dk_at dksX8_partner_2 18 rfl rfl)
theorem dX8_partner_66 : decode cX8_partner 66 = .ok (.iload_n 3, 1) := dk_29 (dk_at dksX8_partner_2 20 rfl rfl)
theorem dX8_partner_67 : decode cX8_partner 67 = .ok (.iload 6, 2) := dk_21 6 (dk_at dksX8_partner_2 21 rfl rfl)
theorem dX8_partner_69 : decode cX8_partner 69 = .ok (.if_icmp .gt 15, 3) := dk_163 0 15 (dk_at dksX8_partner_3 0 rfl rfl)
theorem dX8_partner_72 : decode cX8_partner 72 = .ok (.aload_n 0, 1) := dk_42 (dk_at dksX8_partner_3 3 rfl rfl)
theorem dX8_partner_73 : decode cX8_partner 73 = .ok (.getfield 74, 3) := dk_180 0 74 (dk_at dksX8_partner_3 4 rfl rfl)
theorem dX8_partner_76 : decode cX8_partner 76 = .ok (.iload 4, 2) := dk_21 4 (dk_at dksX8_partner_3 7 rfl rfl)
theorem dX8_partner_78 : decode cX8_partner 78 = .ok (.iaload, 1) := dk_46 (dk_at dksX8_partner_3 9 rfl rfl)
theorem dX8_partner_79 : decode cX8_partner 79 = .ok (.iload 4, 2) := dk_21 4 (dk_at dksX8_partner_3 10 rfl rfl)
theorem dX8_partner_81 : decode cX8_partner 81 = .ok (.if_icmp .ne 5, 3) := dk_160 0 5 (dk_at dksX8_partner_3 12 rfl rfl)
theorem dX8_partner_84 : decode cX8_partner 84 = .ok (.iconst (-1), 1) := dk_2 (dk_at dksX8_partner_3 15 rfl rfl)
theorem dX8_partner_85 : decode cX8_partner 85 = .ok (.ireturn, 1) := dk_172 (dk_at dksX8_partner_3 16 rfl rfl)
theorem dX8_partner_86 : decode cX8_partner 86 = .ok (.iload 6, 2) := dk_21 6 (dk_at dksX8_partner_3 17 rfl rfl)
theorem dX8_partner_88 : decode cX8_partner 88 = .ok (.iconst 1, 1) := dk_4 (dk_at dksX8_partner_3 19 rfl rfl)
theorem dX8_partner_89 : decode cX8_partner 89 = .ok (.if_icmp .ne 11, 3) := dk_160 0 11 (dk_at dksX8_partner_3 20 rfl rfl)
theorem dX8_partner_92 : decode cX8_partner 92 = .ok (.aload_n 0, 1) := dk_42 (dk_at dksX8_partner_3 23 rfl rfl)
theorem dX8_partner_93 : decode cX8_partner 93 = .ok (.getfield 74, 3) := dk_180 0 74 (dk_at dksX8_partner_4 0 rfl rfl)
theorem dX8_partner_96 : decode cX8_partner 96 = .ok (.iload 4, 2) := dk_21 4 (dk_at dksX8_partner_4 3 rfl rfl)
theorem dX8_partner_98 : decode cX8_partner 98 = .ok (.iaload, 1) := dk_46 (dk_at dksX8_partner_4 5 rfl rfl)
theorem dX8_partner_99 : decode cX8_partner 99 = .ok (.ireturn, 1) := dk_172 (dk_at dksX8_partner_4 6 rfl rfl)
theorem dX8_partner_100 : decode cX8_partner 100 = .ok (.iload 4, 2) := dk_21 4 (dk_at dksX8_partner_4 7 rfl rfl)
theorem dX8_partner_102 : decode cX8_partner 102 = .ok (.istore 7, 2) := dk_54 7 (dk_at dksX8_partner_4 9 rfl rfl)
theorem dX8_partner_104 : decode cX8_partner 104 = .ok (.aload_n 0, 1) := dk_42 (dk_at dksX8_partner_4 11 rfl rfl)
theorem dX8_partner_105 : decode cX8_partner 105 = .ok (.getfield 74, 3) := dk_180 0 74 (dk_at dksX8_partner_4 12 rfl rfl)
theorem dX8_partner_108 : decode cX8_partner 108 = .ok (.iload 4, 2) := dk_21 4 (dk_at dksX8_partner_4 15 rfl rfl)
theorem dX8_partner_110 : decode cX8_partner 110 = .ok (.iaload, 1) := dk_46 (dk_at dksX8_partner_4 17 rfl rfl)
theorem dX8_partner_111 : decode cX8_partner 111 = .ok (.istore 8, 2) := dk_54 8 (dk_at dksX8_partner_4 18 rfl rfl)
theorem dX8_partner_113 : decode cX8_partner 113 = .ok (.iload 8, 2) := dk_21 8 (dk_at dksX8_partner_4 20 rfl rfl)
theorem dX8_partner_115 : decode cX8_partner 115 = .ok (.iload 4, 2) := dk_21 4 (dk_at dksX8_partner_4 22 rfl rfl)
theorem dX8_partner_117 : decode cX8_partner 117 = .ok (.if_icmp .eq 31, 3) := dk_159 0 31 (dk_at dksX8_partner_5 0 rfl rfl)
theorem dX8_partner_120 : decode cX8_partner 120 = .ok (.iload 8, 2) := dk_21 8 (dk_at dksX8_partner_5 3 rfl rfl)
theorem dX8_partner_122 : decode cX8_partner 122 = .ok (.iload 7, 2) := dk_21 7 (dk_at dksX8_partner_5 5 rfl rfl)
theorem dX8_partner_124 : decode cX8_partner 124 = .ok (.if_icmp .ge 8, 3) := dk_162 0 8 (dk_at dksX8_partner_5 7 rfl rfl)
theorem dX8_partner_127 : decode cX8_partner 127 = .ok (.iload 8, 2) := dk_21 8 (dk_at dksX8_partner_5 10 rfl rfl)
theorem dX8_partner_129 : decode cX8_partner 129 = .ok (.goto 5, 3) := dk_167 0 5 (dk_at dksX8_partner_5 12 rfl rfl)
theorem dX8_partner_132 : decode cX8_partner 132 = .ok (.iload 7, 2) := dk_21 7 (dk_at dksX8_partner_5 15 rfl rfl)
theorem dX8_partner_134 : decode cX8_partner 134 = .ok (.istore 7, 2) := dk_54 7 (dk_at dksX8_partner_5 17 rfl rfl)
theorem dX8_partner_136 : decode cX8_partner 136 = .ok (.aload_n 0, 1) := dk_42 (dk_at dksX8_partner_5 19 rfl rfl)
theorem dX8_partner_137 : decode cX8_partner 137 = .ok (.getfield 74, 3) := dk_180 0 74 (dk_at dksX8_partner_5 20 rfl rfl)
theorem dX8_partner_140 : decode cX8_partner 140 = .ok (.iload 8, 2) := dk_21 8 (dk_at dksX8_partner_6 0 rfl rfl)
theorem dX8_partner_142 : decode cX8_partner 142 = .ok (.iaload, 1) := dk_46 (dk_at dksX8_partner_6 2 rfl rfl)
theorem dX8_partner_143 : decode cX8_partner 143 = .ok (.istore 8, 2) := dk_54 8 (dk_at dksX8_partner_6 3 rfl rfl)
theorem dX8_partner_145 : decode cX8_partner 145 = .ok (.goto (-32), 3) := dk_167 255 224 (dk_at dksX8_partner_6 5 rfl rfl)
theorem dX8_partner_148 : decode cX8_partner 148 = .ok (.iconst 1, 1) := dk_4 (dk_at dksX8_partner_6 8 rfl rfl)
theorem dX8_partner_149 : decode cX8_partner 149 = .ok (.istore 8, 2) := dk_54 8 (dk_at dksX8_partner_6 9 rfl rfl)
theorem dX8_partner_151 : decode cX8_partner 151 = .ok (.iconst 0, 1) := dk_3 (dk_at dksX8_partner_6 11 rfl rfl)
theorem dX8_partner_152 : decode cX8_partner 152 = .ok (.istore 9, 2) := dk_54 9 (dk_at dksX8_partner_6 12 rfl rfl)
theorem dX8_partner_154 : decode cX8_partner 154 = .ok (.aload_n 0, 1) := dk_42 (dk_at dksX8_partner_6 14 rfl rfl)
theorem dX8_partner_155 : decode cX8_partner 155 = .ok (.getfield 74, 3) := dk_180 0 74 (dk_at dksX8_partner_6 15 rfl rfl)
theorem dX8_partner_158 : decode cX8_partner 158 = .ok (.iload 7, 2) := dk_21 7 (dk_at dksX8_partner_6 18 rfl rfl)
theorem dX8_partner_160 : decode cX8_partner 160 = .ok (.iaload, 1) := dk_46 (dk_at dksX8_partner_6 20 rfl rfl)
theorem dX8_partner_161 : decode cX8_partner 161 = .ok (.istore 10, 2) := dk_54 10 (dk_at dksX8_partner_6 21 rfl rfl)
theorem dX8_partner_163 : decode cX8_partner 163 = .ok (.iload 10, 2) := dk_21 10 (dk_at dksX8_partner_7 0 rfl rfl)
theorem dX8_partner_165 : decode cX8_partner 165 = .ok (.iload 7, 2) := dk_21 7 (dk_at dksX8_partner_7 2 rfl rfl)
theorem dX8_partner_167 : decode cX8_partner 167 = .ok (.if_icmp .eq 34, 3) := dk_159 0 34 (dk_at dksX8_partner_7 4 rfl rfl)
theorem dX8_partner_170 : decode cX8_partner 170 = .ok (.iload 10, 2) := dk_21 10 (dk_at dksX8_partner_7 7 rfl rfl)
theorem dX8_partner_172 : decode cX8_partner 172 = .ok (.iload 4, 2) := dk_21 4 (dk_at dksX8_partner_7 9 rfl rfl)
theorem dX8_partner_174 : decode cX8_partner 174 = .ok (.if_icmp .ne 8, 3) := dk_160 0 8 (dk_at dksX8_partner_7 11 rfl rfl)
theorem dX8_partner_177 : decode cX8_partner 177 = .ok (.iload 8, 2) := dk_21 8 (dk_at dksX8_partner_7 14 rfl rfl)
theorem dX8_partner_179 : decode cX8_partner 179 = .ok (.goto 5, 3) := dk_167 0 5 (dk_at dksX8_partner_7 16 rfl rfl)
theorem dX8_partner_182 : decode cX8_partner 182 = .ok (.iload 9, 2) := dk_21 9 (dk_at dksX8_partner_7 19 rfl rfl)
theorem dX8_partner_184 : decode cX8_partner 184 = .ok (.istore 9, 2) := dk_54 9 (dk_at dksX8_partner_7 21 rfl rfl)
theorem dX8_partner_186 : decode cX8_partner 186 = .ok (.iinc 8 1, 3) := dk_132 8 1 (dk_at dksX8_partner_8 0 rfl rfl)
theorem dX8_partner_189 : decode cX8_partner 189 = .ok (.aload_n 0, 1) := dk_42 (dk_at dksX8_partner_8 3 rfl rfl)
theorem dX8_partner_190 : decode cX8_partner 190 = .ok (.getfield 74, 3) := dk_180 0 74 (dk_at dksX8_partner_8 4 rfl rfl)
theorem dX8_partner_193 : decode cX8_partner 193 = .ok (.iload 10, 2) := dk_21 10 (dk_at dksX8_partner_8 7 rfl rfl)
theorem dX8_partner_195 : decode cX8_partner 195 = .ok (.iaload, 1) := dk_46 (dk_at dksX8_partner_8 9 rfl rfl)
theorem dX8_partner_196 : decode cX8_partner 196 = .ok (.istore 10, 2) := dk_54 10 (dk_at dksX8_partner_8 10 rfl rfl)
theorem dX8_partner_198 : decode cX8_partner 198 = .ok (.goto (-35), 3) := dk_167 255 221 (dk_at dksX8_partner_8 12 rfl rfl)
theorem dX8_partner_201 : decode cX8_partner 201 = .ok (.iload_n 3, 1) := dk_29 (dk_at dksX8_partner_8 15 rfl rfl)
theorem dX8_partner_202 : decode cX8_partner 202 = .ok (.iconst 1, 1) := dk_4 (dk_at dksX8_partner_8 16 rfl rfl)
theorem dX8_partner_203 : decode cX8_partner 203 = .ok (.if_icmp .ne 20, 3) := dk_160 0 20 (dk_at dksX8_partner_8 17 rfl rfl)
theorem dX8_partner_206 : decode cX8_partner 206 = .ok (.iload 9, 2) := dk_21 9 (dk_at dksX8_partner_8 20 rfl rfl)
theorem dX8_partner_208 : decode cX8_partner 208 = .ok (.ifCond .ne 7, 3) := dk_154 0 7 (dk_at dksX8_partner_9 0 rfl rfl)
theorem dX8_partner_211 : decode cX8_partner 211 = .ok (.iconst 0, 1) := dk_3 (dk_at dksX8_partner_9 3 rfl rfl)
theorem dX8_partner_212 : decode cX8_partner 212 = .ok (.goto 21, 3) := dk_167 0 21 (dk_at dksX8_partner_9 4 rfl rfl)
theorem dX8_partner_215 : decode cX8_partner 215 = .ok (.iload 8, 2) := dk_21 8 (dk_at dksX8_partner_9 7 rfl rfl)
theorem dX8_partner_217 : decode cX8_partner 217 = .ok (.iload 9, 2) := dk_21 9 (dk_at dksX8_partner_9 9 rfl rfl)
theorem dX8_partner_219 : decode cX8_partner 219 = .ok (.isub, 1) := dk_100 (dk_at dksX8_partner_9 11 rfl rfl)
theorem dX8_partner_220 : decode cX8_partner 220 = .ok (.goto 13, 3) := dk_167 0 13 (dk_at dksX8_partner_9 12 rfl rfl)
theorem dX8_partner_223 : decode cX8_partner 223 = .ok (.iconst 1, 1) := dk_4 (dk_at dksX8_partner_9 15 rfl rfl)
theorem dX8_partner_224 : decode cX8_partner 224 = .ok (.iload 9, 2) := dk_21 9 (dk_at dksX8_partner_9 16 rfl rfl)
theorem dX8_partner_226 : decode cX8_partner 226 = .ok (.isub, 1) := dk_100 (dk_at dksX8_partner_9 18 rfl rfl)
theorem dX8_partner_227 : decode cX8_partner 227 = .ok (.iload 8, 2) := dk_21 8 (dk_at dksX8_partner_9 19 rfl rfl)
theorem dX8_partner_229 : decode cX8_partner 229 = .ok (.iadd, 1) := dk_96 (dk_at dksX8_partner_9 21 rfl rfl)
theorem dX8_partner_230 : decode cX8_partner 230 = .ok (.iload 8, 2) := dk_21 8 (dk_at dksX8_partner_9 22 rfl rfl)
theorem dX8_partner_232 : decode cX8_partner 232 = .ok (.irem, 1) := dk_112 (dk_at dksX8_partner_10 0 rfl rfl)
theorem dX8_partner_233 : decode cX8_partner 233 = .ok (.istore 10, 2) := dk_54 10 (dk_at dksX8_partner_10 1 rfl rfl)
theorem dX8_partner_235 : decode cX8_partner 235 = .ok (.iload 7, 2) := dk_21 7 (dk_at dksX8_partner_10 3 rfl rfl)
theorem dX8_partner_237 : decode cX8_partner 237 = .ok (.istore 11, 2) := dk_54 11 (dk_at dksX8_partner_10 5 rfl rfl)
theorem dX8_partner_239 : decode cX8_partner 239 = .ok (.iconst 0, 1) := dk_3 (dk_at dksX8_partner_10 7 rfl rfl)
theorem dX8_partner_240 : decode cX8_partner 240 = .ok (.istore 12, 2) := dk_54 12 (dk_at dksX8_partner_10 8 rfl rfl)
theorem dX8_partner_242 : decode cX8_partner 242 = .ok (.iload 12, 2) := dk_21 12 (dk_at dksX8_partner_10 10 rfl rfl)
theorem dX8_partner_244 : decode cX8_partner 244 = .ok (.iload 10, 2) := dk_21 10 (dk_at dksX8_partner_10 12 rfl rfl)
theorem dX8_partner_246 : decode cX8_partner 246 = .ok (.if_icmp .ge 18, 3) := dk_162 0 18 (dk_at dksX8_partner_10 14 rfl rfl)
theorem dX8_partner_249 : decode cX8_partner 249 = .ok (.aload_n 0, 1) := dk_42 (dk_at dksX8_partner_10 17 rfl rfl)
theorem dX8_partner_250 : decode cX8_partner 250 = .ok (.getfield 74, 3) := dk_180 0 74 (dk_at dksX8_partner_10 18 rfl rfl)
theorem dX8_partner_253 : decode cX8_partner 253 = .ok (.iload 11, 2) := dk_21 11 (dk_at dksX8_partner_10 21 rfl rfl)
theorem dX8_partner_255 : decode cX8_partner 255 = .ok (.iaload, 1) := dk_46 (dk_at dksX8_partner_10 23 rfl rfl)
theorem dX8_partner_256 : decode cX8_partner 256 = .ok (.istore 11, 2) := dk_54 11 (dk_at dksX8_partner_11 0 rfl rfl)
theorem dX8_partner_258 : decode cX8_partner 258 = .ok (.iinc 12 1, 3) := dk_132 12 1 (dk_at dksX8_partner_11 2 rfl rfl)
theorem dX8_partner_261 : decode cX8_partner 261 = .ok (.goto (-19), 3) := dk_167 255 237 (dk_at dksX8_partner_11 5 rfl rfl)
theorem dX8_partner_264 : decode cX8_partner 264 = .ok (.iload 11, 2) := dk_21 11 (dk_at dksX8_partner_11 8 rfl rfl)
theorem dX8_partner_266 : decode cX8_partner 266 = .ok (.iload 4, 2) := dk_21 4 (dk_at dksX8_partner_11 10 rfl rfl)
theorem dX8_partner_268 : decode cX8_partner 268 = .ok (.if_icmp .ne 7, 3) := dk_160 0 7 (dk_at dksX8_partner_11 12 rfl rfl)
theorem dX8_partner_271 : decode cX8_partner 271 = .ok (.iconst (-1), 1) := dk_2 (dk_at dksX8_partner_11 15 rfl rfl)
theorem dX8_partner_272 : decode cX8_partner 272 = .ok (.goto 5, 3) := dk_167 0 5 (dk_at dksX8_partner_11 16 rfl rfl)
theorem dX8_partner_275 : decode cX8_partner 275 = .ok (.iload 11, 2) := dk_21 11 (dk_at dksX8_partner_11 19 rfl rfl)
theorem dX8_partner_277 : decode cX8_partner 277 = .ok (.ireturn, 1) := dk_172 (dk_at dksX8_partner_11 21 rfl rfl)
abbrev cX8_threshold : ByteArray := prog_20_method_108_code
def yX8_threshold : MethodName := ⟨RX8, "threshold", "(II)I"⟩
def dkwX8_threshold_4 : List UInt8 := [2, 172, 132, 5, 1, 21, 6, 21, 4, 96, 54, 6, 167, 255, 213, 21, 5, 172]
abbrev dktX8_threshold_4 : List UInt8 := dkwX8_threshold_4 ++ []
def dkwX8_threshold_3 : List UInt8 := [180, 0, 33, 21, 6, 21, 4, 96, 46, 42, 180, 0, 13, 4, 21, 6, 96, 21, 4, 96, 46, 161, 0, 5]
abbrev dktX8_threshold_3 : List UInt8 := dkwX8_threshold_3 ++ dktX8_threshold_4
def dkwX8_threshold_2 : List UInt8 := [162, 0, 7, 4, 167, 0, 4, 2, 54, 4, 3, 54, 5, 29, 54, 6, 21, 6, 28, 159, 0, 43, 42]
abbrev dktX8_threshold_2 : List UInt8 := dkwX8_threshold_2 ++ dktX8_threshold_3
def dkwX8_threshold_1 : List UInt8 := [182, 0, 223, 154, 0, 6, 16, 254, 172, 42, 182, 1, 4, 42, 27, 182, 0, 255, 6, 108, 62, 29, 28]
abbrev dktX8_threshold_1 : List UInt8 := dkwX8_threshold_1 ++ dktX8_threshold_2
def dkwX8_threshold_0 : List UInt8 := [42, 3, 181, 0, 1, 42, 27, 182, 0, 250, 153, 0, 20, 42, 27, 182, 0, 255, 2, 159, 0, 11, 42, 28]
abbrev dktX8_threshold_0 : List UInt8 := dkwX8_threshold_0 ++ dktX8_threshold_1
theorem dksX8_threshold_0 : cX8_threshold.data.toList.drop 0 = dktX8_threshold_0 := by decide +kernel
theorem dksX8_threshold_1 : cX8_threshold.data.toList.drop 24 = dktX8_threshold_1 := dk_seg dksX8_threshold_0 24 rfl rfl
theorem dksX8_threshold_2 : cX8_threshold.data.toList.drop 47 = dktX8_threshold_2 := dk_seg dksX8_threshold_1 23 rfl rfl
theorem dksX8_threshold_3 : cX8_threshold.data.toList.drop 70 = dktX8_threshold_3 := dk_seg dksX8_threshold_2 23 rfl rfl
theorem dksX8_threshold_4 : cX8_threshold.data.toList.drop 94 = dktX8_threshold_4 := dk_seg dksX8_threshold_3 24 rfl rfl
theorem dX8_threshold_0 : decode cX8_threshold 0 = .ok (.aload_n 0, 1) := dk_42 (dk_at dksX8_threshold_0 0 rfl rfl)
theorem dX8_threshold_1 : decode cX8_threshold 1 = .ok (.iconst 0, 1) := dk_3 (dk_at dksX8_threshold_0 1 rfl rfl)
theorem dX8_threshold_2 : decode cX8_threshold 2 = .ok (.putfield 1, 3) := dk_181 0 1 (dk_at dksX8_threshold_0 2 rfl rfl)
theorem dX8_threshold_5 : decode cX8_threshold 5 = .ok (.aload_n 0, 1) := dk_42 (dk_at dksX8_threshold_0 5 rfl rfl)
theorem dX8_threshold_6 : decode cX8_threshold 6 = .ok (.iload_n 1, 1) := dk_27 (dk_at dksX8_threshold_0 6 rfl rfl)
theorem dX8_threshold_7 : decode cX8_threshold 7 = .ok (.invokevirtual 250, 3) := dk_182 0 250 (dk_at dksX8_threshold_0 7 rfl rfl)
theorem dX8_threshold_10 : decode cX8_threshold 10 = .ok (.ifCond .eq 20, 3) := dk_153 0 20 (dk_at dksX8_threshold_0 10 rfl rfl)
theorem dX8_threshold_13 : decode cX8_threshold 13 = .ok (.aload_n 0, 1) := dk_42 (dk_at dksX8_threshold_0 13 rfl rfl)
theorem dX8_threshold_14 : decode cX8_threshold 14 = .ok (.iload_n 1, 1) := dk_27 (dk_at dksX8_threshold_0 14 rfl rfl)
theorem dX8_threshold_15 : decode cX8_threshold 15 = .ok (.invokevirtual 255, 3) := dk_182 0 255 (dk_at dksX8_threshold_0 15 rfl rfl)
theorem dX8_threshold_18 : decode cX8_threshold 18 = .ok (.iconst (-1), 1) := dk_2 (dk_at dksX8_threshold_0 18 rfl rfl)
theorem dX8_threshold_19 : decode cX8_threshold 19 = .ok (.if_icmp .eq 11, 3) := dk_159 0 11 (dk_at dksX8_threshold_0 19 rfl rfl)
theorem dX8_threshold_22 : decode cX8_threshold 22 = .ok (.aload_n 0, 1) := dk_42 (dk_at dksX8_threshold_0 22 rfl rfl)
theorem dX8_threshold_23 : decode cX8_threshold 23 = .ok (.iload_n 2, 1) := dk_28 (dk_at dksX8_threshold_0 23 rfl rfl)
theorem dX8_threshold_24 : decode cX8_threshold 24 = .ok (.invokevirtual 223, 3) := dk_182 0 223 (dk_at dksX8_threshold_1 0 rfl rfl)
theorem dX8_threshold_27 : decode cX8_threshold 27 = .ok (.ifCond .ne 6, 3) := dk_154 0 6 (dk_at dksX8_threshold_1 3 rfl rfl)
theorem dX8_threshold_30 : decode cX8_threshold 30 = .ok (.bipush (-2), 2) := dk_16 254 (dk_at dksX8_threshold_1 6 rfl rfl)
theorem dX8_threshold_32 : decode cX8_threshold 32 = .ok (.ireturn, 1) := dk_172 (dk_at dksX8_threshold_1 8 rfl rfl)
theorem dX8_threshold_33 : decode cX8_threshold 33 = .ok (.aload_n 0, 1) := dk_42 (dk_at dksX8_threshold_1 9 rfl rfl)
theorem dX8_threshold_34 : decode cX8_threshold 34 = .ok (.invokevirtual 260, 3) := dk_182 1 4 (dk_at dksX8_threshold_1 10 rfl rfl)
theorem dX8_threshold_37 : decode cX8_threshold 37 = .ok (.aload_n 0, 1) := dk_42 (dk_at dksX8_threshold_1 13 rfl rfl)
theorem dX8_threshold_38 : decode cX8_threshold 38 = .ok (.iload_n 1, 1) := dk_27 (dk_at dksX8_threshold_1 14 rfl rfl)
theorem dX8_threshold_39 : decode cX8_threshold 39 = .ok (.invokevirtual 255, 3) := dk_182 0 255 (dk_at dksX8_threshold_1 15 rfl rfl)
theorem dX8_threshold_42 : decode cX8_threshold 42 = .ok (.iconst 3, 1) := dk_6 (dk_at dksX8_threshold_1 18 rfl rfl)
theorem dX8_threshold_43 : decode cX8_threshold 43 = .ok (.idiv, 1) := dk_108 (dk_at dksX8_threshold_1 19 rfl rfl)
theorem dX8_threshold_44 : decode cX8_threshold 44 = .ok (.istore_n 3, 1) := dk_62 (dk_at dksX8_threshold_1 20 rfl rfl)
theorem dX8_threshold_45 : decode cX8_threshold 45 = .ok (.iload_n 3, 1) := dk_29 (dk_at dksX8_threshold_1 21 rfl rfl)
theorem dX8_threshold_46 : decode cX8_threshold 46 = .ok (.iload_n 2, 1) := dk_28 (dk_at dksX8_threshold_1 22 rfl rfl)
theorem dX8_threshold_47 : decode cX8_threshold 47 = .ok (.if_icmp .ge 7, 3) := dk_162 0 7 (dk_at dksX8_threshold_2 0 rfl rfl)
theorem dX8_threshold_50 : decode cX8_threshold 50 = .ok (.iconst 1, 1) := dk_4 (dk_at dksX8_threshold_2 3 rfl rfl)
theorem dX8_threshold_51 : decode cX8_threshold 51 = .ok (.goto 4, 3) := dk_167 0 4 (dk_at dksX8_threshold_2 4 rfl rfl)
theorem dX8_threshold_54 : decode cX8_threshold 54 = .ok (.iconst (-1), 1) := dk_2 (dk_at dksX8_threshold_2 7 rfl rfl)
theorem dX8_threshold_55 : decode cX8_threshold 55 = .ok (.istore 4, 2) := dk_54 4 (dk_at dksX8_threshold_2 8 rfl rfl)
theorem dX8_threshold_57 : decode cX8_threshold 57 = .ok (.iconst 0, 1) := dk_3 (dk_at dksX8_threshold_2 10 rfl rfl)
theorem dX8_threshold_58 : decode cX8_threshold 58 = .ok (.istore 5, 2) := dk_54 5 (dk_at dksX8_threshold_2 11 rfl rfl)
theorem dX8_threshold_60 : decode cX8_threshold 60 = .ok (.iload_n 3, 1) := dk_29 (dk_at dksX8_threshold_2 13 rfl rfl)
theorem dX8_threshold_61 : decode cX8_threshold 61 = .ok (.istore 6, 2) := dk_54 6 (dk_at dksX8_threshold_2 14 rfl rfl)
theorem dX8_threshold_63 : decode cX8_threshold 63 = .ok (.iload 6, 2) := dk_21 6 (dk_at dksX8_threshold_2 16 rfl rfl)
theorem dX8_threshold_65 : decode cX8_threshold 65 = .ok (.iload_n 2, 1) := dk_28 (dk_at dksX8_threshold_2 18 rfl rfl)
theorem dX8_threshold_66 : decode cX8_threshold 66 = .ok (.if_icmp .eq 43, 3) := dk_159 0 43 (dk_at dksX8_threshold_2 19 rfl rfl)
theorem dX8_threshold_69 : decode cX8_threshold 69 = .ok (.aload_n 0, 1) := dk_42 (dk_at dksX8_threshold_2 22 rfl rfl)
theorem dX8_threshold_70 : decode cX8_threshold 70 = .ok (.getfield 33, 3) := dk_180 0 33 (dk_at dksX8_threshold_3 0 rfl rfl)
theorem dX8_threshold_73 : decode cX8_threshold 73 = .ok (.iload 6, 2) := dk_21 6 (dk_at dksX8_threshold_3 3 rfl rfl)
theorem dX8_threshold_75 : decode cX8_threshold 75 = .ok (.iload 4, 2) := dk_21 4 (dk_at dksX8_threshold_3 5 rfl rfl)
theorem dX8_threshold_77 : decode cX8_threshold 77 = .ok (.iadd, 1) := dk_96 (dk_at dksX8_threshold_3 7 rfl rfl)
theorem dX8_threshold_78 : decode cX8_threshold 78 = .ok (.iaload, 1) := dk_46 (dk_at dksX8_threshold_3 8 rfl rfl)
theorem dX8_threshold_79 : decode cX8_threshold 79 = .ok (.aload_n 0, 1) := dk_42 (dk_at dksX8_threshold_3 9 rfl rfl)
theorem dX8_threshold_80 : decode cX8_threshold 80 = .ok (.getfield 13, 3) := dk_180 0 13 (dk_at dksX8_threshold_3 10 rfl rfl)
theorem dX8_threshold_83 : decode cX8_threshold 83 = .ok (.iconst 1, 1) := dk_4 (dk_at dksX8_threshold_3 13 rfl rfl)
theorem dX8_threshold_84 : decode cX8_threshold 84 = .ok (.iload 6, 2) := dk_21 6 (dk_at dksX8_threshold_3 14 rfl rfl)
theorem dX8_threshold_86 : decode cX8_threshold 86 = .ok (.iadd, 1) := dk_96 (dk_at dksX8_threshold_3 16 rfl rfl)
theorem dX8_threshold_87 : decode cX8_threshold 87 = .ok (.iload 4, 2) := dk_21 4 (dk_at dksX8_threshold_3 17 rfl rfl)
theorem dX8_threshold_89 : decode cX8_threshold 89 = .ok (.iadd, 1) := dk_96 (dk_at dksX8_threshold_3 19 rfl rfl)
theorem dX8_threshold_90 : decode cX8_threshold 90 = .ok (.iaload, 1) := dk_46 (dk_at dksX8_threshold_3 20 rfl rfl)
theorem dX8_threshold_91 : decode cX8_threshold 91 = .ok (.if_icmp .lt 5, 3) := dk_161 0 5 (dk_at dksX8_threshold_3 21 rfl rfl)
theorem dX8_threshold_94 : decode cX8_threshold 94 = .ok (.iconst (-1), 1) := dk_2 (dk_at dksX8_threshold_4 0 rfl rfl)
theorem dX8_threshold_95 : decode cX8_threshold 95 = .ok (.ireturn, 1) := dk_172 (dk_at dksX8_threshold_4 1 rfl rfl)
theorem dX8_threshold_96 : decode cX8_threshold 96 = .ok (.iinc 5 1, 3) := dk_132 5 1 (dk_at dksX8_threshold_4 2 rfl rfl)
theorem dX8_threshold_99 : decode cX8_threshold 99 = .ok (.iload 6, 2) := dk_21 6 (dk_at dksX8_threshold_4 5 rfl rfl)
theorem dX8_threshold_101 : decode cX8_threshold 101 = .ok (.iload 4, 2) := dk_21 4 (dk_at dksX8_threshold_4 7 rfl rfl)
theorem dX8_threshold_103 : decode cX8_threshold 103 = .ok (.iadd, 1) := dk_96 (dk_at dksX8_threshold_4 9 rfl rfl)
theorem dX8_threshold_104 : decode cX8_threshold 104 = .ok (.istore 6, 2) := dk_54 6 (dk_at dksX8_threshold_4 10 rfl rfl)
theorem dX8_threshold_106 : decode cX8_threshold 106 = .ok (.goto (-43), 3) := dk_167 255 213 (dk_at dksX8_threshold_4 12 rfl rfl)
theorem dX8_threshold_109 : decode cX8_threshold 109 = .ok (.iload 5, 2) := dk_21 5 (dk_at dksX8_threshold_4 15 rfl rfl)
theorem dX8_threshold_111 : decode cX8_threshold 111 = .ok (.ireturn, 1) := dk_172 (dk_at dksX8_threshold_4 17 rfl rfl)
abbrev cX8_numbers : ByteArray := prog_20_method_110_code
def yX8_numbers : MethodName := ⟨RX8, "numbers", "(III)I"⟩
def dkwX8_numbers_3 : List UInt8 := [180, 0, 83, 16, 40, 27, 104, 21, 4, 96, 9, 80, 132, 4, 1, 167, 255, 234, 3, 172]
abbrev dktX8_numbers_3 : List UInt8 := dkwX8_numbers_3 ++ []
def dkwX8_numbers_2 : List UInt8 := [42, 180, 0, 77, 27, 28, 79, 42, 180, 0, 80, 27, 29, 79, 3, 54, 4, 21, 4, 29, 162, 0, 22, 42]
abbrev dktX8_numbers_2 : List UInt8 := dkwX8_numbers_2 ++ dktX8_numbers_3
def dkwX8_numbers_1 : List UInt8 := [184, 0, 153, 154, 0, 6, 16, 254, 172, 29, 133, 9, 20, 1, 172, 184, 0, 153, 154, 0, 6, 16, 253, 172]
abbrev dktX8_numbers_1 : List UInt8 := dkwX8_numbers_1 ++ dktX8_numbers_2
def dkwX8_numbers_0 : List UInt8 := [42, 3, 181, 0, 1, 27, 133, 9, 20, 1, 63, 184, 0, 153, 153, 0, 15, 28, 133, 9, 20, 1, 63]
abbrev dktX8_numbers_0 : List UInt8 := dkwX8_numbers_0 ++ dktX8_numbers_1
theorem dksX8_numbers_0 : cX8_numbers.data.toList.drop 0 = dktX8_numbers_0 := by decide +kernel
theorem dksX8_numbers_1 : cX8_numbers.data.toList.drop 23 = dktX8_numbers_1 := dk_seg dksX8_numbers_0 23 rfl rfl
theorem dksX8_numbers_2 : cX8_numbers.data.toList.drop 47 = dktX8_numbers_2 := dk_seg dksX8_numbers_1 24 rfl rfl
theorem dksX8_numbers_3 : cX8_numbers.data.toList.drop 71 = dktX8_numbers_3 := dk_seg dksX8_numbers_2 24 rfl rfl
theorem dX8_numbers_0 : decode cX8_numbers 0 = .ok (.aload_n 0, 1) := dk_42 (dk_at dksX8_numbers_0 0 rfl rfl)
theorem dX8_numbers_1 : decode cX8_numbers 1 = .ok (.iconst 0, 1) := dk_3 (dk_at dksX8_numbers_0 1 rfl rfl)
theorem dX8_numbers_2 : decode cX8_numbers 2 = .ok (.putfield 1, 3) := dk_181 0 1 (dk_at dksX8_numbers_0 2 rfl rfl)
theorem dX8_numbers_5 : decode cX8_numbers 5 = .ok (.iload_n 1, 1) := dk_27 (dk_at dksX8_numbers_0 5 rfl rfl)
theorem dX8_numbers_6 : decode cX8_numbers 6 = .ok (.i2l, 1) := dk_133 (dk_at dksX8_numbers_0 6 rfl rfl)
theorem dX8_numbers_7 : decode cX8_numbers 7 = .ok (.lconst 0, 1) := dk_9 (dk_at dksX8_numbers_0 7 rfl rfl)
theorem dX8_numbers_8 : decode cX8_numbers 8 = .ok (.ldc2_w 319, 3) := dk_20 1 63 (dk_at dksX8_numbers_0 8 rfl rfl)
theorem dX8_numbers_11 : decode cX8_numbers 11 = .ok (.invokestatic 153, 3) := dk_184 0 153 (dk_at dksX8_numbers_0 11 rfl rfl)
theorem dX8_numbers_14 : decode cX8_numbers 14 = .ok (.ifCond .eq 15, 3) := dk_153 0 15 (dk_at dksX8_numbers_0 14 rfl rfl)
theorem dX8_numbers_17 : decode cX8_numbers 17 = .ok (.iload_n 2, 1) := dk_28 (dk_at dksX8_numbers_0 17 rfl rfl)
theorem dX8_numbers_18 : decode cX8_numbers 18 = .ok (.i2l, 1) := dk_133 (dk_at dksX8_numbers_0 18 rfl rfl)
theorem dX8_numbers_19 : decode cX8_numbers 19 = .ok (.lconst 0, 1) := dk_9 (dk_at dksX8_numbers_0 19 rfl rfl)
theorem dX8_numbers_20 : decode cX8_numbers 20 = .ok (.ldc2_w 319, 3) := dk_20 1 63 (dk_at dksX8_numbers_0 20 rfl rfl)
theorem dX8_numbers_23 : decode cX8_numbers 23 = .ok (.invokestatic 153, 3) := dk_184 0 153 (dk_at dksX8_numbers_1 0 rfl rfl)
theorem dX8_numbers_26 : decode cX8_numbers 26 = .ok (.ifCond .ne 6, 3) := dk_154 0 6 (dk_at dksX8_numbers_1 3 rfl rfl)
theorem dX8_numbers_29 : decode cX8_numbers 29 = .ok (.bipush (-2), 2) := dk_16 254 (dk_at dksX8_numbers_1 6 rfl rfl)
theorem dX8_numbers_31 : decode cX8_numbers 31 = .ok (.ireturn, 1) := dk_172 (dk_at dksX8_numbers_1 8 rfl rfl)
theorem dX8_numbers_32 : decode cX8_numbers 32 = .ok (.iload_n 3, 1) := dk_29 (dk_at dksX8_numbers_1 9 rfl rfl)
theorem dX8_numbers_33 : decode cX8_numbers 33 = .ok (.i2l, 1) := dk_133 (dk_at dksX8_numbers_1 10 rfl rfl)
theorem dX8_numbers_34 : decode cX8_numbers 34 = .ok (.lconst 0, 1) := dk_9 (dk_at dksX8_numbers_1 11 rfl rfl)
theorem dX8_numbers_35 : decode cX8_numbers 35 = .ok (.ldc2_w 428, 3) := dk_20 1 172 (dk_at dksX8_numbers_1 12 rfl rfl)
theorem dX8_numbers_38 : decode cX8_numbers 38 = .ok (.invokestatic 153, 3) := dk_184 0 153 (dk_at dksX8_numbers_1 15 rfl rfl)
theorem dX8_numbers_41 : decode cX8_numbers 41 = .ok (.ifCond .ne 6, 3) := dk_154 0 6 (dk_at dksX8_numbers_1 18 rfl rfl)
theorem dX8_numbers_44 : decode cX8_numbers 44 = .ok (.bipush (-3), 2) := dk_16 253 (dk_at dksX8_numbers_1 21 rfl rfl)
theorem dX8_numbers_46 : decode cX8_numbers 46 = .ok (.ireturn, 1) := dk_172 (dk_at dksX8_numbers_1 23 rfl rfl)
theorem dX8_numbers_47 : decode cX8_numbers 47 = .ok (.aload_n 0, 1) := dk_42 (dk_at dksX8_numbers_2 0 rfl rfl)
theorem dX8_numbers_48 : decode cX8_numbers 48 = .ok (.getfield 77, 3) := dk_180 0 77 (dk_at dksX8_numbers_2 1 rfl rfl)
theorem dX8_numbers_51 : decode cX8_numbers 51 = .ok (.iload_n 1, 1) := dk_27 (dk_at dksX8_numbers_2 4 rfl rfl)
theorem dX8_numbers_52 : decode cX8_numbers 52 = .ok (.iload_n 2, 1) := dk_28 (dk_at dksX8_numbers_2 5 rfl rfl)
theorem dX8_numbers_53 : decode cX8_numbers 53 = .ok (.iastore, 1) := dk_79 (dk_at dksX8_numbers_2 6 rfl rfl)
theorem dX8_numbers_54 : decode cX8_numbers 54 = .ok (.aload_n 0, 1) := dk_42 (dk_at dksX8_numbers_2 7 rfl rfl)
theorem dX8_numbers_55 : decode cX8_numbers 55 = .ok (.getfield 80, 3) := dk_180 0 80 (dk_at dksX8_numbers_2 8 rfl rfl)
theorem dX8_numbers_58 : decode cX8_numbers 58 = .ok (.iload_n 1, 1) := dk_27 (dk_at dksX8_numbers_2 11 rfl rfl)
theorem dX8_numbers_59 : decode cX8_numbers 59 = .ok (.iload_n 3, 1) := dk_29 (dk_at dksX8_numbers_2 12 rfl rfl)
theorem dX8_numbers_60 : decode cX8_numbers 60 = .ok (.iastore, 1) := dk_79 (dk_at dksX8_numbers_2 13 rfl rfl)
theorem dX8_numbers_61 : decode cX8_numbers 61 = .ok (.iconst 0, 1) := dk_3 (dk_at dksX8_numbers_2 14 rfl rfl)
theorem dX8_numbers_62 : decode cX8_numbers 62 = .ok (.istore 4, 2) := dk_54 4 (dk_at dksX8_numbers_2 15 rfl rfl)
theorem dX8_numbers_64 : decode cX8_numbers 64 = .ok (.iload 4, 2) := dk_21 4 (dk_at dksX8_numbers_2 17 rfl rfl)
theorem dX8_numbers_66 : decode cX8_numbers 66 = .ok (.iload_n 3, 1) := dk_29 (dk_at dksX8_numbers_2 19 rfl rfl)
theorem dX8_numbers_67 : decode cX8_numbers 67 = .ok (.if_icmp .ge 22, 3) := dk_162 0 22 (dk_at dksX8_numbers_2 20 rfl rfl)
theorem dX8_numbers_70 : decode cX8_numbers 70 = .ok (.aload_n 0, 1) := dk_42 (dk_at dksX8_numbers_2 23 rfl rfl)
theorem dX8_numbers_71 : decode cX8_numbers 71 = .ok (.getfield 83, 3) := dk_180 0 83 (dk_at dksX8_numbers_3 0 rfl rfl)
theorem dX8_numbers_74 : decode cX8_numbers 74 = .ok (.bipush 40, 2) := dk_16 40 (dk_at dksX8_numbers_3 3 rfl rfl)
theorem dX8_numbers_76 : decode cX8_numbers 76 = .ok (.iload_n 1, 1) := dk_27 (dk_at dksX8_numbers_3 5 rfl rfl)
theorem dX8_numbers_77 : decode cX8_numbers 77 = .ok (.imul, 1) := dk_104 (dk_at dksX8_numbers_3 6 rfl rfl)
theorem dX8_numbers_78 : decode cX8_numbers 78 = .ok (.iload 4, 2) := dk_21 4 (dk_at dksX8_numbers_3 7 rfl rfl)
theorem dX8_numbers_80 : decode cX8_numbers 80 = .ok (.iadd, 1) := dk_96 (dk_at dksX8_numbers_3 9 rfl rfl)
theorem dX8_numbers_81 : decode cX8_numbers 81 = .ok (.lconst 0, 1) := dk_9 (dk_at dksX8_numbers_3 10 rfl rfl)
theorem dX8_numbers_82 : decode cX8_numbers 82 = .ok (.lastore, 1) := dk_80 (dk_at dksX8_numbers_3 11 rfl rfl)
theorem dX8_numbers_83 : decode cX8_numbers 83 = .ok (.iinc 4 1, 3) := dk_132 4 1 (dk_at dksX8_numbers_3 12 rfl rfl)
theorem dX8_numbers_86 : decode cX8_numbers 86 = .ok (.goto (-22), 3) := dk_167 255 234 (dk_at dksX8_numbers_3 15 rfl rfl)
theorem dX8_numbers_89 : decode cX8_numbers 89 = .ok (.iconst 0, 1) := dk_3 (dk_at dksX8_numbers_3 18 rfl rfl)
theorem dX8_numbers_90 : decode cX8_numbers 90 = .ok (.ireturn, 1) := dk_172 (dk_at dksX8_numbers_3 19 rfl rfl)
abbrev cX8_write : ByteArray := prog_20_method_111_code
def yX8_write : MethodName := ⟨RX8, "write", "(IIJ)J"⟩
def dkwX8_write_3 : List UInt8 := [180, 0, 77, 27, 46, 184, 1, 186, 80, 42, 180, 0, 83, 16, 40, 27, 104, 28, 96, 47, 173]
abbrev dktX8_write_3 : List UInt8 := dkwX8_write_3 ++ []
def dkwX8_write_2 : List UInt8 := [133, 184, 0, 153, 154, 0, 7, 20, 1, 184, 173, 42, 180, 0, 83, 16, 40, 27, 104, 28, 96, 33, 42]
abbrev dktX8_write_2 : List UInt8 := dkwX8_write_2 ++ dktX8_write_3
def dkwX8_write_1 : List UInt8 := [180, 0, 77, 27, 46, 2, 160, 0, 7, 20, 1, 182, 173, 28, 133, 9, 42, 180, 0, 80, 27, 46, 4, 100]
abbrev dktX8_write_1 : List UInt8 := dkwX8_write_1 ++ dktX8_write_2
def dkwX8_write_0 : List UInt8 := [42, 3, 181, 0, 1, 27, 133, 9, 20, 1, 63, 184, 0, 153, 154, 0, 7, 20, 1, 180, 173, 42]
abbrev dktX8_write_0 : List UInt8 := dkwX8_write_0 ++ dktX8_write_1
theorem dksX8_write_0 : cX8_write.data.toList.drop 0 = dktX8_write_0 := by decide +kernel
theorem dksX8_write_1 : cX8_write.data.toList.drop 22 = dktX8_write_1 := dk_seg dksX8_write_0 22 rfl rfl
theorem dksX8_write_2 : cX8_write.data.toList.drop 46 = dktX8_write_2 := dk_seg dksX8_write_1 24 rfl rfl
theorem dksX8_write_3 : cX8_write.data.toList.drop 69 = dktX8_write_3 := dk_seg dksX8_write_2 23 rfl rfl
theorem dX8_write_0 : decode cX8_write 0 = .ok (.aload_n 0, 1) := dk_42 (dk_at dksX8_write_0 0 rfl rfl)
theorem dX8_write_1 : decode cX8_write 1 = .ok (.iconst 0, 1) := dk_3 (dk_at dksX8_write_0 1 rfl rfl)
theorem dX8_write_2 : decode cX8_write 2 = .ok (.putfield 1, 3) := dk_181 0 1 (dk_at dksX8_write_0 2 rfl rfl)
theorem dX8_write_5 : decode cX8_write 5 = .ok (.iload_n 1, 1) := dk_27 (dk_at dksX8_write_0 5 rfl rfl)
theorem dX8_write_6 : decode cX8_write 6 = .ok (.i2l, 1) := dk_133 (dk_at dksX8_write_0 6 rfl rfl)
theorem dX8_write_7 : decode cX8_write 7 = .ok (.lconst 0, 1) := dk_9 (dk_at dksX8_write_0 7 rfl rfl)
theorem dX8_write_8 : decode cX8_write 8 = .ok (.ldc2_w 319, 3) := dk_20 1 63 (dk_at dksX8_write_0 8 rfl rfl)
theorem dX8_write_11 : decode cX8_write 11 = .ok (.invokestatic 153, 3) := dk_184 0 153 (dk_at dksX8_write_0 11 rfl rfl)
theorem dX8_write_14 : decode cX8_write 14 = .ok (.ifCond .ne 7, 3) := dk_154 0 7 (dk_at dksX8_write_0 14 rfl rfl)
theorem dX8_write_17 : decode cX8_write 17 = .ok (.ldc2_w 436, 3) := dk_20 1 180 (dk_at dksX8_write_0 17 rfl rfl)
theorem dX8_write_20 : decode cX8_write 20 = .ok (.lreturn, 1) := dk_173 (dk_at dksX8_write_0 20 rfl rfl)
theorem dX8_write_21 : decode cX8_write 21 = .ok (.aload_n 0, 1) := dk_42 (dk_at dksX8_write_0 21 rfl rfl)
theorem dX8_write_22 : decode cX8_write 22 = .ok (.getfield 77, 3) := dk_180 0 77 (dk_at dksX8_write_1 0 rfl rfl)
theorem dX8_write_25 : decode cX8_write 25 = .ok (.iload_n 1, 1) := dk_27 (dk_at dksX8_write_1 3 rfl rfl)
theorem dX8_write_26 : decode cX8_write 26 = .ok (.iaload, 1) := dk_46 (dk_at dksX8_write_1 4 rfl rfl)
theorem dX8_write_27 : decode cX8_write 27 = .ok (.iconst (-1), 1) := dk_2 (dk_at dksX8_write_1 5 rfl rfl)
theorem dX8_write_28 : decode cX8_write 28 = .ok (.if_icmp .ne 7, 3) := dk_160 0 7 (dk_at dksX8_write_1 6 rfl rfl)
theorem dX8_write_31 : decode cX8_write 31 = .ok (.ldc2_w 438, 3) := dk_20 1 182 (dk_at dksX8_write_1 9 rfl rfl)
theorem dX8_write_34 : decode cX8_write 34 = .ok (.lreturn, 1) := dk_173 (dk_at dksX8_write_1 12 rfl rfl)
theorem dX8_write_35 : decode cX8_write 35 = .ok (.iload_n 2, 1) := dk_28 (dk_at dksX8_write_1 13 rfl rfl)
theorem dX8_write_36 : decode cX8_write 36 = .ok (.i2l, 1) := dk_133 (dk_at dksX8_write_1 14 rfl rfl)
theorem dX8_write_37 : decode cX8_write 37 = .ok (.lconst 0, 1) := dk_9 (dk_at dksX8_write_1 15 rfl rfl)
theorem dX8_write_38 : decode cX8_write 38 = .ok (.aload_n 0, 1) := dk_42 (dk_at dksX8_write_1 16 rfl rfl)
theorem dX8_write_39 : decode cX8_write 39 = .ok (.getfield 80, 3) := dk_180 0 80 (dk_at dksX8_write_1 17 rfl rfl)
theorem dX8_write_42 : decode cX8_write 42 = .ok (.iload_n 1, 1) := dk_27 (dk_at dksX8_write_1 20 rfl rfl)
theorem dX8_write_43 : decode cX8_write 43 = .ok (.iaload, 1) := dk_46 (dk_at dksX8_write_1 21 rfl rfl)
theorem dX8_write_44 : decode cX8_write 44 = .ok (.iconst 1, 1) := dk_4 (dk_at dksX8_write_1 22 rfl rfl)
theorem dX8_write_45 : decode cX8_write 45 = .ok (.isub, 1) := dk_100 (dk_at dksX8_write_1 23 rfl rfl)
theorem dX8_write_46 : decode cX8_write 46 = .ok (.i2l, 1) := dk_133 (dk_at dksX8_write_2 0 rfl rfl)
theorem dX8_write_47 : decode cX8_write 47 = .ok (.invokestatic 153, 3) := dk_184 0 153 (dk_at dksX8_write_2 1 rfl rfl)
theorem dX8_write_50 : decode cX8_write 50 = .ok (.ifCond .ne 7, 3) := dk_154 0 7 (dk_at dksX8_write_2 4 rfl rfl)
theorem dX8_write_53 : decode cX8_write 53 = .ok (.ldc2_w 440, 3) := dk_20 1 184 (dk_at dksX8_write_2 7 rfl rfl)
theorem dX8_write_56 : decode cX8_write 56 = .ok (.lreturn, 1) := dk_173 (dk_at dksX8_write_2 10 rfl rfl)
theorem dX8_write_57 : decode cX8_write 57 = .ok (.aload_n 0, 1) := dk_42 (dk_at dksX8_write_2 11 rfl rfl)
theorem dX8_write_58 : decode cX8_write 58 = .ok (.getfield 83, 3) := dk_180 0 83 (dk_at dksX8_write_2 12 rfl rfl)
theorem dX8_write_61 : decode cX8_write 61 = .ok (.bipush 40, 2) := dk_16 40 (dk_at dksX8_write_2 15 rfl rfl)
theorem dX8_write_63 : decode cX8_write 63 = .ok (.iload_n 1, 1) := dk_27 (dk_at dksX8_write_2 17 rfl rfl)
theorem dX8_write_64 : decode cX8_write 64 = .ok (.imul, 1) := dk_104 (dk_at dksX8_write_2 18 rfl rfl)
theorem dX8_write_65 : decode cX8_write 65 = .ok (.iload_n 2, 1) := dk_28 (dk_at dksX8_write_2 19 rfl rfl)
theorem dX8_write_66 : decode cX8_write 66 = .ok (.iadd, 1) := dk_96 (dk_at dksX8_write_2 20 rfl rfl)
theorem dX8_write_67 : decode cX8_write 67 = .ok (.lload_n 3, 1) := dk_33 (dk_at dksX8_write_2 21 rfl rfl)
theorem dX8_write_68 : decode cX8_write 68 = .ok (.aload_n 0, 1) := dk_42 (dk_at dksX8_write_2 22 rfl rfl)
theorem dX8_write_69 : decode cX8_write 69 = .ok (.getfield 77, 3) := dk_180 0 77 (dk_at dksX8_write_3 0 rfl rfl)
theorem dX8_write_72 : decode cX8_write 72 = .ok (.iload_n 1, 1) := dk_27 (dk_at dksX8_write_3 3 rfl rfl)
theorem dX8_write_73 : decode cX8_write 73 = .ok (.iaload, 1) := dk_46 (dk_at dksX8_write_3 4 rfl rfl)
theorem dX8_write_74 : decode cX8_write 74 = .ok (.invokestatic 442, 3) := dk_184 1 186 (dk_at dksX8_write_3 5 rfl rfl)
theorem dX8_write_77 : decode cX8_write 77 = .ok (.lastore, 1) := dk_80 (dk_at dksX8_write_3 8 rfl rfl)
theorem dX8_write_78 : decode cX8_write 78 = .ok (.aload_n 0, 1) := dk_42 (dk_at dksX8_write_3 9 rfl rfl)
theorem dX8_write_79 : decode cX8_write 79 = .ok (.getfield 83, 3) := dk_180 0 83 (dk_at dksX8_write_3 10 rfl rfl)
theorem dX8_write_82 : decode cX8_write 82 = .ok (.bipush 40, 2) := dk_16 40 (dk_at dksX8_write_3 13 rfl rfl)
theorem dX8_write_84 : decode cX8_write 84 = .ok (.iload_n 1, 1) := dk_27 (dk_at dksX8_write_3 15 rfl rfl)
theorem dX8_write_85 : decode cX8_write 85 = .ok (.imul, 1) := dk_104 (dk_at dksX8_write_3 16 rfl rfl)
theorem dX8_write_86 : decode cX8_write 86 = .ok (.iload_n 2, 1) := dk_28 (dk_at dksX8_write_3 17 rfl rfl)
theorem dX8_write_87 : decode cX8_write 87 = .ok (.iadd, 1) := dk_96 (dk_at dksX8_write_3 18 rfl rfl)
theorem dX8_write_88 : decode cX8_write 88 = .ok (.laload, 1) := dk_47 (dk_at dksX8_write_3 19 rfl rfl)
theorem dX8_write_89 : decode cX8_write 89 = .ok (.lreturn, 1) := dk_173 (dk_at dksX8_write_3 20 rfl rfl)
abbrev cX8_cut : ByteArray := prog_20_method_109_code
def yX8_cut : MethodName := ⟨RX8, "cut", "(JI)J"⟩
def dkwX8_cut_1 : List UInt8 := [5, 160, 0, 9, 30, 136, 133, 167, 0, 4, 30, 173]
abbrev dktX8_cut_1 : List UInt8 := dkwX8_cut_1 ++ []
def dkwX8_cut_0 : List UInt8 := [28, 154, 0, 10, 30, 136, 145, 133, 167, 0, 27, 28, 4, 160, 0, 10, 30, 136, 147, 133, 167, 0, 15, 28]
abbrev dktX8_cut_0 : List UInt8 := dkwX8_cut_0 ++ dktX8_cut_1
theorem dksX8_cut_0 : cX8_cut.data.toList.drop 0 = dktX8_cut_0 := by decide +kernel
theorem dksX8_cut_1 : cX8_cut.data.toList.drop 24 = dktX8_cut_1 := dk_seg dksX8_cut_0 24 rfl rfl
theorem dX8_cut_0 : decode cX8_cut 0 = .ok (.iload_n 2, 1) := dk_28 (dk_at dksX8_cut_0 0 rfl rfl)
theorem dX8_cut_1 : decode cX8_cut 1 = .ok (.ifCond .ne 10, 3) := dk_154 0 10 (dk_at dksX8_cut_0 1 rfl rfl)
theorem dX8_cut_4 : decode cX8_cut 4 = .ok (.lload_n 0, 1) := dk_30 (dk_at dksX8_cut_0 4 rfl rfl)
theorem dX8_cut_5 : decode cX8_cut 5 = .ok (.l2i, 1) := dk_136 (dk_at dksX8_cut_0 5 rfl rfl)
theorem dX8_cut_6 : decode cX8_cut 6 = .ok (.i2b, 1) := dk_145 (dk_at dksX8_cut_0 6 rfl rfl)
theorem dX8_cut_7 : decode cX8_cut 7 = .ok (.i2l, 1) := dk_133 (dk_at dksX8_cut_0 7 rfl rfl)
theorem dX8_cut_8 : decode cX8_cut 8 = .ok (.goto 27, 3) := dk_167 0 27 (dk_at dksX8_cut_0 8 rfl rfl)
theorem dX8_cut_11 : decode cX8_cut 11 = .ok (.iload_n 2, 1) := dk_28 (dk_at dksX8_cut_0 11 rfl rfl)
theorem dX8_cut_12 : decode cX8_cut 12 = .ok (.iconst 1, 1) := dk_4 (dk_at dksX8_cut_0 12 rfl rfl)
theorem dX8_cut_13 : decode cX8_cut 13 = .ok (.if_icmp .ne 10, 3) := dk_160 0 10 (dk_at dksX8_cut_0 13 rfl rfl)
theorem dX8_cut_16 : decode cX8_cut 16 = .ok (.lload_n 0, 1) := dk_30 (dk_at dksX8_cut_0 16 rfl rfl)
theorem dX8_cut_17 : decode cX8_cut 17 = .ok (.l2i, 1) := dk_136 (dk_at dksX8_cut_0 17 rfl rfl)
theorem dX8_cut_18 : decode cX8_cut 18 = .ok (.i2s, 1) := dk_147 (dk_at dksX8_cut_0 18 rfl rfl)
theorem dX8_cut_19 : decode cX8_cut 19 = .ok (.i2l, 1) := dk_133 (dk_at dksX8_cut_0 19 rfl rfl)
theorem dX8_cut_20 : decode cX8_cut 20 = .ok (.goto 15, 3) := dk_167 0 15 (dk_at dksX8_cut_0 20 rfl rfl)
theorem dX8_cut_23 : decode cX8_cut 23 = .ok (.iload_n 2, 1) := dk_28 (dk_at dksX8_cut_0 23 rfl rfl)
theorem dX8_cut_24 : decode cX8_cut 24 = .ok (.iconst 2, 1) := dk_5 (dk_at dksX8_cut_1 0 rfl rfl)
theorem dX8_cut_25 : decode cX8_cut 25 = .ok (.if_icmp .ne 9, 3) := dk_160 0 9 (dk_at dksX8_cut_1 1 rfl rfl)
theorem dX8_cut_28 : decode cX8_cut 28 = .ok (.lload_n 0, 1) := dk_30 (dk_at dksX8_cut_1 4 rfl rfl)
theorem dX8_cut_29 : decode cX8_cut 29 = .ok (.l2i, 1) := dk_136 (dk_at dksX8_cut_1 5 rfl rfl)
theorem dX8_cut_30 : decode cX8_cut 30 = .ok (.i2l, 1) := dk_133 (dk_at dksX8_cut_1 6 rfl rfl)
theorem dX8_cut_31 : decode cX8_cut 31 = .ok (.goto 4, 3) := dk_167 0 4 (dk_at dksX8_cut_1 7 rfl rfl)
theorem dX8_cut_34 : decode cX8_cut 34 = .ok (.lload_n 0, 1) := dk_30 (dk_at dksX8_cut_1 10 rfl rfl)
theorem dX8_cut_35 : decode cX8_cut 35 = .ok (.lreturn, 1) := dk_173 (dk_at dksX8_cut_1 11 rfl rfl)
abbrev cX8_image : ByteArray := prog_20_method_112_code
def yX8_image : MethodName := ⟨RX8, "image", "(I)I"⟩
def dkwX8_image_2 : List UInt8 := [132, 2, 1, 167, 255, 226, 42, 180, 0, 17, 27, 4, 84, 3, 172]
abbrev dktX8_image_2 : List UInt8 := dkwX8_image_2 ++ []
def dkwX8_image_1 : List UInt8 := [162, 0, 29, 42, 180, 0, 13, 17, 2, 19, 27, 4, 96, 104, 28, 96, 42, 180, 0, 13, 28, 46, 79]
abbrev dktX8_image_1 : List UInt8 := dkwX8_image_1 ++ dktX8_image_2
def dkwX8_image_0 : List UInt8 := [42, 3, 181, 0, 1, 27, 133, 9, 10, 184, 0, 153, 154, 0, 6, 16, 254, 172, 3, 61, 28, 17, 2, 19]
abbrev dktX8_image_0 : List UInt8 := dkwX8_image_0 ++ dktX8_image_1
theorem dksX8_image_0 : cX8_image.data.toList.drop 0 = dktX8_image_0 := by decide +kernel
theorem dksX8_image_1 : cX8_image.data.toList.drop 24 = dktX8_image_1 := dk_seg dksX8_image_0 24 rfl rfl
theorem dksX8_image_2 : cX8_image.data.toList.drop 47 = dktX8_image_2 := dk_seg dksX8_image_1 23 rfl rfl
theorem dX8_image_0 : decode cX8_image 0 = .ok (.aload_n 0, 1) := dk_42 (dk_at dksX8_image_0 0 rfl rfl)
theorem dX8_image_1 : decode cX8_image 1 = .ok (.iconst 0, 1) := dk_3 (dk_at dksX8_image_0 1 rfl rfl)
theorem dX8_image_2 : decode cX8_image 2 = .ok (.putfield 1, 3) := dk_181 0 1 (dk_at dksX8_image_0 2 rfl rfl)
theorem dX8_image_5 : decode cX8_image 5 = .ok (.iload_n 1, 1) := dk_27 (dk_at dksX8_image_0 5 rfl rfl)
theorem dX8_image_6 : decode cX8_image 6 = .ok (.i2l, 1) := dk_133 (dk_at dksX8_image_0 6 rfl rfl)
theorem dX8_image_7 : decode cX8_image 7 = .ok (.lconst 0, 1) := dk_9 (dk_at dksX8_image_0 7 rfl rfl)
theorem dX8_image_8 : decode cX8_image 8 = .ok (.lconst 1, 1) := dk_10 (dk_at dksX8_image_0 8 rfl rfl)
theorem dX8_image_9 : decode cX8_image 9 = .ok (.invokestatic 153, 3) := dk_184 0 153 (dk_at dksX8_image_0 9 rfl rfl)
theorem dX8_image_12 : decode cX8_image 12 = .ok (.ifCond .ne 6, 3) := dk_154 0 6 (dk_at dksX8_image_0 12 rfl rfl)
theorem dX8_image_15 : decode cX8_image 15 = .ok (.bipush (-2), 2) := dk_16 254 (dk_at dksX8_image_0 15 rfl rfl)
theorem dX8_image_17 : decode cX8_image 17 = .ok (.ireturn, 1) := dk_172 (dk_at dksX8_image_0 17 rfl rfl)
theorem dX8_image_18 : decode cX8_image 18 = .ok (.iconst 0, 1) := dk_3 (dk_at dksX8_image_0 18 rfl rfl)
theorem dX8_image_19 : decode cX8_image 19 = .ok (.istore_n 2, 1) := dk_61 (dk_at dksX8_image_0 19 rfl rfl)
theorem dX8_image_20 : decode cX8_image 20 = .ok (.iload_n 2, 1) := dk_28 (dk_at dksX8_image_0 20 rfl rfl)
theorem dX8_image_21 : decode cX8_image 21 = .ok (.sipush 531, 3) := dk_17 2 19 (dk_at dksX8_image_0 21 rfl rfl)
theorem dX8_image_24 : decode cX8_image 24 = .ok (.if_icmp .ge 29, 3) := dk_162 0 29 (dk_at dksX8_image_1 0 rfl rfl)
theorem dX8_image_27 : decode cX8_image 27 = .ok (.aload_n 0, 1) := dk_42 (dk_at dksX8_image_1 3 rfl rfl)
theorem dX8_image_28 : decode cX8_image 28 = .ok (.getfield 13, 3) := dk_180 0 13 (dk_at dksX8_image_1 4 rfl rfl)
theorem dX8_image_31 : decode cX8_image 31 = .ok (.sipush 531, 3) := dk_17 2 19 (dk_at dksX8_image_1 7 rfl rfl)
theorem dX8_image_34 : decode cX8_image 34 = .ok (.iload_n 1, 1) := dk_27 (dk_at dksX8_image_1 10 rfl rfl)
theorem dX8_image_35 : decode cX8_image 35 = .ok (.iconst 1, 1) := dk_4 (dk_at dksX8_image_1 11 rfl rfl)
theorem dX8_image_36 : decode cX8_image 36 = .ok (.iadd, 1) := dk_96 (dk_at dksX8_image_1 12 rfl rfl)
theorem dX8_image_37 : decode cX8_image 37 = .ok (.imul, 1) := dk_104 (dk_at dksX8_image_1 13 rfl rfl)
theorem dX8_image_38 : decode cX8_image 38 = .ok (.iload_n 2, 1) := dk_28 (dk_at dksX8_image_1 14 rfl rfl)
theorem dX8_image_39 : decode cX8_image 39 = .ok (.iadd, 1) := dk_96 (dk_at dksX8_image_1 15 rfl rfl)
theorem dX8_image_40 : decode cX8_image 40 = .ok (.aload_n 0, 1) := dk_42 (dk_at dksX8_image_1 16 rfl rfl)
theorem dX8_image_41 : decode cX8_image 41 = .ok (.getfield 13, 3) := dk_180 0 13 (dk_at dksX8_image_1 17 rfl rfl)
theorem dX8_image_44 : decode cX8_image 44 = .ok (.iload_n 2, 1) := dk_28 (dk_at dksX8_image_1 20 rfl rfl)
theorem dX8_image_45 : decode cX8_image 45 = .ok (.iaload, 1) := dk_46 (dk_at dksX8_image_1 21 rfl rfl)
theorem dX8_image_46 : decode cX8_image 46 = .ok (.iastore, 1) := dk_79 (dk_at dksX8_image_1 22 rfl rfl)
theorem dX8_image_47 : decode cX8_image 47 = .ok (.iinc 2 1, 3) := dk_132 2 1 (dk_at dksX8_image_2 0 rfl rfl)
theorem dX8_image_50 : decode cX8_image 50 = .ok (.goto (-30), 3) := dk_167 255 226 (dk_at dksX8_image_2 3 rfl rfl)
theorem dX8_image_53 : decode cX8_image 53 = .ok (.aload_n 0, 1) := dk_42 (dk_at dksX8_image_2 6 rfl rfl)
theorem dX8_image_54 : decode cX8_image 54 = .ok (.getfield 17, 3) := dk_180 0 17 (dk_at dksX8_image_2 7 rfl rfl)
theorem dX8_image_57 : decode cX8_image 57 = .ok (.iload_n 1, 1) := dk_27 (dk_at dksX8_image_2 10 rfl rfl)
theorem dX8_image_58 : decode cX8_image 58 = .ok (.iconst 1, 1) := dk_4 (dk_at dksX8_image_2 11 rfl rfl)
theorem dX8_image_59 : decode cX8_image 59 = .ok (.bastore, 1) := dk_84 (dk_at dksX8_image_2 12 rfl rfl)
theorem dX8_image_60 : decode cX8_image 60 = .ok (.iconst 0, 1) := dk_3 (dk_at dksX8_image_2 13 rfl rfl)
theorem dX8_image_61 : decode cX8_image 61 = .ok (.ireturn, 1) := dk_172 (dk_at dksX8_image_2 14 rfl rfl)
abbrev cX8_restore : ByteArray := prog_20_method_113_code
def yX8_restore : MethodName := ⟨RX8, "restore", "(I)I"⟩
def dkwX8_restore_2 : List UInt8 := [17, 2, 19, 27, 4, 96, 104, 28, 96, 46, 79, 132, 2, 1, 167, 255, 226, 3, 172]
abbrev dktX8_restore_2 : List UInt8 := dkwX8_restore_2 ++ []
def dkwX8_restore_1 : List UInt8 := [154, 0, 6, 16, 251, 172, 3, 61, 28, 17, 2, 19, 162, 0, 29, 42, 180, 0, 13, 28, 42, 180, 0, 13]
abbrev dktX8_restore_1 : List UInt8 := dkwX8_restore_1 ++ dktX8_restore_2
def dkwX8_restore_0 : List UInt8 := [42, 3, 181, 0, 1, 27, 133, 9, 10, 184, 0, 153, 154, 0, 6, 16, 254, 172, 42, 180, 0, 17, 27, 51]
abbrev dktX8_restore_0 : List UInt8 := dkwX8_restore_0 ++ dktX8_restore_1
theorem dksX8_restore_0 : cX8_restore.data.toList.drop 0 = dktX8_restore_0 := by decide +kernel
theorem dksX8_restore_1 : cX8_restore.data.toList.drop 24 = dktX8_restore_1 := dk_seg dksX8_restore_0 24 rfl rfl
theorem dksX8_restore_2 : cX8_restore.data.toList.drop 48 = dktX8_restore_2 := dk_seg dksX8_restore_1 24 rfl rfl
theorem dX8_restore_0 : decode cX8_restore 0 = .ok (.aload_n 0, 1) := dk_42 (dk_at dksX8_restore_0 0 rfl rfl)
theorem dX8_restore_1 : decode cX8_restore 1 = .ok (.iconst 0, 1) := dk_3 (dk_at dksX8_restore_0 1 rfl rfl)
theorem dX8_restore_2 : decode cX8_restore 2 = .ok (.putfield 1, 3) := dk_181 0 1 (dk_at dksX8_restore_0 2 rfl rfl)
theorem dX8_restore_5 : decode cX8_restore 5 = .ok (.iload_n 1, 1) := dk_27 (dk_at dksX8_restore_0 5 rfl rfl)
theorem dX8_restore_6 : decode cX8_restore 6 = .ok (.i2l, 1) := dk_133 (dk_at dksX8_restore_0 6 rfl rfl)
theorem dX8_restore_7 : decode cX8_restore 7 = .ok (.lconst 0, 1) := dk_9 (dk_at dksX8_restore_0 7 rfl rfl)
theorem dX8_restore_8 : decode cX8_restore 8 = .ok (.lconst 1, 1) := dk_10 (dk_at dksX8_restore_0 8 rfl rfl)
theorem dX8_restore_9 : decode cX8_restore 9 = .ok (.invokestatic 153, 3) := dk_184 0 153 (dk_at dksX8_restore_0 9 rfl rfl)
theorem dX8_restore_12 : decode cX8_restore 12 = .ok (.ifCond .ne 6, 3) := dk_154 0 6 (dk_at dksX8_restore_0 12 rfl rfl)
theorem dX8_restore_15 : decode cX8_restore 15 = .ok (.bipush (-2), 2) := dk_16 254 (dk_at dksX8_restore_0 15 rfl rfl)
theorem dX8_restore_17 : decode cX8_restore 17 = .ok (.ireturn, 1) := dk_172 (dk_at dksX8_restore_0 17 rfl rfl)
theorem dX8_restore_18 : decode cX8_restore 18 = .ok (.aload_n 0, 1) := dk_42 (dk_at dksX8_restore_0 18 rfl rfl)
theorem dX8_restore_19 : decode cX8_restore 19 = .ok (.getfield 17, 3) := dk_180 0 17 (dk_at dksX8_restore_0 19 rfl rfl)
theorem dX8_restore_22 : decode cX8_restore 22 = .ok (.iload_n 1, 1) := dk_27 (dk_at dksX8_restore_0 22 rfl rfl)
theorem dX8_restore_23 : decode cX8_restore 23 = .ok (.baload, 1) := dk_51 (dk_at dksX8_restore_0 23 rfl rfl)
theorem dX8_restore_24 : decode cX8_restore 24 = .ok (.ifCond .ne 6, 3) := dk_154 0 6 (dk_at dksX8_restore_1 0 rfl rfl)
theorem dX8_restore_27 : decode cX8_restore 27 = .ok (.bipush (-5), 2) := dk_16 251 (dk_at dksX8_restore_1 3 rfl rfl)
theorem dX8_restore_29 : decode cX8_restore 29 = .ok (.ireturn, 1) := dk_172 (dk_at dksX8_restore_1 5 rfl rfl)
theorem dX8_restore_30 : decode cX8_restore 30 = .ok (.iconst 0, 1) := dk_3 (dk_at dksX8_restore_1 6 rfl rfl)
theorem dX8_restore_31 : decode cX8_restore 31 = .ok (.istore_n 2, 1) := dk_61 (dk_at dksX8_restore_1 7 rfl rfl)
theorem dX8_restore_32 : decode cX8_restore 32 = .ok (.iload_n 2, 1) := dk_28 (dk_at dksX8_restore_1 8 rfl rfl)
theorem dX8_restore_33 : decode cX8_restore 33 = .ok (.sipush 531, 3) := dk_17 2 19 (dk_at dksX8_restore_1 9 rfl rfl)
theorem dX8_restore_36 : decode cX8_restore 36 = .ok (.if_icmp .ge 29, 3) := dk_162 0 29 (dk_at dksX8_restore_1 12 rfl rfl)
theorem dX8_restore_39 : decode cX8_restore 39 = .ok (.aload_n 0, 1) := dk_42 (dk_at dksX8_restore_1 15 rfl rfl)
theorem dX8_restore_40 : decode cX8_restore 40 = .ok (.getfield 13, 3) := dk_180 0 13 (dk_at dksX8_restore_1 16 rfl rfl)
theorem dX8_restore_43 : decode cX8_restore 43 = .ok (.iload_n 2, 1) := dk_28 (dk_at dksX8_restore_1 19 rfl rfl)
theorem dX8_restore_44 : decode cX8_restore 44 = .ok (.aload_n 0, 1) := dk_42 (dk_at dksX8_restore_1 20 rfl rfl)
theorem dX8_restore_45 : decode cX8_restore 45 = .ok (.getfield 13, 3) := dk_180 0 13 (dk_at dksX8_restore_1 21 rfl rfl)
theorem dX8_restore_48 : decode cX8_restore 48 = .ok (.sipush 531, 3) := dk_17 2 19 (dk_at dksX8_restore_2 0 rfl rfl)
theorem dX8_restore_51 : decode cX8_restore 51 = .ok (.iload_n 1, 1) := dk_27 (dk_at dksX8_restore_2 3 rfl rfl)
theorem dX8_restore_52 : decode cX8_restore 52 = .ok (.iconst 1, 1) := dk_4 (dk_at dksX8_restore_2 4 rfl rfl)
theorem dX8_restore_53 : decode cX8_restore 53 = .ok (.iadd, 1) := dk_96 (dk_at dksX8_restore_2 5 rfl rfl)
theorem dX8_restore_54 : decode cX8_restore 54 = .ok (.imul, 1) := dk_104 (dk_at dksX8_restore_2 6 rfl rfl)
theorem dX8_restore_55 : decode cX8_restore 55 = .ok (.iload_n 2, 1) := dk_28 (dk_at dksX8_restore_2 7 rfl rfl)
theorem dX8_restore_56 : decode cX8_restore 56 = .ok (.iadd, 1) := dk_96 (dk_at dksX8_restore_2 8 rfl rfl)
theorem dX8_restore_57 : decode cX8_restore 57 = .ok (.iaload, 1) := dk_46 (dk_at dksX8_restore_2 9 rfl rfl)
theorem dX8_restore_58 : decode cX8_restore 58 = .ok (.iastore, 1) := dk_79 (dk_at dksX8_restore_2 10 rfl rfl)
theorem dX8_restore_59 : decode cX8_restore 59 = .ok (.iinc 2 1, 3) := dk_132 2 1 (dk_at dksX8_restore_2 11 rfl rfl)
theorem dX8_restore_62 : decode cX8_restore 62 = .ok (.goto (-30), 3) := dk_167 255 226 (dk_at dksX8_restore_2 14 rfl rfl)
theorem dX8_restore_65 : decode cX8_restore 65 = .ok (.iconst 0, 1) := dk_3 (dk_at dksX8_restore_2 17 rfl rfl)
theorem dX8_restore_66 : decode cX8_restore 66 = .ok (.ireturn, 1) := dk_172 (dk_at dksX8_restore_2 18 rfl rfl)
abbrev cX8_count : ByteArray := prog_20_method_114_code
def yX8_count : MethodName := ⟨RX8, "count", "(I)I"⟩
def dkwX8_count_6 : List UInt8 := [172, 2, 172]
abbrev dktX8_count_6 : List UInt8 := dkwX8_count_6 ++ []
def dkwX8_count_5 : List UInt8 := [16, 77, 46, 172, 42, 180, 0, 13, 16, 78, 46, 172, 42, 180, 0, 90, 172, 42, 180, 0, 13, 16, 79, 46]
abbrev dktX8_count_5 : List UInt8 := dkwX8_count_5 ++ dktX8_count_6
def dkwX8_count_4 : List UInt8 := [184, 0, 247, 172, 42, 180, 0, 13, 16, 75, 46, 172, 42, 180, 0, 13, 16, 76, 46, 172, 42, 180, 0, 13]
abbrev dktX8_count_4 : List UInt8 := dkwX8_count_4 ++ dktX8_count_5
def dkwX8_count_3 : List UInt8 := [180, 0, 13, 16, 114, 46, 172, 42, 180, 0, 13, 16, 112, 46, 172, 42, 180, 0, 13, 16, 95, 46]
abbrev dktX8_count_3 : List UInt8 := dkwX8_count_3 ++ dktX8_count_4
def dkwX8_count_2 : List UInt8 := [42, 180, 0, 13, 3, 46, 172, 42, 180, 0, 13, 16, 6, 46, 172, 42, 180, 0, 13, 16, 56, 46, 172, 42]
abbrev dktX8_count_2 : List UInt8 := dkwX8_count_2 ++ dktX8_count_3
def dkwX8_count_1 : List UInt8 := [170, 0, 0, 0, 0, 157, 0, 0, 0, 0, 0, 0, 0, 11, 0, 0, 0, 62, 0, 0, 0, 69, 0, 0, 0, 77, 0, 0, 0, 85, 0, 0, 0, 93, 0, 0, 0, 101, 0, 0, 0, 112, 0, 0, 0, 120, 0, 0, 0, 128, 0, 0, 0, 136, 0, 0, 0, 144, 0, 0, 0, 149]
abbrev dktX8_count_1 : List UInt8 := dkwX8_count_1 ++ dktX8_count_2
def dkwX8_count_0 : List UInt8 := [42, 3, 181, 0, 1, 27]
abbrev dktX8_count_0 : List UInt8 := dkwX8_count_0 ++ dktX8_count_1
theorem dksX8_count_0 : cX8_count.data.toList.drop 0 = dktX8_count_0 := by decide +kernel
theorem dksX8_count_1 : cX8_count.data.toList.drop 6 = dktX8_count_1 := dk_seg dksX8_count_0 6 rfl rfl
theorem dksX8_count_2 : cX8_count.data.toList.drop 68 = dktX8_count_2 := dk_seg dksX8_count_1 62 rfl rfl
theorem dksX8_count_3 : cX8_count.data.toList.drop 92 = dktX8_count_3 := dk_seg dksX8_count_2 24 rfl rfl
theorem dksX8_count_4 : cX8_count.data.toList.drop 114 = dktX8_count_4 := dk_seg dksX8_count_3 22 rfl rfl
theorem dksX8_count_5 : cX8_count.data.toList.drop 138 = dktX8_count_5 := dk_seg dksX8_count_4 24 rfl rfl
theorem dksX8_count_6 : cX8_count.data.toList.drop 162 = dktX8_count_6 := dk_seg dksX8_count_5 24 rfl rfl
theorem dX8_count_0 : decode cX8_count 0 = .ok (.aload_n 0, 1) := dk_42 (dk_at dksX8_count_0 0 rfl rfl)
theorem dX8_count_1 : decode cX8_count 1 = .ok (.iconst 0, 1) := dk_3 (dk_at dksX8_count_0 1 rfl rfl)
theorem dX8_count_2 : decode cX8_count 2 = .ok (.putfield 1, 3) := dk_181 0 1 (dk_at dksX8_count_0 2 rfl rfl)
theorem dX8_count_5 : decode cX8_count 5 = .ok (.iload_n 1, 1) := dk_27 (dk_at dksX8_count_0 5 rfl rfl)
theorem dX8_count_6 : decode cX8_count 6 = .ok (.tableswitch 157 0 11 #[62, 69, 77, 85, 93, 101, 112, 120, 128, 136, 144, 149], 62) := by decide +kernel
theorem dX8_count_68 : decode cX8_count 68 = .ok (.aload_n 0, 1) := dk_42 (dk_at dksX8_count_2 0 rfl rfl)
theorem dX8_count_69 : decode cX8_count 69 = .ok (.getfield 13, 3) := dk_180 0 13 (dk_at dksX8_count_2 1 rfl rfl)
theorem dX8_count_72 : decode cX8_count 72 = .ok (.iconst 0, 1) := dk_3 (dk_at dksX8_count_2 4 rfl rfl)
theorem dX8_count_73 : decode cX8_count 73 = .ok (.iaload, 1) := dk_46 (dk_at dksX8_count_2 5 rfl rfl)
theorem dX8_count_74 : decode cX8_count 74 = .ok (.ireturn, 1) := dk_172 (dk_at dksX8_count_2 6 rfl rfl)
theorem dX8_count_75 : decode cX8_count 75 = .ok (.aload_n 0, 1) := dk_42 (dk_at dksX8_count_2 7 rfl rfl)
theorem dX8_count_76 : decode cX8_count 76 = .ok (.getfield 13, 3) := dk_180 0 13 (dk_at dksX8_count_2 8 rfl rfl)
theorem dX8_count_79 : decode cX8_count 79 = .ok (.bipush 6, 2) := dk_16 6 (dk_at dksX8_count_2 11 rfl rfl)
theorem dX8_count_81 : decode cX8_count 81 = .ok (.iaload, 1) := dk_46 (dk_at dksX8_count_2 13 rfl rfl)
theorem dX8_count_82 : decode cX8_count 82 = .ok (.ireturn, 1) := dk_172 (dk_at dksX8_count_2 14 rfl rfl)
theorem dX8_count_83 : decode cX8_count 83 = .ok (.aload_n 0, 1) := dk_42 (dk_at dksX8_count_2 15 rfl rfl)
theorem dX8_count_84 : decode cX8_count 84 = .ok (.getfield 13, 3) := dk_180 0 13 (dk_at dksX8_count_2 16 rfl rfl)
theorem dX8_count_87 : decode cX8_count 87 = .ok (.bipush 56, 2) := dk_16 56 (dk_at dksX8_count_2 19 rfl rfl)
theorem dX8_count_89 : decode cX8_count 89 = .ok (.iaload, 1) := dk_46 (dk_at dksX8_count_2 21 rfl rfl)
theorem dX8_count_90 : decode cX8_count 90 = .ok (.ireturn, 1) := dk_172 (dk_at dksX8_count_2 22 rfl rfl)
theorem dX8_count_91 : decode cX8_count 91 = .ok (.aload_n 0, 1) := dk_42 (dk_at dksX8_count_2 23 rfl rfl)
theorem dX8_count_92 : decode cX8_count 92 = .ok (.getfield 13, 3) := dk_180 0 13 (dk_at dksX8_count_3 0 rfl rfl)
theorem dX8_count_95 : decode cX8_count 95 = .ok (.bipush 114, 2) := dk_16 114 (dk_at dksX8_count_3 3 rfl rfl)
theorem dX8_count_97 : decode cX8_count 97 = .ok (.iaload, 1) := dk_46 (dk_at dksX8_count_3 5 rfl rfl)
theorem dX8_count_98 : decode cX8_count 98 = .ok (.ireturn, 1) := dk_172 (dk_at dksX8_count_3 6 rfl rfl)
theorem dX8_count_99 : decode cX8_count 99 = .ok (.aload_n 0, 1) := dk_42 (dk_at dksX8_count_3 7 rfl rfl)
theorem dX8_count_100 : decode cX8_count 100 = .ok (.getfield 13, 3) := dk_180 0 13 (dk_at dksX8_count_3 8 rfl rfl)
theorem dX8_count_103 : decode cX8_count 103 = .ok (.bipush 112, 2) := dk_16 112 (dk_at dksX8_count_3 11 rfl rfl)
theorem dX8_count_105 : decode cX8_count 105 = .ok (.iaload, 1) := dk_46 (dk_at dksX8_count_3 13 rfl rfl)
theorem dX8_count_106 : decode cX8_count 106 = .ok (.ireturn, 1) := dk_172 (dk_at dksX8_count_3 14 rfl rfl)
theorem dX8_count_107 : decode cX8_count 107 = .ok (.aload_n 0, 1) := dk_42 (dk_at dksX8_count_3 15 rfl rfl)
theorem dX8_count_108 : decode cX8_count 108 = .ok (.getfield 13, 3) := dk_180 0 13 (dk_at dksX8_count_3 16 rfl rfl)
theorem dX8_count_111 : decode cX8_count 111 = .ok (.bipush 95, 2) := dk_16 95 (dk_at dksX8_count_3 19 rfl rfl)
theorem dX8_count_113 : decode cX8_count 113 = .ok (.iaload, 1) := dk_46 (dk_at dksX8_count_3 21 rfl rfl)
theorem dX8_count_114 : decode cX8_count 114 = .ok (.invokestatic 247, 3) := dk_184 0 247 (dk_at dksX8_count_4 0 rfl rfl)
theorem dX8_count_117 : decode cX8_count 117 = .ok (.ireturn, 1) := dk_172 (dk_at dksX8_count_4 3 rfl rfl)
theorem dX8_count_118 : decode cX8_count 118 = .ok (.aload_n 0, 1) := dk_42 (dk_at dksX8_count_4 4 rfl rfl)
theorem dX8_count_119 : decode cX8_count 119 = .ok (.getfield 13, 3) := dk_180 0 13 (dk_at dksX8_count_4 5 rfl rfl)
theorem dX8_count_122 : decode cX8_count 122 = .ok (.bipush 75, 2) := dk_16 75 (dk_at dksX8_count_4 8 rfl rfl)
theorem dX8_count_124 : decode cX8_count 124 = .ok (.iaload, 1) := dk_46 (dk_at dksX8_count_4 10 rfl rfl)
theorem dX8_count_125 : decode cX8_count 125 = .ok (.ireturn, 1) := dk_172 (dk_at dksX8_count_4 11 rfl rfl)
theorem dX8_count_126 : decode cX8_count 126 = .ok (.aload_n 0, 1) := dk_42 (dk_at dksX8_count_4 12 rfl rfl)
theorem dX8_count_127 : decode cX8_count 127 = .ok (.getfield 13, 3) := dk_180 0 13 (dk_at dksX8_count_4 13 rfl rfl)
theorem dX8_count_130 : decode cX8_count 130 = .ok (.bipush 76, 2) := dk_16 76 (dk_at dksX8_count_4 16 rfl rfl)
theorem dX8_count_132 : decode cX8_count 132 = .ok (.iaload, 1) := dk_46 (dk_at dksX8_count_4 18 rfl rfl)
theorem dX8_count_133 : decode cX8_count 133 = .ok (.ireturn, 1) := dk_172 (dk_at dksX8_count_4 19 rfl rfl)
theorem dX8_count_134 : decode cX8_count 134 = .ok (.aload_n 0, 1) := dk_42 (dk_at dksX8_count_4 20 rfl rfl)
theorem dX8_count_135 : decode cX8_count 135 = .ok (.getfield 13, 3) := dk_180 0 13 (dk_at dksX8_count_4 21 rfl rfl)
theorem dX8_count_138 : decode cX8_count 138 = .ok (.bipush 77, 2) := dk_16 77 (dk_at dksX8_count_5 0 rfl rfl)
theorem dX8_count_140 : decode cX8_count 140 = .ok (.iaload, 1) := dk_46 (dk_at dksX8_count_5 2 rfl rfl)
theorem dX8_count_141 : decode cX8_count 141 = .ok (.ireturn, 1) := dk_172 (dk_at dksX8_count_5 3 rfl rfl)
theorem dX8_count_142 : decode cX8_count 142 = .ok (.aload_n 0, 1) := dk_42 (dk_at dksX8_count_5 4 rfl rfl)
theorem dX8_count_143 : decode cX8_count 143 = .ok (.getfield 13, 3) := dk_180 0 13 (dk_at dksX8_count_5 5 rfl rfl)
theorem dX8_count_146 : decode cX8_count 146 = .ok (.bipush 78, 2) := dk_16 78 (dk_at dksX8_count_5 8 rfl rfl)
theorem dX8_count_148 : decode cX8_count 148 = .ok (.iaload, 1) := dk_46 (dk_at dksX8_count_5 10 rfl rfl)
theorem dX8_count_149 : decode cX8_count 149 = .ok (.ireturn, 1) := dk_172 (dk_at dksX8_count_5 11 rfl rfl)
theorem dX8_count_150 : decode cX8_count 150 = .ok (.aload_n 0, 1) := dk_42 (dk_at dksX8_count_5 12 rfl rfl)
theorem dX8_count_151 : decode cX8_count 151 = .ok (.getfield 90, 3) := dk_180 0 90 (dk_at dksX8_count_5 13 rfl rfl)
theorem dX8_count_154 : decode cX8_count 154 = .ok (.ireturn, 1) := dk_172 (dk_at dksX8_count_5 16 rfl rfl)
theorem dX8_count_155 : decode cX8_count 155 = .ok (.aload_n 0, 1) := dk_42 (dk_at dksX8_count_5 17 rfl rfl)
theorem dX8_count_156 : decode cX8_count 156 = .ok (.getfield 13, 3) := dk_180 0 13 (dk_at dksX8_count_5 18 rfl rfl)
theorem dX8_count_159 : decode cX8_count 159 = .ok (.bipush 79, 2) := dk_16 79 (dk_at dksX8_count_5 21 rfl rfl)
theorem dX8_count_161 : decode cX8_count 161 = .ok (.iaload, 1) := dk_46 (dk_at dksX8_count_5 23 rfl rfl)
theorem dX8_count_162 : decode cX8_count 162 = .ok (.ireturn, 1) := dk_172 (dk_at dksX8_count_6 0 rfl rfl)
theorem dX8_count_163 : decode cX8_count 163 = .ok (.iconst (-1), 1) := dk_2 (dk_at dksX8_count_6 1 rfl rfl)
theorem dX8_count_164 : decode cX8_count 164 = .ok (.ireturn, 1) := dk_172 (dk_at dksX8_count_6 2 rfl rfl)
theorem q142 : (Jvm.Cond.initialized "StoneYearModel") ∈ lw_all := lw_g (lw_at lw_m1 14 rfl) rfl
theorem q764 : (Jvm.Cond.selects "StoneYearModel" ({ cls := "java/lang/Object", name := "getClass", desc := "()Ljava/lang/Class;" } : Jvm.MethodName) ({ cls := "java/lang/Object", name := "getClass", desc := "()Ljava/lang/Class;" } : Jvm.MethodName)) ∈ lw_all := lw_g (lw_at lw_m3 156 rfl) rfl
theorem q1617 : (Jvm.Cond.instantiable "StoneYearModel" (46 : Nat)) ∈ lw_all := lw_g (lw_at lw_m7 49 rfl) rfl
theorem q1619 : (Jvm.Cond.instanceMethod ({ cls := "StoneYearModel", name := "<init>", desc := "()V" } : Jvm.MethodName)) ∈ lw_all := lw_g (lw_at lw_m7 51 rfl) rfl
theorem q1620 : (Jvm.Cond.code ({ cls := "StoneYearModel", name := "<init>", desc := "()V" } : Jvm.MethodName) prog_20_method_3_code (1 : Nat) (Option.none : Option Jvm.ClassFile.FieldType)) ∈ lw_all := lw_g (lw_at lw_m7 52 rfl) rfl
theorem q1621 : (Jvm.Cond.methodLink "StoneYearModel" (7 : Nat) ({ cls := "java/lang/Object", name := "<init>", desc := "()V" } : Jvm.MethodName)) ∈ lw_all := lw_g (lw_at lw_m7 53 rfl) rfl
theorem q1622 : (Jvm.Cond.constant "StoneYearModel" (42 : Nat) (294912 : Int32)) ∈ lw_all := lw_g (lw_at lw_m7 54 rfl) rfl
theorem q1623 : (Jvm.Cond.methodLink "StoneYearModel" (86 : Nat) ({ cls := "StoneYearModel", name := "plain", desc := "([I)V" } : Jvm.MethodName)) ∈ lw_all := lw_g (lw_at lw_m7 55 rfl) rfl
theorem q1624 : (Jvm.Cond.static ({ cls := "StoneYearModel", name := "plain", desc := "([I)V" } : Jvm.MethodName)) ∈ lw_all := lw_g (lw_at lw_m7 56 rfl) rfl
theorem q1625 : (Jvm.Cond.code ({ cls := "StoneYearModel", name := "plain", desc := "([I)V" } : Jvm.MethodName) prog_20_method_4_code (2 : Nat) (Option.none : Option Jvm.ClassFile.FieldType)) ∈ lw_all := lw_g (lw_at lw_m7 57 rfl) rfl
theorem q1626 : (Jvm.Cond.fieldLink "StoneYearModel" (1 : Nat) "StoneYearModel" "thrown" "I") ∈ lw_all := lw_g (lw_at lw_m7 58 rfl) rfl
theorem q1627 : (Jvm.Cond.fieldLink "StoneYearModel" (13 : Nat) "StoneYearModel" "all" "[I") ∈ lw_all := lw_g (lw_at lw_m7 59 rfl) rfl
theorem q1628 : (Jvm.Cond.fieldLink "StoneYearModel" (17 : Nat) "StoneYearModel" "hasImage" "[Z") ∈ lw_all := lw_g (lw_at lw_m7 60 rfl) rfl
theorem q1629 : (Jvm.Cond.fieldLink "StoneYearModel" (21 : Nat) "StoneYearModel" "tape" "[I") ∈ lw_all := lw_g (lw_at lw_m7 61 rfl) rfl
theorem q1630 : (Jvm.Cond.fieldLink "StoneYearModel" (24 : Nat) "StoneYearModel" "fresh" "[I") ∈ lw_all := lw_g (lw_at lw_m7 62 rfl) rfl
theorem q1631 : (Jvm.Cond.fieldLink "StoneYearModel" (90 : Nat) "StoneYearModel" "taped" "I") ∈ lw_all := lw_g (lw_at lw_m7 63 rfl) rfl
theorem q1632 : (Jvm.Cond.fieldLink "StoneYearModel" (108 : Nat) "StoneYearModel" "at" "I") ∈ lw_all := lw_g (lw_at lw_m7 64 rfl) rfl
theorem q1633 : (Jvm.Cond.fieldLink "StoneYearModel" (111 : Nat) "StoneYearModel" "behind" "I") ∈ lw_all := lw_g (lw_at lw_m7 65 rfl) rfl
theorem q1634 : (Jvm.Cond.fieldLink "StoneYearModel" (93 : Nat) "StoneYearModel" "size" "I") ∈ lw_all := lw_g (lw_at lw_m7 66 rfl) rfl
theorem q1635 : (Jvm.Cond.fieldLink "StoneYearModel" (118 : Nat) "StoneYearModel" "kind" "I") ∈ lw_all := lw_g (lw_at lw_m7 67 rfl) rfl
theorem q1636 : (Jvm.Cond.fieldLink "StoneYearModel" (131 : Nat) "StoneYearModel" "number" "I") ∈ lw_all := lw_g (lw_at lw_m7 68 rfl) rfl
theorem q1637 : (Jvm.Cond.fieldLink "StoneYearModel" (134 : Nat) "StoneYearModel" "wrong" "I") ∈ lw_all := lw_g (lw_at lw_m7 69 rfl) rfl
theorem q1638 : (Jvm.Cond.fieldLink "StoneYearModel" (137 : Nat) "StoneYearModel" "wrongAt" "I") ∈ lw_all := lw_g (lw_at lw_m7 70 rfl) rfl
theorem q1639 : (Jvm.Cond.fieldLink "StoneYearModel" (192 : Nat) "StoneYearModel" "depth" "I") ∈ lw_all := lw_g (lw_at lw_m7 71 rfl) rfl
theorem q1640 : (Jvm.Cond.fieldLink "StoneYearModel" (179 : Nat) "StoneYearModel" "steps" "I") ∈ lw_all := lw_g (lw_at lw_m7 72 rfl) rfl
theorem q1641 : (Jvm.Cond.fieldLink "StoneYearModel" (208 : Nat) "StoneYearModel" "faultKind" "I") ∈ lw_all := lw_g (lw_at lw_m7 73 rfl) rfl
theorem q1642 : (Jvm.Cond.fieldLink "StoneYearModel" (27 : Nat) "StoneYearModel" "faultPlace" "I") ∈ lw_all := lw_g (lw_at lw_m7 74 rfl) rfl
theorem q1643 : (Jvm.Cond.fieldLink "StoneYearModel" (30 : Nat) "StoneYearModel" "on" "[I") ∈ lw_all := lw_g (lw_at lw_m7 75 rfl) rfl
theorem q1644 : (Jvm.Cond.fieldLink "StoneYearModel" (33 : Nat) "StoneYearModel" "many" "[I") ∈ lw_all := lw_g (lw_at lw_m7 76 rfl) rfl
theorem q1645 : (Jvm.Cond.fieldLink "StoneYearModel" (211 : Nat) "StoneYearModel" "moved" "I") ∈ lw_all := lw_g (lw_at lw_m7 77 rfl) rfl
theorem q1646 : (Jvm.Cond.fieldLink "StoneYearModel" (36 : Nat) "StoneYearModel" "pile" "[Z") ∈ lw_all := lw_g (lw_at lw_m7 78 rfl) rfl
theorem q1647 : (Jvm.Cond.fieldLink "StoneYearModel" (39 : Nat) "StoneYearModel" "aside" "I") ∈ lw_all := lw_g (lw_at lw_m7 79 rfl) rfl
theorem q1648 : (Jvm.Cond.fieldLink "StoneYearModel" (312 : Nat) "StoneYearModel" "judgedBy" "I") ∈ lw_all := lw_g (lw_at lw_m7 80 rfl) rfl
theorem q1649 : (Jvm.Cond.fieldLink "StoneYearModel" (305 : Nat) "StoneYearModel" "judgedYear" "I") ∈ lw_all := lw_g (lw_at lw_m7 81 rfl) rfl
theorem q1650 : (Jvm.Cond.fieldLink "StoneYearModel" (43 : Nat) "StoneYearModel" "leastCost" "[I") ∈ lw_all := lw_g (lw_at lw_m7 82 rfl) rfl
theorem q1651 : (Jvm.Cond.fieldLink "StoneYearModel" (46 : Nat) "StoneYearModel" "matched" "[I") ∈ lw_all := lw_g (lw_at lw_m7 83 rfl) rfl
theorem q1652 : (Jvm.Cond.fieldLink "StoneYearModel" (49 : Nat) "StoneYearModel" "order" "[I") ∈ lw_all := lw_g (lw_at lw_m7 84 rfl) rfl
theorem q1653 : (Jvm.Cond.fieldLink "StoneYearModel" (52 : Nat) "StoneYearModel" "lies" "[J") ∈ lw_all := lw_g (lw_at lw_m7 85 rfl) rfl
theorem q1654 : (Jvm.Cond.fieldLink "StoneYearModel" (56 : Nat) "StoneYearModel" "movedThen" "[I") ∈ lw_all := lw_g (lw_at lw_m7 86 rfl) rfl
theorem q1655 : (Jvm.Cond.fieldLink "StoneYearModel" (59 : Nat) "StoneYearModel" "yearTable" "[I") ∈ lw_all := lw_g (lw_at lw_m7 87 rfl) rfl
theorem q1656 : (Jvm.Cond.fieldLink "StoneYearModel" (62 : Nat) "StoneYearModel" "yearMark" "[I") ∈ lw_all := lw_g (lw_at lw_m7 88 rfl) rfl
theorem q1657 : (Jvm.Cond.fieldLink "StoneYearModel" (65 : Nat) "StoneYearModel" "beginTable" "[I") ∈ lw_all := lw_g (lw_at lw_m7 89 rfl) rfl
theorem q1658 : (Jvm.Cond.fieldLink "StoneYearModel" (68 : Nat) "StoneYearModel" "beginMark" "[I") ∈ lw_all := lw_g (lw_at lw_m7 90 rfl) rfl
theorem q1659 : (Jvm.Cond.fieldLink "StoneYearModel" (411 : Nat) "StoneYearModel" "statesTold" "I") ∈ lw_all := lw_g (lw_at lw_m7 91 rfl) rfl
theorem q1660 : (Jvm.Cond.fieldLink "StoneYearModel" (374 : Nat) "StoneYearModel" "found" "I") ∈ lw_all := lw_g (lw_at lw_m7 92 rfl) rfl
theorem q1661 : (Jvm.Cond.fieldLink "StoneYearModel" (387 : Nat) "StoneYearModel" "yearFrom" "I") ∈ lw_all := lw_g (lw_at lw_m7 93 rfl) rfl
theorem q1662 : (Jvm.Cond.fieldLink "StoneYearModel" (371 : Nat) "StoneYearModel" "mark" "I") ∈ lw_all := lw_g (lw_at lw_m7 94 rfl) rfl
theorem q1663 : (Jvm.Cond.fieldLink "StoneYearModel" (381 : Nat) "StoneYearModel" "beginsMark" "I") ∈ lw_all := lw_g (lw_at lw_m7 95 rfl) rfl
theorem q1664 : (Jvm.Cond.fieldLink "StoneYearModel" (384 : Nat) "StoneYearModel" "begins" "I") ∈ lw_all := lw_g (lw_at lw_m7 96 rfl) rfl
theorem q1665 : (Jvm.Cond.fieldLink "StoneYearModel" (71 : Nat) "StoneYearModel" "began" "[J") ∈ lw_all := lw_g (lw_at lw_m7 97 rfl) rfl
theorem q1666 : (Jvm.Cond.fieldLink "StoneYearModel" (377 : Nat) "StoneYearModel" "isSpent" "Z") ∈ lw_all := lw_g (lw_at lw_m7 98 rfl) rfl
theorem q1667 : (Jvm.Cond.fieldLink "StoneYearModel" (74 : Nat) "StoneYearModel" "wants" "[I") ∈ lw_all := lw_g (lw_at lw_m7 99 rfl) rfl
theorem q1668 : (Jvm.Cond.fieldLink "StoneYearModel" (77 : Nat) "StoneYearModel" "rowSort" "[I") ∈ lw_all := lw_g (lw_at lw_m7 100 rfl) rfl
theorem q1669 : (Jvm.Cond.fieldLink "StoneYearModel" (80 : Nat) "StoneYearModel" "rowMany" "[I") ∈ lw_all := lw_g (lw_at lw_m7 101 rfl) rfl
theorem q1670 : (Jvm.Cond.fieldLink "StoneYearModel" (83 : Nat) "StoneYearModel" "numbers" "[J") ∈ lw_all := lw_g (lw_at lw_m7 102 rfl) rfl
theorem q1671 : (Jvm.Cond.lays "StoneYearModel" "StoneYearModel" "thrown" "I") ∈ lw_all := lw_g (lw_at lw_m7 103 rfl) rfl
theorem q1672 : (Jvm.Cond.soleField "StoneYearModel" "thrown") ∈ lw_all := lw_g (lw_at lw_m7 104 rfl) rfl
theorem q1673 : (Jvm.Cond.laysFinal "StoneYearModel" "StoneYearModel" "all" "[I") ∈ lw_all := lw_g (lw_at lw_m7 105 rfl) rfl
theorem q1674 : (Jvm.Cond.soleField "StoneYearModel" "all") ∈ lw_all := lw_g (lw_at lw_m7 106 rfl) rfl
theorem q1675 : (Jvm.Cond.laysFinal "StoneYearModel" "StoneYearModel" "hasImage" "[Z") ∈ lw_all := lw_g (lw_at lw_m7 107 rfl) rfl
theorem q1676 : (Jvm.Cond.soleField "StoneYearModel" "hasImage") ∈ lw_all := lw_g (lw_at lw_m7 108 rfl) rfl
theorem q1677 : (Jvm.Cond.laysFinal "StoneYearModel" "StoneYearModel" "tape" "[I") ∈ lw_all := lw_g (lw_at lw_m7 109 rfl) rfl
theorem q1678 : (Jvm.Cond.soleField "StoneYearModel" "tape") ∈ lw_all := lw_g (lw_at lw_m7 110 rfl) rfl
theorem q1679 : (Jvm.Cond.laysFinal "StoneYearModel" "StoneYearModel" "fresh" "[I") ∈ lw_all := lw_g (lw_at lw_m7 111 rfl) rfl
theorem q1680 : (Jvm.Cond.soleField "StoneYearModel" "fresh") ∈ lw_all := lw_g (lw_at lw_m7 112 rfl) rfl
theorem q1681 : (Jvm.Cond.lays "StoneYearModel" "StoneYearModel" "taped" "I") ∈ lw_all := lw_g (lw_at lw_m7 113 rfl) rfl
theorem q1682 : (Jvm.Cond.soleField "StoneYearModel" "taped") ∈ lw_all := lw_g (lw_at lw_m7 114 rfl) rfl
theorem q1683 : (Jvm.Cond.lays "StoneYearModel" "StoneYearModel" "at" "I") ∈ lw_all := lw_g (lw_at lw_m7 115 rfl) rfl
theorem q1684 : (Jvm.Cond.soleField "StoneYearModel" "at") ∈ lw_all := lw_g (lw_at lw_m7 116 rfl) rfl
theorem q1685 : (Jvm.Cond.lays "StoneYearModel" "StoneYearModel" "behind" "I") ∈ lw_all := lw_g (lw_at lw_m7 117 rfl) rfl
theorem q1686 : (Jvm.Cond.soleField "StoneYearModel" "behind") ∈ lw_all := lw_g (lw_at lw_m7 118 rfl) rfl
theorem q1687 : (Jvm.Cond.lays "StoneYearModel" "StoneYearModel" "size" "I") ∈ lw_all := lw_g (lw_at lw_m7 119 rfl) rfl
theorem q1688 : (Jvm.Cond.soleField "StoneYearModel" "size") ∈ lw_all := lw_g (lw_at lw_m7 120 rfl) rfl
theorem q1689 : (Jvm.Cond.lays "StoneYearModel" "StoneYearModel" "kind" "I") ∈ lw_all := lw_g (lw_at lw_m7 121 rfl) rfl
theorem q1690 : (Jvm.Cond.soleField "StoneYearModel" "kind") ∈ lw_all := lw_g (lw_at lw_m7 122 rfl) rfl
theorem q1691 : (Jvm.Cond.lays "StoneYearModel" "StoneYearModel" "number" "I") ∈ lw_all := lw_g (lw_at lw_m7 123 rfl) rfl
theorem q1692 : (Jvm.Cond.soleField "StoneYearModel" "number") ∈ lw_all := lw_g (lw_at lw_m7 124 rfl) rfl
theorem q1693 : (Jvm.Cond.lays "StoneYearModel" "StoneYearModel" "wrong" "I") ∈ lw_all := lw_g (lw_at lw_m7 125 rfl) rfl
theorem q1694 : (Jvm.Cond.soleField "StoneYearModel" "wrong") ∈ lw_all := lw_g (lw_at lw_m7 126 rfl) rfl
theorem q1695 : (Jvm.Cond.lays "StoneYearModel" "StoneYearModel" "wrongAt" "I") ∈ lw_all := lw_g (lw_at lw_m7 127 rfl) rfl
theorem q1696 : (Jvm.Cond.soleField "StoneYearModel" "wrongAt") ∈ lw_all := lw_g (lw_at lw_m7 128 rfl) rfl
theorem q1697 : (Jvm.Cond.lays "StoneYearModel" "StoneYearModel" "depth" "I") ∈ lw_all := lw_g (lw_at lw_m7 129 rfl) rfl
theorem q1698 : (Jvm.Cond.soleField "StoneYearModel" "depth") ∈ lw_all := lw_g (lw_at lw_m7 130 rfl) rfl
theorem q1699 : (Jvm.Cond.lays "StoneYearModel" "StoneYearModel" "steps" "I") ∈ lw_all := lw_g (lw_at lw_m7 131 rfl) rfl
theorem q1700 : (Jvm.Cond.soleField "StoneYearModel" "steps") ∈ lw_all := lw_g (lw_at lw_m7 132 rfl) rfl
theorem q1701 : (Jvm.Cond.lays "StoneYearModel" "StoneYearModel" "faultKind" "I") ∈ lw_all := lw_g (lw_at lw_m7 133 rfl) rfl
theorem q1702 : (Jvm.Cond.soleField "StoneYearModel" "faultKind") ∈ lw_all := lw_g (lw_at lw_m7 134 rfl) rfl
theorem q1703 : (Jvm.Cond.lays "StoneYearModel" "StoneYearModel" "faultPlace" "I") ∈ lw_all := lw_g (lw_at lw_m7 135 rfl) rfl
theorem q1704 : (Jvm.Cond.soleField "StoneYearModel" "faultPlace") ∈ lw_all := lw_g (lw_at lw_m7 136 rfl) rfl
theorem q1705 : (Jvm.Cond.laysFinal "StoneYearModel" "StoneYearModel" "on" "[I") ∈ lw_all := lw_g (lw_at lw_m7 137 rfl) rfl
theorem q1706 : (Jvm.Cond.soleField "StoneYearModel" "on") ∈ lw_all := lw_g (lw_at lw_m7 138 rfl) rfl
theorem q1707 : (Jvm.Cond.laysFinal "StoneYearModel" "StoneYearModel" "many" "[I") ∈ lw_all := lw_g (lw_at lw_m7 139 rfl) rfl
theorem q1708 : (Jvm.Cond.soleField "StoneYearModel" "many") ∈ lw_all := lw_g (lw_at lw_m7 140 rfl) rfl
theorem q1709 : (Jvm.Cond.lays "StoneYearModel" "StoneYearModel" "moved" "I") ∈ lw_all := lw_g (lw_at lw_m7 141 rfl) rfl
theorem q1710 : (Jvm.Cond.soleField "StoneYearModel" "moved") ∈ lw_all := lw_g (lw_at lw_m7 142 rfl) rfl
theorem q1711 : (Jvm.Cond.laysFinal "StoneYearModel" "StoneYearModel" "pile" "[Z") ∈ lw_all := lw_g (lw_at lw_m7 143 rfl) rfl
theorem q1712 : (Jvm.Cond.soleField "StoneYearModel" "pile") ∈ lw_all := lw_g (lw_at lw_m7 144 rfl) rfl
theorem q1713 : (Jvm.Cond.lays "StoneYearModel" "StoneYearModel" "aside" "I") ∈ lw_all := lw_g (lw_at lw_m7 145 rfl) rfl
theorem q1714 : (Jvm.Cond.soleField "StoneYearModel" "aside") ∈ lw_all := lw_g (lw_at lw_m7 146 rfl) rfl
theorem q1715 : (Jvm.Cond.lays "StoneYearModel" "StoneYearModel" "judged" "I") ∈ lw_all := lw_g (lw_at lw_m7 147 rfl) rfl
theorem q1716 : (Jvm.Cond.soleField "StoneYearModel" "judged") ∈ lw_all := lw_g (lw_at lw_m7 148 rfl) rfl
theorem q1717 : (Jvm.Cond.lays "StoneYearModel" "StoneYearModel" "judgedBy" "I") ∈ lw_all := lw_g (lw_at lw_m7 149 rfl) rfl
theorem q1718 : (Jvm.Cond.soleField "StoneYearModel" "judgedBy") ∈ lw_all := lw_g (lw_at lw_m7 150 rfl) rfl
theorem q1719 : (Jvm.Cond.lays "StoneYearModel" "StoneYearModel" "judgedYear" "I") ∈ lw_all := lw_g (lw_at lw_m7 151 rfl) rfl
theorem q1720 : (Jvm.Cond.soleField "StoneYearModel" "judgedYear") ∈ lw_all := lw_g (lw_at lw_m7 152 rfl) rfl
theorem q1721 : (Jvm.Cond.laysFinal "StoneYearModel" "StoneYearModel" "leastCost" "[I") ∈ lw_all := lw_g (lw_at lw_m7 153 rfl) rfl
theorem q1722 : (Jvm.Cond.soleField "StoneYearModel" "leastCost") ∈ lw_all := lw_g (lw_at lw_m7 154 rfl) rfl
theorem q1723 : (Jvm.Cond.laysFinal "StoneYearModel" "StoneYearModel" "matched" "[I") ∈ lw_all := lw_g (lw_at lw_m7 155 rfl) rfl
theorem q1724 : (Jvm.Cond.soleField "StoneYearModel" "matched") ∈ lw_all := lw_g (lw_at lw_m7 156 rfl) rfl
theorem q1725 : (Jvm.Cond.laysFinal "StoneYearModel" "StoneYearModel" "order" "[I") ∈ lw_all := lw_g (lw_at lw_m7 157 rfl) rfl
theorem q1726 : (Jvm.Cond.soleField "StoneYearModel" "order") ∈ lw_all := lw_g (lw_at lw_m7 158 rfl) rfl
theorem q1727 : (Jvm.Cond.laysFinal "StoneYearModel" "StoneYearModel" "lies" "[J") ∈ lw_all := lw_g (lw_at lw_m7 159 rfl) rfl
theorem q1728 : (Jvm.Cond.soleField "StoneYearModel" "lies") ∈ lw_all := lw_g (lw_at lw_m7 160 rfl) rfl
theorem q1729 : (Jvm.Cond.laysFinal "StoneYearModel" "StoneYearModel" "movedThen" "[I") ∈ lw_all := lw_g (lw_at lw_m7 161 rfl) rfl
theorem q1730 : (Jvm.Cond.soleField "StoneYearModel" "movedThen") ∈ lw_all := lw_g (lw_at lw_m7 162 rfl) rfl
theorem q1731 : (Jvm.Cond.laysFinal "StoneYearModel" "StoneYearModel" "yearTable" "[I") ∈ lw_all := lw_g (lw_at lw_m7 163 rfl) rfl
theorem q1732 : (Jvm.Cond.soleField "StoneYearModel" "yearTable") ∈ lw_all := lw_g (lw_at lw_m7 164 rfl) rfl
theorem q1733 : (Jvm.Cond.laysFinal "StoneYearModel" "StoneYearModel" "yearMark" "[I") ∈ lw_all := lw_g (lw_at lw_m7 165 rfl) rfl
theorem q1734 : (Jvm.Cond.soleField "StoneYearModel" "yearMark") ∈ lw_all := lw_g (lw_at lw_m7 166 rfl) rfl
theorem q1735 : (Jvm.Cond.laysFinal "StoneYearModel" "StoneYearModel" "beginTable" "[I") ∈ lw_all := lw_g (lw_at lw_m7 167 rfl) rfl
theorem q1736 : (Jvm.Cond.soleField "StoneYearModel" "beginTable") ∈ lw_all := lw_g (lw_at lw_m7 168 rfl) rfl
theorem q1737 : (Jvm.Cond.laysFinal "StoneYearModel" "StoneYearModel" "beginMark" "[I") ∈ lw_all := lw_g (lw_at lw_m7 169 rfl) rfl
theorem q1738 : (Jvm.Cond.soleField "StoneYearModel" "beginMark") ∈ lw_all := lw_g (lw_at lw_m7 170 rfl) rfl
theorem q1739 : (Jvm.Cond.lays "StoneYearModel" "StoneYearModel" "statesTold" "I") ∈ lw_all := lw_g (lw_at lw_m7 171 rfl) rfl
theorem q1740 : (Jvm.Cond.soleField "StoneYearModel" "statesTold") ∈ lw_all := lw_g (lw_at lw_m7 172 rfl) rfl
theorem q1741 : (Jvm.Cond.lays "StoneYearModel" "StoneYearModel" "found" "I") ∈ lw_all := lw_g (lw_at lw_m7 173 rfl) rfl
theorem q1742 : (Jvm.Cond.soleField "StoneYearModel" "found") ∈ lw_all := lw_g (lw_at lw_m7 174 rfl) rfl
theorem q1743 : (Jvm.Cond.lays "StoneYearModel" "StoneYearModel" "yearFrom" "I") ∈ lw_all := lw_g (lw_at lw_m7 175 rfl) rfl
theorem q1744 : (Jvm.Cond.soleField "StoneYearModel" "yearFrom") ∈ lw_all := lw_g (lw_at lw_m7 176 rfl) rfl
theorem q1745 : (Jvm.Cond.lays "StoneYearModel" "StoneYearModel" "mark" "I") ∈ lw_all := lw_g (lw_at lw_m7 177 rfl) rfl
theorem q1746 : (Jvm.Cond.soleField "StoneYearModel" "mark") ∈ lw_all := lw_g (lw_at lw_m7 178 rfl) rfl
theorem q1747 : (Jvm.Cond.lays "StoneYearModel" "StoneYearModel" "beginsMark" "I") ∈ lw_all := lw_g (lw_at lw_m7 179 rfl) rfl
theorem q1748 : (Jvm.Cond.soleField "StoneYearModel" "beginsMark") ∈ lw_all := lw_g (lw_at lw_m7 180 rfl) rfl
theorem q1749 : (Jvm.Cond.lays "StoneYearModel" "StoneYearModel" "begins" "I") ∈ lw_all := lw_g (lw_at lw_m7 181 rfl) rfl
theorem q1750 : (Jvm.Cond.soleField "StoneYearModel" "begins") ∈ lw_all := lw_g (lw_at lw_m7 182 rfl) rfl
theorem q1751 : (Jvm.Cond.laysFinal "StoneYearModel" "StoneYearModel" "began" "[J") ∈ lw_all := lw_g (lw_at lw_m7 183 rfl) rfl
theorem q1752 : (Jvm.Cond.soleField "StoneYearModel" "began") ∈ lw_all := lw_g (lw_at lw_m7 184 rfl) rfl
theorem q1753 : (Jvm.Cond.lays "StoneYearModel" "StoneYearModel" "isSpent" "Z") ∈ lw_all := lw_g (lw_at lw_m7 185 rfl) rfl
theorem q1754 : (Jvm.Cond.soleField "StoneYearModel" "isSpent") ∈ lw_all := lw_g (lw_at lw_m7 186 rfl) rfl
theorem q1755 : (Jvm.Cond.laysFinal "StoneYearModel" "StoneYearModel" "wants" "[I") ∈ lw_all := lw_g (lw_at lw_m7 187 rfl) rfl
theorem q1756 : (Jvm.Cond.soleField "StoneYearModel" "wants") ∈ lw_all := lw_g (lw_at lw_m7 188 rfl) rfl
theorem q1757 : (Jvm.Cond.laysFinal "StoneYearModel" "StoneYearModel" "rowSort" "[I") ∈ lw_all := lw_g (lw_at lw_m7 189 rfl) rfl
theorem q1758 : (Jvm.Cond.soleField "StoneYearModel" "rowSort") ∈ lw_all := lw_g (lw_at lw_m7 190 rfl) rfl
theorem q1759 : (Jvm.Cond.laysFinal "StoneYearModel" "StoneYearModel" "rowMany" "[I") ∈ lw_all := lw_g (lw_at lw_m7 191 rfl) rfl
theorem q1760 : (Jvm.Cond.soleField "StoneYearModel" "rowMany") ∈ lw_all := lw_g (lw_at lw_m7 192 rfl) rfl
theorem q1761 : (Jvm.Cond.laysFinal "StoneYearModel" "StoneYearModel" "numbers" "[J") ∈ lw_all := lw_g (lw_at lw_m7 193 rfl) rfl
theorem q1762 : (Jvm.Cond.soleField "StoneYearModel" "numbers") ∈ lw_all := lw_g (lw_at lw_m7 194 rfl) rfl
theorem q1763 : (Jvm.Cond.superclass "StoneYearModel" "java/lang/Object") ∈ lw_all := lw_g (lw_at lw_m7 195 rfl) rfl
theorem q1765 : (Jvm.Cond.instanceMethod ({ cls := "StoneYearModel", name := "feed", desc := "(IIIII)I" } : Jvm.MethodName)) ∈ lw_all := lw_g (lw_at lw_m7 197 rfl) rfl
theorem q1766 : (Jvm.Cond.selects "StoneYearModel" ({ cls := "StoneYearModel", name := "feed", desc := "(IIIII)I" } : Jvm.MethodName) ({ cls := "StoneYearModel", name := "feed", desc := "(IIIII)I" } : Jvm.MethodName)) ∈ lw_all := lw_g (lw_at lw_m7 198 rfl) rfl
theorem q1767 : (Jvm.Cond.code ({ cls := "StoneYearModel", name := "feed", desc := "(IIIII)I" } : Jvm.MethodName) prog_20_method_5_code (8 : Nat) (Option.some Jvm.ClassFile.FieldType.int)) ∈ lw_all := lw_g (lw_at lw_m7 199 rfl) rfl
theorem q1769 : (Jvm.Cond.instanceMethod ({ cls := "StoneYearModel", name := "text", desc := "(II)I" } : Jvm.MethodName)) ∈ lw_all := lw_g (lw_at lw_m7 201 rfl) rfl
theorem q1770 : (Jvm.Cond.selects "StoneYearModel" ({ cls := "StoneYearModel", name := "text", desc := "(II)I" } : Jvm.MethodName) ({ cls := "StoneYearModel", name := "text", desc := "(II)I" } : Jvm.MethodName)) ∈ lw_all := lw_g (lw_at lw_m7 202 rfl) rfl
theorem q1771 : (Jvm.Cond.code ({ cls := "StoneYearModel", name := "text", desc := "(II)I" } : Jvm.MethodName) prog_20_method_27_code (6 : Nat) (Option.some Jvm.ClassFile.FieldType.int)) ∈ lw_all := lw_g (lw_at lw_m7 203 rfl) rfl
theorem q1772 : (Jvm.Cond.methodLink "StoneYearModel" (153 : Nat) ({ cls := "StoneYearModel", name := "within", desc := "(JJJ)Z" } : Jvm.MethodName)) ∈ lw_all := lw_g (lw_at lw_m7 204 rfl) rfl
theorem q1773 : (Jvm.Cond.static ({ cls := "StoneYearModel", name := "within", desc := "(JJJ)Z" } : Jvm.MethodName)) ∈ lw_all := lw_g (lw_at lw_m7 205 rfl) rfl
theorem q1774 : (Jvm.Cond.code ({ cls := "StoneYearModel", name := "within", desc := "(JJJ)Z" } : Jvm.MethodName) prog_20_method_2_code (6 : Nat) (Option.some Jvm.ClassFile.FieldType.boolean)) ∈ lw_all := lw_g (lw_at lw_m7 206 rfl) rfl
theorem q1775 : (Jvm.Cond.methodLink "StoneYearModel" (143 : Nat) ({ cls := "StoneYearModel", name := "next", desc := "()V" } : Jvm.MethodName)) ∈ lw_all := lw_g (lw_at lw_m7 207 rfl) rfl
theorem q1776 : (Jvm.Cond.privateMethod ({ cls := "StoneYearModel", name := "next", desc := "()V" } : Jvm.MethodName)) ∈ lw_tbl := lw_at lw_m7 208 rfl
theorem q1777 : (Jvm.Cond.instanceMethod ({ cls := "StoneYearModel", name := "next", desc := "()V" } : Jvm.MethodName)) ∈ lw_all := lw_g (lw_at lw_m7 209 rfl) rfl
theorem q1778 : (Jvm.Cond.code ({ cls := "StoneYearModel", name := "next", desc := "()V" } : Jvm.MethodName) prog_20_method_10_code (1 : Nat) (Option.none : Option Jvm.ClassFile.FieldType)) ∈ lw_all := lw_g (lw_at lw_m7 210 rfl) rfl
theorem q1779 : (Jvm.Cond.methodLink "StoneYearModel" (114 : Nat) ({ cls := "StoneYearModel", name := "see", desc := "(I)I" } : Jvm.MethodName)) ∈ lw_all := lw_g (lw_at lw_m7 211 rfl) rfl
theorem q1780 : (Jvm.Cond.privateMethod ({ cls := "StoneYearModel", name := "see", desc := "(I)I" } : Jvm.MethodName)) ∈ lw_tbl := lw_at lw_m7 212 rfl
theorem q1781 : (Jvm.Cond.instanceMethod ({ cls := "StoneYearModel", name := "see", desc := "(I)I" } : Jvm.MethodName)) ∈ lw_all := lw_g (lw_at lw_m7 213 rfl) rfl
theorem q1782 : (Jvm.Cond.code ({ cls := "StoneYearModel", name := "see", desc := "(I)I" } : Jvm.MethodName) prog_20_method_6_code (2 : Nat) (Option.some Jvm.ClassFile.FieldType.int)) ∈ lw_all := lw_g (lw_at lw_m7 214 rfl) rfl
theorem q1783 : (Jvm.Cond.methodLink "StoneYearModel" (121 : Nat) ({ cls := "StoneYearModel", name := "isSmall", desc := "(I)Z" } : Jvm.MethodName)) ∈ lw_all := lw_g (lw_at lw_m7 215 rfl) rfl
theorem q1784 : (Jvm.Cond.static ({ cls := "StoneYearModel", name := "isSmall", desc := "(I)Z" } : Jvm.MethodName)) ∈ lw_all := lw_g (lw_at lw_m7 216 rfl) rfl
theorem q1785 : (Jvm.Cond.code ({ cls := "StoneYearModel", name := "isSmall", desc := "(I)Z" } : Jvm.MethodName) prog_20_method_7_code (1 : Nat) (Option.some Jvm.ClassFile.FieldType.boolean)) ∈ lw_all := lw_g (lw_at lw_m7 217 rfl) rfl
theorem q1786 : (Jvm.Cond.methodLink "StoneYearModel" (125 : Nat) ({ cls := "StoneYearModel", name := "keyAt", desc := "()I" } : Jvm.MethodName)) ∈ lw_all := lw_g (lw_at lw_m7 218 rfl) rfl
theorem q1787 : (Jvm.Cond.privateMethod ({ cls := "StoneYearModel", name := "keyAt", desc := "()I" } : Jvm.MethodName)) ∈ lw_tbl := lw_at lw_m7 219 rfl
theorem q1788 : (Jvm.Cond.instanceMethod ({ cls := "StoneYearModel", name := "keyAt", desc := "()I" } : Jvm.MethodName)) ∈ lw_all := lw_g (lw_at lw_m7 220 rfl) rfl
theorem q1789 : (Jvm.Cond.code ({ cls := "StoneYearModel", name := "keyAt", desc := "()I" } : Jvm.MethodName) prog_20_method_9_code (4 : Nat) (Option.some Jvm.ClassFile.FieldType.int)) ∈ lw_all := lw_g (lw_at lw_m7 221 rfl) rfl
theorem q1790 : (Jvm.Cond.stringRef "StoneYearModel" (96 : Nat) " row stone size at bears wish by for roof lane over most ring flood bar if or and not sort from to high full ") ∈ lw_tbl := lw_at lw_m7 222 rfl
theorem q1791 : (Jvm.Cond.methodLink "StoneYearModel" (98 : Nat) ({ cls := "java/lang/String", name := "length", desc := "()I" } : Jvm.MethodName)) ∈ lw_all := lw_g (lw_at lw_m7 223 rfl) rfl
theorem q1792 : (Jvm.Cond.methodLink "StoneYearModel" (104 : Nat) ({ cls := "java/lang/String", name := "charAt", desc := "(I)C" } : Jvm.MethodName)) ∈ lw_all := lw_g (lw_at lw_m7 224 rfl) rfl
theorem q1793 : (Jvm.Cond.methodLink "StoneYearModel" (128 : Nat) ({ cls := "StoneYearModel", name := "isDigit", desc := "(I)Z" } : Jvm.MethodName)) ∈ lw_all := lw_g (lw_at lw_m7 225 rfl) rfl
theorem q1794 : (Jvm.Cond.static ({ cls := "StoneYearModel", name := "isDigit", desc := "(I)Z" } : Jvm.MethodName)) ∈ lw_all := lw_g (lw_at lw_m7 226 rfl) rfl
theorem q1795 : (Jvm.Cond.code ({ cls := "StoneYearModel", name := "isDigit", desc := "(I)Z" } : Jvm.MethodName) prog_20_method_8_code (1 : Nat) (Option.some Jvm.ClassFile.FieldType.boolean)) ∈ lw_all := lw_g (lw_at lw_m7 227 rfl) rfl
theorem q1796 : (Jvm.Cond.methodLink "StoneYearModel" (202 : Nat) ({ cls := "StoneYearModel", name := "readLine", desc := "()V" } : Jvm.MethodName)) ∈ lw_all := lw_g (lw_at lw_m7 228 rfl) rfl
theorem q1797 : (Jvm.Cond.privateMethod ({ cls := "StoneYearModel", name := "readLine", desc := "()V" } : Jvm.MethodName)) ∈ lw_tbl := lw_at lw_m7 229 rfl
theorem q1798 : (Jvm.Cond.instanceMethod ({ cls := "StoneYearModel", name := "readLine", desc := "()V" } : Jvm.MethodName)) ∈ lw_all := lw_g (lw_at lw_m7 230 rfl) rfl
theorem q1799 : (Jvm.Cond.code ({ cls := "StoneYearModel", name := "readLine", desc := "()V" } : Jvm.MethodName) prog_20_method_21_code (1 : Nat) (Option.none : Option Jvm.ClassFile.FieldType)) ∈ lw_all := lw_g (lw_at lw_m7 231 rfl) rfl
theorem q1800 : (Jvm.Cond.methodLink "StoneYearModel" (140 : Nat) ({ cls := "StoneYearModel", name := "is", desc := "(I)Z" } : Jvm.MethodName)) ∈ lw_all := lw_g (lw_at lw_m7 232 rfl) rfl
theorem q1801 : (Jvm.Cond.privateMethod ({ cls := "StoneYearModel", name := "is", desc := "(I)Z" } : Jvm.MethodName)) ∈ lw_tbl := lw_at lw_m7 233 rfl
theorem q1802 : (Jvm.Cond.instanceMethod ({ cls := "StoneYearModel", name := "is", desc := "(I)Z" } : Jvm.MethodName)) ∈ lw_all := lw_g (lw_at lw_m7 234 rfl) rfl
theorem q1803 : (Jvm.Cond.code ({ cls := "StoneYearModel", name := "is", desc := "(I)Z" } : Jvm.MethodName) prog_20_method_12_code (2 : Nat) (Option.some Jvm.ClassFile.FieldType.boolean)) ∈ lw_all := lw_g (lw_at lw_m7 235 rfl) rfl
theorem q1804 : (Jvm.Cond.methodLink "StoneYearModel" (167 : Nat) ({ cls := "StoneYearModel", name := "readRow", desc := "()V" } : Jvm.MethodName)) ∈ lw_all := lw_g (lw_at lw_m7 236 rfl) rfl
theorem q1805 : (Jvm.Cond.privateMethod ({ cls := "StoneYearModel", name := "readRow", desc := "()V" } : Jvm.MethodName)) ∈ lw_tbl := lw_at lw_m7 237 rfl
theorem q1806 : (Jvm.Cond.instanceMethod ({ cls := "StoneYearModel", name := "readRow", desc := "()V" } : Jvm.MethodName)) ∈ lw_all := lw_g (lw_at lw_m7 238 rfl) rfl
theorem q1807 : (Jvm.Cond.code ({ cls := "StoneYearModel", name := "readRow", desc := "()V" } : Jvm.MethodName) prog_20_method_17_code (2 : Nat) (Option.none : Option Jvm.ClassFile.FieldType)) ∈ lw_all := lw_g (lw_at lw_m7 239 rfl) rfl
theorem q1808 : (Jvm.Cond.methodLink "StoneYearModel" (149 : Nat) ({ cls := "StoneYearModel", name := "fails", desc := "(I)V" } : Jvm.MethodName)) ∈ lw_all := lw_g (lw_at lw_m8 0 rfl) rfl
theorem q1809 : (Jvm.Cond.privateMethod ({ cls := "StoneYearModel", name := "fails", desc := "(I)V" } : Jvm.MethodName)) ∈ lw_tbl := lw_at lw_m8 1 rfl
theorem q1810 : (Jvm.Cond.instanceMethod ({ cls := "StoneYearModel", name := "fails", desc := "(I)V" } : Jvm.MethodName)) ∈ lw_all := lw_g (lw_at lw_m8 2 rfl) rfl
theorem q1811 : (Jvm.Cond.code ({ cls := "StoneYearModel", name := "fails", desc := "(I)V" } : Jvm.MethodName) prog_20_method_11_code (2 : Nat) (Option.none : Option Jvm.ClassFile.FieldType)) ∈ lw_all := lw_g (lw_at lw_m8 3 rfl) rfl
theorem q1812 : (Jvm.Cond.methodLink "StoneYearModel" (157 : Nat) ({ cls := "StoneYearModel", name := "reads", desc := "(II)I" } : Jvm.MethodName)) ∈ lw_all := lw_g (lw_at lw_m8 4 rfl) rfl
theorem q1813 : (Jvm.Cond.privateMethod ({ cls := "StoneYearModel", name := "reads", desc := "(II)I" } : Jvm.MethodName)) ∈ lw_tbl := lw_at lw_m8 5 rfl
theorem q1814 : (Jvm.Cond.instanceMethod ({ cls := "StoneYearModel", name := "reads", desc := "(II)I" } : Jvm.MethodName)) ∈ lw_all := lw_g (lw_at lw_m8 6 rfl) rfl
theorem q1815 : (Jvm.Cond.code ({ cls := "StoneYearModel", name := "reads", desc := "(II)I" } : Jvm.MethodName) prog_20_method_15_code (4 : Nat) (Option.some Jvm.ClassFile.FieldType.int)) ∈ lw_all := lw_g (lw_at lw_m8 7 rfl) rfl
theorem q1816 : (Jvm.Cond.methodLink "StoneYearModel" (170 : Nat) ({ cls := "StoneYearModel", name := "readStone", desc := "()V" } : Jvm.MethodName)) ∈ lw_all := lw_g (lw_at lw_m8 8 rfl) rfl
theorem q1817 : (Jvm.Cond.privateMethod ({ cls := "StoneYearModel", name := "readStone", desc := "()V" } : Jvm.MethodName)) ∈ lw_tbl := lw_at lw_m8 9 rfl
theorem q1818 : (Jvm.Cond.instanceMethod ({ cls := "StoneYearModel", name := "readStone", desc := "()V" } : Jvm.MethodName)) ∈ lw_all := lw_g (lw_at lw_m8 10 rfl) rfl
theorem q1819 : (Jvm.Cond.code ({ cls := "StoneYearModel", name := "readStone", desc := "()V" } : Jvm.MethodName) prog_20_method_18_code (6 : Nat) (Option.none : Option Jvm.ClassFile.FieldType)) ∈ lw_all := lw_g (lw_at lw_m8 11 rfl) rfl
theorem q1820 : (Jvm.Cond.methodLink "StoneYearModel" (161 : Nat) ({ cls := "StoneYearModel", name := "needs", desc := "(I)V" } : Jvm.MethodName)) ∈ lw_all := lw_g (lw_at lw_m8 12 rfl) rfl
theorem q1821 : (Jvm.Cond.privateMethod ({ cls := "StoneYearModel", name := "needs", desc := "(I)V" } : Jvm.MethodName)) ∈ lw_tbl := lw_at lw_m8 13 rfl
theorem q1822 : (Jvm.Cond.instanceMethod ({ cls := "StoneYearModel", name := "needs", desc := "(I)V" } : Jvm.MethodName)) ∈ lw_all := lw_g (lw_at lw_m8 14 rfl) rfl
theorem q1823 : (Jvm.Cond.code ({ cls := "StoneYearModel", name := "needs", desc := "(I)V" } : Jvm.MethodName) prog_20_method_14_code (2 : Nat) (Option.none : Option Jvm.ClassFile.FieldType)) ∈ lw_all := lw_g (lw_at lw_m8 15 rfl) rfl
theorem q1824 : (Jvm.Cond.methodLink "StoneYearModel" (146 : Nat) ({ cls := "StoneYearModel", name := "eats", desc := "(I)Z" } : Jvm.MethodName)) ∈ lw_all := lw_g (lw_at lw_m8 16 rfl) rfl
theorem q1825 : (Jvm.Cond.privateMethod ({ cls := "StoneYearModel", name := "eats", desc := "(I)Z" } : Jvm.MethodName)) ∈ lw_tbl := lw_at lw_m8 17 rfl
theorem q1826 : (Jvm.Cond.instanceMethod ({ cls := "StoneYearModel", name := "eats", desc := "(I)Z" } : Jvm.MethodName)) ∈ lw_all := lw_g (lw_at lw_m8 18 rfl) rfl
theorem q1827 : (Jvm.Cond.code ({ cls := "StoneYearModel", name := "eats", desc := "(I)Z" } : Jvm.MethodName) prog_20_method_13_code (2 : Nat) (Option.some Jvm.ClassFile.FieldType.boolean)) ∈ lw_all := lw_g (lw_at lw_m8 19 rfl) rfl
theorem q1828 : (Jvm.Cond.methodLink "StoneYearModel" (164 : Nat) ({ cls := "StoneYearModel", name := "freshMany", desc := "(I)I" } : Jvm.MethodName)) ∈ lw_all := lw_g (lw_at lw_m8 20 rfl) rfl
theorem q1829 : (Jvm.Cond.privateMethod ({ cls := "StoneYearModel", name := "freshMany", desc := "(I)I" } : Jvm.MethodName)) ∈ lw_tbl := lw_at lw_m8 21 rfl
theorem q1830 : (Jvm.Cond.instanceMethod ({ cls := "StoneYearModel", name := "freshMany", desc := "(I)I" } : Jvm.MethodName)) ∈ lw_all := lw_g (lw_at lw_m8 22 rfl) rfl
theorem q1831 : (Jvm.Cond.code ({ cls := "StoneYearModel", name := "freshMany", desc := "(I)I" } : Jvm.MethodName) prog_20_method_16_code (3 : Nat) (Option.some Jvm.ClassFile.FieldType.int)) ∈ lw_all := lw_g (lw_at lw_m8 23 rfl) rfl
theorem q1832 : (Jvm.Cond.methodLink "StoneYearModel" (173 : Nat) ({ cls := "StoneYearModel", name := "readWish", desc := "()V" } : Jvm.MethodName)) ∈ lw_all := lw_g (lw_at lw_m8 24 rfl) rfl
theorem q1833 : (Jvm.Cond.privateMethod ({ cls := "StoneYearModel", name := "readWish", desc := "()V" } : Jvm.MethodName)) ∈ lw_tbl := lw_at lw_m8 25 rfl
theorem q1834 : (Jvm.Cond.instanceMethod ({ cls := "StoneYearModel", name := "readWish", desc := "()V" } : Jvm.MethodName)) ∈ lw_all := lw_g (lw_at lw_m8 26 rfl) rfl
theorem q1835 : (Jvm.Cond.code ({ cls := "StoneYearModel", name := "readWish", desc := "()V" } : Jvm.MethodName) prog_20_method_19_code (5 : Nat) (Option.none : Option Jvm.ClassFile.FieldType)) ∈ lw_all := lw_g (lw_at lw_m8 27 rfl) rfl
theorem q1836 : (Jvm.Cond.methodLink "StoneYearModel" (176 : Nat) ({ cls := "StoneYearModel", name := "readMust", desc := "(I)V" } : Jvm.MethodName)) ∈ lw_all := lw_g (lw_at lw_m8 28 rfl) rfl
theorem q1837 : (Jvm.Cond.privateMethod ({ cls := "StoneYearModel", name := "readMust", desc := "(I)V" } : Jvm.MethodName)) ∈ lw_tbl := lw_at lw_m8 29 rfl
theorem q1838 : (Jvm.Cond.instanceMethod ({ cls := "StoneYearModel", name := "readMust", desc := "(I)V" } : Jvm.MethodName)) ∈ lw_all := lw_g (lw_at lw_m8 30 rfl) rfl
theorem q1839 : (Jvm.Cond.code ({ cls := "StoneYearModel", name := "readMust", desc := "(I)V" } : Jvm.MethodName) prog_20_method_20_code (5 : Nat) (Option.none : Option Jvm.ClassFile.FieldType)) ∈ lw_all := lw_g (lw_at lw_m8 31 rfl) rfl
theorem q1840 : (Jvm.Cond.methodLink "StoneYearModel" (205 : Nat) ({ cls := "StoneYearModel", name := "readBar", desc := "()V" } : Jvm.MethodName)) ∈ lw_all := lw_g (lw_at lw_m8 32 rfl) rfl
theorem q1841 : (Jvm.Cond.privateMethod ({ cls := "StoneYearModel", name := "readBar", desc := "()V" } : Jvm.MethodName)) ∈ lw_tbl := lw_at lw_m8 33 rfl
theorem q1842 : (Jvm.Cond.instanceMethod ({ cls := "StoneYearModel", name := "readBar", desc := "()V" } : Jvm.MethodName)) ∈ lw_all := lw_g (lw_at lw_m8 34 rfl) rfl
theorem q1843 : (Jvm.Cond.code ({ cls := "StoneYearModel", name := "readBar", desc := "()V" } : Jvm.MethodName) prog_20_method_26_code (2 : Nat) (Option.none : Option Jvm.ClassFile.FieldType)) ∈ lw_all := lw_g (lw_at lw_m8 35 rfl) rfl
theorem q1844 : (Jvm.Cond.methodLink "StoneYearModel" (195 : Nat) ({ cls := "StoneYearModel", name := "readTest", desc := "()V" } : Jvm.MethodName)) ∈ lw_all := lw_g (lw_at lw_m8 36 rfl) rfl
theorem q1845 : (Jvm.Cond.privateMethod ({ cls := "StoneYearModel", name := "readTest", desc := "()V" } : Jvm.MethodName)) ∈ lw_tbl := lw_at lw_m8 37 rfl
theorem q1846 : (Jvm.Cond.instanceMethod ({ cls := "StoneYearModel", name := "readTest", desc := "()V" } : Jvm.MethodName)) ∈ lw_all := lw_g (lw_at lw_m8 38 rfl) rfl
theorem q1847 : (Jvm.Cond.code ({ cls := "StoneYearModel", name := "readTest", desc := "()V" } : Jvm.MethodName) prog_20_method_23_code (1 : Nat) (Option.none : Option Jvm.ClassFile.FieldType)) ∈ lw_all := lw_g (lw_at lw_m8 39 rfl) rfl
theorem q1848 : (Jvm.Cond.methodLink "StoneYearModel" (182 : Nat) ({ cls := "StoneYearModel", name := "readPart", desc := "()V" } : Jvm.MethodName)) ∈ lw_all := lw_g (lw_at lw_m8 40 rfl) rfl
theorem q1849 : (Jvm.Cond.privateMethod ({ cls := "StoneYearModel", name := "readPart", desc := "()V" } : Jvm.MethodName)) ∈ lw_tbl := lw_at lw_m8 41 rfl
theorem q1850 : (Jvm.Cond.instanceMethod ({ cls := "StoneYearModel", name := "readPart", desc := "()V" } : Jvm.MethodName)) ∈ lw_all := lw_g (lw_at lw_m8 42 rfl) rfl
theorem q1851 : (Jvm.Cond.code ({ cls := "StoneYearModel", name := "readPart", desc := "()V" } : Jvm.MethodName) prog_20_method_24_code (1 : Nat) (Option.none : Option Jvm.ClassFile.FieldType)) ∈ lw_all := lw_g (lw_at lw_m8 43 rfl) rfl
theorem q1852 : (Jvm.Cond.methodLink "StoneYearModel" (189 : Nat) ({ cls := "StoneYearModel", name := "readFact", desc := "()V" } : Jvm.MethodName)) ∈ lw_all := lw_g (lw_at lw_m8 44 rfl) rfl
theorem q1853 : (Jvm.Cond.privateMethod ({ cls := "StoneYearModel", name := "readFact", desc := "()V" } : Jvm.MethodName)) ∈ lw_tbl := lw_at lw_m8 45 rfl
theorem q1854 : (Jvm.Cond.instanceMethod ({ cls := "StoneYearModel", name := "readFact", desc := "()V" } : Jvm.MethodName)) ∈ lw_all := lw_g (lw_at lw_m8 46 rfl) rfl
theorem q1855 : (Jvm.Cond.code ({ cls := "StoneYearModel", name := "readFact", desc := "()V" } : Jvm.MethodName) prog_20_method_25_code (3 : Nat) (Option.none : Option Jvm.ClassFile.FieldType)) ∈ lw_all := lw_g (lw_at lw_m8 47 rfl) rfl
theorem q1856 : (Jvm.Cond.methodLink "StoneYearModel" (185 : Nat) ({ cls := "StoneYearModel", name := "emit", desc := "(II)V" } : Jvm.MethodName)) ∈ lw_all := lw_g (lw_at lw_m8 48 rfl) rfl
theorem q1857 : (Jvm.Cond.privateMethod ({ cls := "StoneYearModel", name := "emit", desc := "(II)V" } : Jvm.MethodName)) ∈ lw_tbl := lw_at lw_m8 49 rfl
theorem q1858 : (Jvm.Cond.instanceMethod ({ cls := "StoneYearModel", name := "emit", desc := "(II)V" } : Jvm.MethodName)) ∈ lw_all := lw_g (lw_at lw_m8 50 rfl) rfl
theorem q1859 : (Jvm.Cond.code ({ cls := "StoneYearModel", name := "emit", desc := "(II)V" } : Jvm.MethodName) prog_20_method_22_code (3 : Nat) (Option.none : Option Jvm.ClassFile.FieldType)) ∈ lw_all := lw_g (lw_at lw_m8 51 rfl) rfl
theorem q1860 : (Jvm.Cond.constantLong "StoneYearModel" (198 : Nat) (19 : Int64)) ∈ lw_all := lw_g (lw_at lw_m8 52 rfl) rfl
theorem q1861 : (Jvm.Cond.constantLong "StoneYearModel" (200 : Nat) (23 : Int64)) ∈ lw_all := lw_g (lw_at lw_m8 53 rfl) rfl
theorem q1863 : (Jvm.Cond.instanceMethod ({ cls := "StoneYearModel", name := "fault", desc := "(I)I" } : Jvm.MethodName)) ∈ lw_all := lw_g (lw_at lw_m8 55 rfl) rfl
theorem q1864 : (Jvm.Cond.selects "StoneYearModel" ({ cls := "StoneYearModel", name := "fault", desc := "(I)I" } : Jvm.MethodName) ({ cls := "StoneYearModel", name := "fault", desc := "(I)I" } : Jvm.MethodName)) ∈ lw_all := lw_g (lw_at lw_m8 56 rfl) rfl
theorem q1865 : (Jvm.Cond.code ({ cls := "StoneYearModel", name := "fault", desc := "(I)I" } : Jvm.MethodName) prog_20_method_28_code (2 : Nat) (Option.some Jvm.ClassFile.FieldType.int)) ∈ lw_all := lw_g (lw_at lw_m8 57 rfl) rfl
theorem q1867 : (Jvm.Cond.instanceMethod ({ cls := "StoneYearModel", name := "stone", desc := "(II)I" } : Jvm.MethodName)) ∈ lw_all := lw_g (lw_at lw_m8 59 rfl) rfl
theorem q1868 : (Jvm.Cond.selects "StoneYearModel" ({ cls := "StoneYearModel", name := "stone", desc := "(II)I" } : Jvm.MethodName) ({ cls := "StoneYearModel", name := "stone", desc := "(II)I" } : Jvm.MethodName)) ∈ lw_all := lw_g (lw_at lw_m8 60 rfl) rfl
theorem q1869 : (Jvm.Cond.code ({ cls := "StoneYearModel", name := "stone", desc := "(II)I" } : Jvm.MethodName) prog_20_method_50_code (3 : Nat) (Option.some Jvm.ClassFile.FieldType.int)) ∈ lw_all := lw_g (lw_at lw_m8 61 rfl) rfl
theorem q1870 : (Jvm.Cond.methodLink "StoneYearModel" (250 : Nat) ({ cls := "StoneYearModel", name := "isStone", desc := "(I)Z" } : Jvm.MethodName)) ∈ lw_all := lw_g (lw_at lw_m8 62 rfl) rfl
theorem q1871 : (Jvm.Cond.privateMethod ({ cls := "StoneYearModel", name := "isStone", desc := "(I)Z" } : Jvm.MethodName)) ∈ lw_tbl := lw_at lw_m8 63 rfl
theorem q1872 : (Jvm.Cond.instanceMethod ({ cls := "StoneYearModel", name := "isStone", desc := "(I)Z" } : Jvm.MethodName)) ∈ lw_all := lw_g (lw_at lw_m8 64 rfl) rfl
theorem q1873 : (Jvm.Cond.code ({ cls := "StoneYearModel", name := "isStone", desc := "(I)Z" } : Jvm.MethodName) prog_20_method_49_code (2 : Nat) (Option.some Jvm.ClassFile.FieldType.boolean)) ∈ lw_all := lw_g (lw_at lw_m8 65 rfl) rfl
theorem q1874 : (Jvm.Cond.constantLong "StoneYearModel" (253 : Nat) (6 : Int64)) ∈ lw_all := lw_g (lw_at lw_m8 66 rfl) rfl
theorem q1875 : (Jvm.Cond.methodLink "StoneYearModel" (255 : Nat) ({ cls := "StoneYearModel", name := "placeOf", desc := "(I)I" } : Jvm.MethodName)) ∈ lw_all := lw_g (lw_at lw_m8 67 rfl) rfl
theorem q1876 : (Jvm.Cond.privateMethod ({ cls := "StoneYearModel", name := "placeOf", desc := "(I)I" } : Jvm.MethodName)) ∈ lw_tbl := lw_at lw_m8 68 rfl
theorem q1877 : (Jvm.Cond.instanceMethod ({ cls := "StoneYearModel", name := "placeOf", desc := "(I)I" } : Jvm.MethodName)) ∈ lw_all := lw_g (lw_at lw_m8 69 rfl) rfl
theorem q1878 : (Jvm.Cond.code ({ cls := "StoneYearModel", name := "placeOf", desc := "(I)I" } : Jvm.MethodName) prog_20_method_48_code (3 : Nat) (Option.some Jvm.ClassFile.FieldType.int)) ∈ lw_all := lw_g (lw_at lw_m8 70 rfl) rfl
theorem q1880 : (Jvm.Cond.instanceMethod ({ cls := "StoneYearModel", name := "lies", desc := "(I)I" } : Jvm.MethodName)) ∈ lw_all := lw_g (lw_at lw_m8 72 rfl) rfl
theorem q1881 : (Jvm.Cond.selects "StoneYearModel" ({ cls := "StoneYearModel", name := "lies", desc := "(I)I" } : Jvm.MethodName) ({ cls := "StoneYearModel", name := "lies", desc := "(I)I" } : Jvm.MethodName)) ∈ lw_all := lw_g (lw_at lw_m8 73 rfl) rfl
theorem q1882 : (Jvm.Cond.code ({ cls := "StoneYearModel", name := "lies", desc := "(I)I" } : Jvm.MethodName) prog_20_method_51_code (2 : Nat) (Option.some Jvm.ClassFile.FieldType.int)) ∈ lw_all := lw_g (lw_at lw_m8 74 rfl) rfl
theorem q1883 : (Jvm.Cond.constantLong "StoneYearModel" (258 : Nat) (14 : Int64)) ∈ lw_all := lw_g (lw_at lw_m8 75 rfl) rfl
theorem q1885 : (Jvm.Cond.instanceMethod ({ cls := "StoneYearModel", name := "row", desc := "(II)I" } : Jvm.MethodName)) ∈ lw_all := lw_g (lw_at lw_m8 77 rfl) rfl
theorem q1886 : (Jvm.Cond.selects "StoneYearModel" ({ cls := "StoneYearModel", name := "row", desc := "(II)I" } : Jvm.MethodName) ({ cls := "StoneYearModel", name := "row", desc := "(II)I" } : Jvm.MethodName)) ∈ lw_all := lw_g (lw_at lw_m8 78 rfl) rfl
theorem q1887 : (Jvm.Cond.code ({ cls := "StoneYearModel", name := "row", desc := "(II)I" } : Jvm.MethodName) prog_20_method_52_code (3 : Nat) (Option.some Jvm.ClassFile.FieldType.int)) ∈ lw_all := lw_g (lw_at lw_m8 79 rfl) rfl
theorem q1888 : (Jvm.Cond.methodLink "StoneYearModel" (223 : Nat) ({ cls := "StoneYearModel", name := "isRow", desc := "(I)Z" } : Jvm.MethodName)) ∈ lw_all := lw_g (lw_at lw_m8 80 rfl) rfl
theorem q1889 : (Jvm.Cond.privateMethod ({ cls := "StoneYearModel", name := "isRow", desc := "(I)Z" } : Jvm.MethodName)) ∈ lw_tbl := lw_at lw_m8 81 rfl
theorem q1890 : (Jvm.Cond.instanceMethod ({ cls := "StoneYearModel", name := "isRow", desc := "(I)Z" } : Jvm.MethodName)) ∈ lw_all := lw_g (lw_at lw_m8 82 rfl) rfl
theorem q1891 : (Jvm.Cond.code ({ cls := "StoneYearModel", name := "isRow", desc := "(I)Z" } : Jvm.MethodName) prog_20_method_34_code (2 : Nat) (Option.some Jvm.ClassFile.FieldType.boolean)) ∈ lw_all := lw_g (lw_at lw_m8 83 rfl) rfl
theorem q1892 : (Jvm.Cond.methodLink "StoneYearModel" (260 : Nat) ({ cls := "StoneYearModel", name := "looksNow", desc := "()V" } : Jvm.MethodName)) ∈ lw_all := lw_g (lw_at lw_m8 84 rfl) rfl
theorem q1893 : (Jvm.Cond.privateMethod ({ cls := "StoneYearModel", name := "looksNow", desc := "()V" } : Jvm.MethodName)) ∈ lw_tbl := lw_at lw_m8 85 rfl
theorem q1894 : (Jvm.Cond.instanceMethod ({ cls := "StoneYearModel", name := "looksNow", desc := "()V" } : Jvm.MethodName)) ∈ lw_all := lw_g (lw_at lw_m8 86 rfl) rfl
theorem q1895 : (Jvm.Cond.code ({ cls := "StoneYearModel", name := "looksNow", desc := "()V" } : Jvm.MethodName) prog_20_method_29_code (2 : Nat) (Option.none : Option Jvm.ClassFile.FieldType)) ∈ lw_all := lw_g (lw_at lw_m8 87 rfl) rfl
theorem q1896 : (Jvm.Cond.methodLink "StoneYearModel" (214 : Nat) ({ cls := "StoneYearModel", name := "counts", desc := "()V" } : Jvm.MethodName)) ∈ lw_all := lw_g (lw_at lw_m8 88 rfl) rfl
theorem q1897 : (Jvm.Cond.privateMethod ({ cls := "StoneYearModel", name := "counts", desc := "()V" } : Jvm.MethodName)) ∈ lw_tbl := lw_at lw_m8 89 rfl
theorem q1898 : (Jvm.Cond.instanceMethod ({ cls := "StoneYearModel", name := "counts", desc := "()V" } : Jvm.MethodName)) ∈ lw_all := lw_g (lw_at lw_m8 90 rfl) rfl
theorem q1899 : (Jvm.Cond.code ({ cls := "StoneYearModel", name := "counts", desc := "()V" } : Jvm.MethodName) prog_20_method_30_code (3 : Nat) (Option.none : Option Jvm.ClassFile.FieldType)) ∈ lw_all := lw_g (lw_at lw_m8 91 rfl) rfl
theorem q1901 : (Jvm.Cond.instanceMethod ({ cls := "StoneYearModel", name := "rests", desc := "(I)I" } : Jvm.MethodName)) ∈ lw_all := lw_g (lw_at lw_m8 93 rfl) rfl
theorem q1902 : (Jvm.Cond.selects "StoneYearModel" ({ cls := "StoneYearModel", name := "rests", desc := "(I)I" } : Jvm.MethodName) ({ cls := "StoneYearModel", name := "rests", desc := "(I)I" } : Jvm.MethodName)) ∈ lw_all := lw_g (lw_at lw_m8 94 rfl) rfl
theorem q1903 : (Jvm.Cond.code ({ cls := "StoneYearModel", name := "rests", desc := "(I)I" } : Jvm.MethodName) prog_20_method_54_code (2 : Nat) (Option.some Jvm.ClassFile.FieldType.int)) ∈ lw_all := lw_g (lw_at lw_m8 95 rfl) rfl
theorem q1904 : (Jvm.Cond.methodLink "StoneYearModel" (263 : Nat) ({ cls := "StoneYearModel", name := "heavy", desc := "()I" } : Jvm.MethodName)) ∈ lw_all := lw_g (lw_at lw_m8 96 rfl) rfl
theorem q1905 : (Jvm.Cond.privateMethod ({ cls := "StoneYearModel", name := "heavy", desc := "()I" } : Jvm.MethodName)) ∈ lw_tbl := lw_at lw_m8 97 rfl
theorem q1906 : (Jvm.Cond.instanceMethod ({ cls := "StoneYearModel", name := "heavy", desc := "()I" } : Jvm.MethodName)) ∈ lw_all := lw_g (lw_at lw_m8 98 rfl) rfl
theorem q1907 : (Jvm.Cond.code ({ cls := "StoneYearModel", name := "heavy", desc := "()I" } : Jvm.MethodName) prog_20_method_53_code (5 : Nat) (Option.some Jvm.ClassFile.FieldType.int)) ∈ lw_all := lw_g (lw_at lw_m8 99 rfl) rfl
theorem q1908 : (Jvm.Cond.methodLink "StoneYearModel" (244 : Nat) ({ cls := "StoneYearModel", name := "brokenMust", desc := "()I" } : Jvm.MethodName)) ∈ lw_all := lw_g (lw_at lw_m8 100 rfl) rfl
theorem q1909 : (Jvm.Cond.privateMethod ({ cls := "StoneYearModel", name := "brokenMust", desc := "()I" } : Jvm.MethodName)) ∈ lw_tbl := lw_at lw_m8 101 rfl
theorem q1910 : (Jvm.Cond.instanceMethod ({ cls := "StoneYearModel", name := "brokenMust", desc := "()I" } : Jvm.MethodName)) ∈ lw_all := lw_g (lw_at lw_m8 102 rfl) rfl
theorem q1911 : (Jvm.Cond.code ({ cls := "StoneYearModel", name := "brokenMust", desc := "()I" } : Jvm.MethodName) prog_20_method_39_code (3 : Nat) (Option.some Jvm.ClassFile.FieldType.int)) ∈ lw_all := lw_g (lw_at lw_m8 103 rfl) rfl
theorem q1913 : (Jvm.Cond.instanceMethod ({ cls := "StoneYearModel", name := "may", desc := "(II)I" } : Jvm.MethodName)) ∈ lw_all := lw_g (lw_at lw_m8 105 rfl) rfl
theorem q1914 : (Jvm.Cond.selects "StoneYearModel" ({ cls := "StoneYearModel", name := "may", desc := "(II)I" } : Jvm.MethodName) ({ cls := "StoneYearModel", name := "may", desc := "(II)I" } : Jvm.MethodName)) ∈ lw_all := lw_g (lw_at lw_m8 106 rfl) rfl
theorem q1915 : (Jvm.Cond.code ({ cls := "StoneYearModel", name := "may", desc := "(II)I" } : Jvm.MethodName) prog_20_method_55_code (3 : Nat) (Option.some Jvm.ClassFile.FieldType.int)) ∈ lw_all := lw_g (lw_at lw_m8 107 rfl) rfl
theorem q1916 : (Jvm.Cond.methodLink "StoneYearModel" (266 : Nat) ({ cls := "StoneYearModel", name := "mayCarry", desc := "(II)I" } : Jvm.MethodName)) ∈ lw_all := lw_g (lw_at lw_m8 108 rfl) rfl
theorem q1917 : (Jvm.Cond.privateMethod ({ cls := "StoneYearModel", name := "mayCarry", desc := "(II)I" } : Jvm.MethodName)) ∈ lw_tbl := lw_at lw_m8 109 rfl
theorem q1918 : (Jvm.Cond.instanceMethod ({ cls := "StoneYearModel", name := "mayCarry", desc := "(II)I" } : Jvm.MethodName)) ∈ lw_all := lw_g (lw_at lw_m8 110 rfl) rfl
theorem q1919 : (Jvm.Cond.code ({ cls := "StoneYearModel", name := "mayCarry", desc := "(II)I" } : Jvm.MethodName) prog_20_method_42_code (5 : Nat) (Option.some Jvm.ClassFile.FieldType.int)) ∈ lw_all := lw_g (lw_at lw_m8 111 rfl) rfl
theorem q1920 : (Jvm.Cond.methodLink "StoneYearModel" (226 : Nat) ({ cls := "StoneYearModel", name := "topOf", desc := "(I)I" } : Jvm.MethodName)) ∈ lw_all := lw_g (lw_at lw_m8 112 rfl) rfl
theorem q1921 : (Jvm.Cond.privateMethod ({ cls := "StoneYearModel", name := "topOf", desc := "(I)I" } : Jvm.MethodName)) ∈ lw_tbl := lw_at lw_m8 113 rfl
theorem q1922 : (Jvm.Cond.instanceMethod ({ cls := "StoneYearModel", name := "topOf", desc := "(I)I" } : Jvm.MethodName)) ∈ lw_all := lw_g (lw_at lw_m8 114 rfl) rfl
theorem q1923 : (Jvm.Cond.code ({ cls := "StoneYearModel", name := "topOf", desc := "(I)I" } : Jvm.MethodName) prog_20_method_33_code (2 : Nat) (Option.some Jvm.ClassFile.FieldType.int)) ∈ lw_all := lw_g (lw_at lw_m8 115 rfl) rfl
theorem q1924 : (Jvm.Cond.methodLink "StoneYearModel" (229 : Nat) ({ cls := "StoneYearModel", name := "wasMoved", desc := "(I)Z" } : Jvm.MethodName)) ∈ lw_all := lw_g (lw_at lw_m8 116 rfl) rfl
theorem q1925 : (Jvm.Cond.privateMethod ({ cls := "StoneYearModel", name := "wasMoved", desc := "(I)Z" } : Jvm.MethodName)) ∈ lw_tbl := lw_at lw_m8 117 rfl
theorem q1926 : (Jvm.Cond.instanceMethod ({ cls := "StoneYearModel", name := "wasMoved", desc := "(I)Z" } : Jvm.MethodName)) ∈ lw_all := lw_g (lw_at lw_m8 118 rfl) rfl
theorem q1927 : (Jvm.Cond.code ({ cls := "StoneYearModel", name := "wasMoved", desc := "(I)Z" } : Jvm.MethodName) prog_20_method_41_code (2 : Nat) (Option.some Jvm.ClassFile.FieldType.boolean)) ∈ lw_all := lw_g (lw_at lw_m8 119 rfl) rfl
theorem q1928 : (Jvm.Cond.methodLink "StoneYearModel" (232 : Nat) ({ cls := "StoneYearModel", name := "isShut", desc := "(II)Z" } : Jvm.MethodName)) ∈ lw_all := lw_g (lw_at lw_m8 120 rfl) rfl
theorem q1929 : (Jvm.Cond.privateMethod ({ cls := "StoneYearModel", name := "isShut", desc := "(II)Z" } : Jvm.MethodName)) ∈ lw_tbl := lw_at lw_m8 121 rfl
theorem q1930 : (Jvm.Cond.instanceMethod ({ cls := "StoneYearModel", name := "isShut", desc := "(II)Z" } : Jvm.MethodName)) ∈ lw_all := lw_g (lw_at lw_m8 122 rfl) rfl
theorem q1931 : (Jvm.Cond.code ({ cls := "StoneYearModel", name := "isShut", desc := "(II)Z" } : Jvm.MethodName) prog_20_method_35_code (6 : Nat) (Option.some Jvm.ClassFile.FieldType.boolean)) ∈ lw_all := lw_g (lw_at lw_m8 123 rfl) rfl
theorem q1932 : (Jvm.Cond.methodLink "StoneYearModel" (236 : Nat) ({ cls := "StoneYearModel", name := "isHeavy", desc := "(III)Z" } : Jvm.MethodName)) ∈ lw_all := lw_g (lw_at lw_m8 124 rfl) rfl
theorem q1933 : (Jvm.Cond.privateMethod ({ cls := "StoneYearModel", name := "isHeavy", desc := "(III)Z" } : Jvm.MethodName)) ∈ lw_tbl := lw_at lw_m8 125 rfl
theorem q1934 : (Jvm.Cond.instanceMethod ({ cls := "StoneYearModel", name := "isHeavy", desc := "(III)Z" } : Jvm.MethodName)) ∈ lw_all := lw_g (lw_at lw_m8 126 rfl) rfl
theorem q1935 : (Jvm.Cond.code ({ cls := "StoneYearModel", name := "isHeavy", desc := "(III)Z" } : Jvm.MethodName) prog_20_method_36_code (7 : Nat) (Option.some Jvm.ClassFile.FieldType.boolean)) ∈ lw_all := lw_g (lw_at lw_m8 127 rfl) rfl
theorem q1936 : (Jvm.Cond.methodLink "StoneYearModel" (240 : Nat) ({ cls := "StoneYearModel", name := "isBarred", desc := "(IIIII)Z" } : Jvm.MethodName)) ∈ lw_all := lw_g (lw_at lw_m8 128 rfl) rfl
theorem q1937 : (Jvm.Cond.privateMethod ({ cls := "StoneYearModel", name := "isBarred", desc := "(IIIII)Z" } : Jvm.MethodName)) ∈ lw_tbl := lw_at lw_m8 129 rfl
theorem q1938 : (Jvm.Cond.instanceMethod ({ cls := "StoneYearModel", name := "isBarred", desc := "(IIIII)Z" } : Jvm.MethodName)) ∈ lw_all := lw_g (lw_at lw_m8 130 rfl) rfl
theorem q1939 : (Jvm.Cond.code ({ cls := "StoneYearModel", name := "isBarred", desc := "(IIIII)Z" } : Jvm.MethodName) prog_20_method_38_code (10 : Nat) (Option.some Jvm.ClassFile.FieldType.boolean)) ∈ lw_all := lw_g (lw_at lw_m8 131 rfl) rfl
theorem q1940 : (Jvm.Cond.methodLink "StoneYearModel" (219 : Nat) ({ cls := "StoneYearModel", name := "fact", desc := "(IIIIIII)Z" } : Jvm.MethodName)) ∈ lw_all := lw_g (lw_at lw_m8 132 rfl) rfl
theorem q1941 : (Jvm.Cond.privateMethod ({ cls := "StoneYearModel", name := "fact", desc := "(IIIIIII)Z" } : Jvm.MethodName)) ∈ lw_tbl := lw_at lw_m8 133 rfl
theorem q1942 : (Jvm.Cond.instanceMethod ({ cls := "StoneYearModel", name := "fact", desc := "(IIIIIII)Z" } : Jvm.MethodName)) ∈ lw_all := lw_g (lw_at lw_m8 134 rfl) rfl
theorem q1943 : (Jvm.Cond.code ({ cls := "StoneYearModel", name := "fact", desc := "(IIIIIII)Z" } : Jvm.MethodName) prog_20_method_37_code (8 : Nat) (Option.some Jvm.ClassFile.FieldType.boolean)) ∈ lw_all := lw_g (lw_at lw_m8 135 rfl) rfl
theorem q1944 : (Jvm.Cond.methodLink "StoneYearModel" (247 : Nat) ({ cls := "StoneYearModel", name := "bitsOf", desc := "(I)I" } : Jvm.MethodName)) ∈ lw_all := lw_g (lw_at lw_m8 136 rfl) rfl
theorem q1945 : (Jvm.Cond.static ({ cls := "StoneYearModel", name := "bitsOf", desc := "(I)I" } : Jvm.MethodName)) ∈ lw_all := lw_g (lw_at lw_m8 137 rfl) rfl
theorem q1946 : (Jvm.Cond.code ({ cls := "StoneYearModel", name := "bitsOf", desc := "(I)I" } : Jvm.MethodName) prog_20_method_40_code (3 : Nat) (Option.some Jvm.ClassFile.FieldType.int)) ∈ lw_all := lw_g (lw_at lw_m8 138 rfl) rfl
theorem q1948 : (Jvm.Cond.instanceMethod ({ cls := "StoneYearModel", name := "mayExchange", desc := "(II)I" } : Jvm.MethodName)) ∈ lw_all := lw_g (lw_at lw_m8 140 rfl) rfl
theorem q1949 : (Jvm.Cond.selects "StoneYearModel" ({ cls := "StoneYearModel", name := "mayExchange", desc := "(II)I" } : Jvm.MethodName) ({ cls := "StoneYearModel", name := "mayExchange", desc := "(II)I" } : Jvm.MethodName)) ∈ lw_all := lw_g (lw_at lw_m8 141 rfl) rfl
theorem q1950 : (Jvm.Cond.code ({ cls := "StoneYearModel", name := "mayExchange", desc := "(II)I" } : Jvm.MethodName) prog_20_method_56_code (3 : Nat) (Option.some Jvm.ClassFile.FieldType.int)) ∈ lw_all := lw_g (lw_at lw_m8 142 rfl) rfl
theorem q1951 : (Jvm.Cond.methodLink "StoneYearModel" (269 : Nat) ({ cls := "StoneYearModel", name := "mayTurn", desc := "(II)I" } : Jvm.MethodName)) ∈ lw_all := lw_g (lw_at lw_m8 143 rfl) rfl
theorem q1952 : (Jvm.Cond.privateMethod ({ cls := "StoneYearModel", name := "mayTurn", desc := "(II)I" } : Jvm.MethodName)) ∈ lw_tbl := lw_at lw_m8 144 rfl
theorem q1953 : (Jvm.Cond.instanceMethod ({ cls := "StoneYearModel", name := "mayTurn", desc := "(II)I" } : Jvm.MethodName)) ∈ lw_all := lw_g (lw_at lw_m8 145 rfl) rfl
theorem q1954 : (Jvm.Cond.code ({ cls := "StoneYearModel", name := "mayTurn", desc := "(II)I" } : Jvm.MethodName) prog_20_method_43_code (5 : Nat) (Option.some Jvm.ClassFile.FieldType.int)) ∈ lw_all := lw_g (lw_at lw_m8 146 rfl) rfl
theorem q1956 : (Jvm.Cond.instanceMethod ({ cls := "StoneYearModel", name := "carry", desc := "(II)I" } : Jvm.MethodName)) ∈ lw_all := lw_g (lw_at lw_m8 148 rfl) rfl
theorem q1957 : (Jvm.Cond.selects "StoneYearModel" ({ cls := "StoneYearModel", name := "carry", desc := "(II)I" } : Jvm.MethodName) ({ cls := "StoneYearModel", name := "carry", desc := "(II)I" } : Jvm.MethodName)) ∈ lw_all := lw_g (lw_at lw_m8 149 rfl) rfl
theorem q1958 : (Jvm.Cond.code ({ cls := "StoneYearModel", name := "carry", desc := "(II)I" } : Jvm.MethodName) prog_20_method_57_code (5 : Nat) (Option.some Jvm.ClassFile.FieldType.int)) ∈ lw_all := lw_g (lw_at lw_m8 150 rfl) rfl
theorem q1959 : (Jvm.Cond.methodLink "StoneYearModel" (272 : Nat) ({ cls := "StoneYearModel", name := "carries", desc := "(II)V" } : Jvm.MethodName)) ∈ lw_all := lw_g (lw_at lw_m8 151 rfl) rfl
theorem q1960 : (Jvm.Cond.privateMethod ({ cls := "StoneYearModel", name := "carries", desc := "(II)V" } : Jvm.MethodName)) ∈ lw_tbl := lw_at lw_m8 152 rfl
theorem q1961 : (Jvm.Cond.instanceMethod ({ cls := "StoneYearModel", name := "carries", desc := "(II)V" } : Jvm.MethodName)) ∈ lw_all := lw_g (lw_at lw_m8 153 rfl) rfl
theorem q1962 : (Jvm.Cond.code ({ cls := "StoneYearModel", name := "carries", desc := "(II)V" } : Jvm.MethodName) prog_20_method_44_code (4 : Nat) (Option.none : Option Jvm.ClassFile.FieldType)) ∈ lw_all := lw_g (lw_at lw_m8 154 rfl) rfl
theorem q1963 : (Jvm.Cond.methodLink "StoneYearModel" (275 : Nat) ({ cls := "StoneYearModel", name := "keepsNow", desc := "()V" } : Jvm.MethodName)) ∈ lw_all := lw_g (lw_at lw_m8 155 rfl) rfl
theorem q1964 : (Jvm.Cond.privateMethod ({ cls := "StoneYearModel", name := "keepsNow", desc := "()V" } : Jvm.MethodName)) ∈ lw_tbl := lw_at lw_m8 156 rfl
theorem q1965 : (Jvm.Cond.instanceMethod ({ cls := "StoneYearModel", name := "keepsNow", desc := "()V" } : Jvm.MethodName)) ∈ lw_all := lw_g (lw_at lw_m8 157 rfl) rfl
theorem q1966 : (Jvm.Cond.code ({ cls := "StoneYearModel", name := "keepsNow", desc := "()V" } : Jvm.MethodName) prog_20_method_46_code (2 : Nat) (Option.none : Option Jvm.ClassFile.FieldType)) ∈ lw_all := lw_g (lw_at lw_m8 158 rfl) rfl
theorem q1967 : (Jvm.Cond.methodLink "StoneYearModel" (278 : Nat) ({ cls := "StoneYearModel", name := "counted", desc := "(I)V" } : Jvm.MethodName)) ∈ lw_all := lw_g (lw_at lw_m8 159 rfl) rfl
theorem q1968 : (Jvm.Cond.privateMethod ({ cls := "StoneYearModel", name := "counted", desc := "(I)V" } : Jvm.MethodName)) ∈ lw_tbl := lw_at lw_m8 160 rfl
theorem q1969 : (Jvm.Cond.instanceMethod ({ cls := "StoneYearModel", name := "counted", desc := "(I)V" } : Jvm.MethodName)) ∈ lw_all := lw_g (lw_at lw_m8 161 rfl) rfl
theorem q1970 : (Jvm.Cond.code ({ cls := "StoneYearModel", name := "counted", desc := "(I)V" } : Jvm.MethodName) prog_20_method_47_code (2 : Nat) (Option.none : Option Jvm.ClassFile.FieldType)) ∈ lw_all := lw_g (lw_at lw_m8 162 rfl) rfl
theorem q1972 : (Jvm.Cond.instanceMethod ({ cls := "StoneYearModel", name := "exchange", desc := "(II)I" } : Jvm.MethodName)) ∈ lw_all := lw_g (lw_at lw_m8 164 rfl) rfl
theorem q1973 : (Jvm.Cond.selects "StoneYearModel" ({ cls := "StoneYearModel", name := "exchange", desc := "(II)I" } : Jvm.MethodName) ({ cls := "StoneYearModel", name := "exchange", desc := "(II)I" } : Jvm.MethodName)) ∈ lw_all := lw_g (lw_at lw_m8 165 rfl) rfl
theorem q1974 : (Jvm.Cond.code ({ cls := "StoneYearModel", name := "exchange", desc := "(II)I" } : Jvm.MethodName) prog_20_method_58_code (6 : Nat) (Option.some Jvm.ClassFile.FieldType.int)) ∈ lw_all := lw_g (lw_at lw_m8 166 rfl) rfl
theorem q1975 : (Jvm.Cond.methodLink "StoneYearModel" (281 : Nat) ({ cls := "StoneYearModel", name := "turns", desc := "(II)V" } : Jvm.MethodName)) ∈ lw_all := lw_g (lw_at lw_m8 167 rfl) rfl
theorem q1976 : (Jvm.Cond.privateMethod ({ cls := "StoneYearModel", name := "turns", desc := "(II)V" } : Jvm.MethodName)) ∈ lw_tbl := lw_at lw_m8 168 rfl
theorem q1977 : (Jvm.Cond.instanceMethod ({ cls := "StoneYearModel", name := "turns", desc := "(II)V" } : Jvm.MethodName)) ∈ lw_all := lw_g (lw_at lw_m8 169 rfl) rfl
theorem q1978 : (Jvm.Cond.code ({ cls := "StoneYearModel", name := "turns", desc := "(II)V" } : Jvm.MethodName) prog_20_method_45_code (6 : Nat) (Option.none : Option Jvm.ClassFile.FieldType)) ∈ lw_all := lw_g (lw_at lw_m8 170 rfl) rfl
theorem q1980 : (Jvm.Cond.instanceMethod ({ cls := "StoneYearModel", name := "year", desc := "()I" } : Jvm.MethodName)) ∈ lw_all := lw_g (lw_at lw_m8 172 rfl) rfl
theorem q1981 : (Jvm.Cond.selects "StoneYearModel" ({ cls := "StoneYearModel", name := "year", desc := "()I" } : Jvm.MethodName) ({ cls := "StoneYearModel", name := "year", desc := "()I" } : Jvm.MethodName)) ∈ lw_all := lw_g (lw_at lw_m8 173 rfl) rfl
theorem q1982 : (Jvm.Cond.code ({ cls := "StoneYearModel", name := "year", desc := "()I" } : Jvm.MethodName) prog_20_method_59_code (1 : Nat) (Option.some Jvm.ClassFile.FieldType.int)) ∈ lw_all := lw_g (lw_at lw_m8 174 rfl) rfl
theorem q1984 : (Jvm.Cond.instanceMethod ({ cls := "StoneYearModel", name := "flood", desc := "(I)I" } : Jvm.MethodName)) ∈ lw_all := lw_g (lw_at lw_m8 176 rfl) rfl
theorem q1985 : (Jvm.Cond.selects "StoneYearModel" ({ cls := "StoneYearModel", name := "flood", desc := "(I)I" } : Jvm.MethodName) ({ cls := "StoneYearModel", name := "flood", desc := "(I)I" } : Jvm.MethodName)) ∈ lw_all := lw_g (lw_at lw_m8 177 rfl) rfl
theorem q1986 : (Jvm.Cond.code ({ cls := "StoneYearModel", name := "flood", desc := "(I)I" } : Jvm.MethodName) prog_20_method_60_code (9 : Nat) (Option.some Jvm.ClassFile.FieldType.int)) ∈ lw_all := lw_g (lw_at lw_m8 178 rfl) rfl
theorem q1987 : (Jvm.Cond.constant "StoneYearModel" (284 : Nat) (1103515245 : Int32)) ∈ lw_all := lw_g (lw_at lw_m8 179 rfl) rfl
theorem q1989 : (Jvm.Cond.instanceMethod ({ cls := "StoneYearModel", name := "steal", desc := "(I)I" } : Jvm.MethodName)) ∈ lw_all := lw_g (lw_at lw_m8 181 rfl) rfl
theorem q1990 : (Jvm.Cond.selects "StoneYearModel" ({ cls := "StoneYearModel", name := "steal", desc := "(I)I" } : Jvm.MethodName) ({ cls := "StoneYearModel", name := "steal", desc := "(I)I" } : Jvm.MethodName)) ∈ lw_all := lw_g (lw_at lw_m8 182 rfl) rfl
theorem q1991 : (Jvm.Cond.code ({ cls := "StoneYearModel", name := "steal", desc := "(I)I" } : Jvm.MethodName) prog_20_method_62_code (3 : Nat) (Option.some Jvm.ClassFile.FieldType.int)) ∈ lw_all := lw_g (lw_at lw_m8 183 rfl) rfl
theorem q1992 : (Jvm.Cond.methodLink "StoneYearModel" (285 : Nat) ({ cls := "StoneYearModel", name := "topPlace", desc := "(I)I" } : Jvm.MethodName)) ∈ lw_all := lw_g (lw_at lw_m8 184 rfl) rfl
theorem q1993 : (Jvm.Cond.privateMethod ({ cls := "StoneYearModel", name := "topPlace", desc := "(I)I" } : Jvm.MethodName)) ∈ lw_tbl := lw_at lw_m8 185 rfl
theorem q1994 : (Jvm.Cond.instanceMethod ({ cls := "StoneYearModel", name := "topPlace", desc := "(I)I" } : Jvm.MethodName)) ∈ lw_all := lw_g (lw_at lw_m8 186 rfl) rfl
theorem q1995 : (Jvm.Cond.code ({ cls := "StoneYearModel", name := "topPlace", desc := "(I)I" } : Jvm.MethodName) prog_20_method_61_code (3 : Nat) (Option.some Jvm.ClassFile.FieldType.int)) ∈ lw_all := lw_g (lw_at lw_m8 187 rfl) rfl
theorem q1997 : (Jvm.Cond.instanceMethod ({ cls := "StoneYearModel", name := "done", desc := "(I)I" } : Jvm.MethodName)) ∈ lw_all := lw_g (lw_at lw_m8 189 rfl) rfl
theorem q1998 : (Jvm.Cond.selects "StoneYearModel" ({ cls := "StoneYearModel", name := "done", desc := "(I)I" } : Jvm.MethodName) ({ cls := "StoneYearModel", name := "done", desc := "(I)I" } : Jvm.MethodName)) ∈ lw_all := lw_g (lw_at lw_m8 190 rfl) rfl
theorem q1999 : (Jvm.Cond.code ({ cls := "StoneYearModel", name := "done", desc := "(I)I" } : Jvm.MethodName) prog_20_method_68_code (2 : Nat) (Option.some Jvm.ClassFile.FieldType.int)) ∈ lw_all := lw_g (lw_at lw_m8 191 rfl) rfl
theorem q2000 : (Jvm.Cond.methodLink "StoneYearModel" (296 : Nat) ({ cls := "StoneYearModel", name := "isWho", desc := "(I)Z" } : Jvm.MethodName)) ∈ lw_all := lw_g (lw_at lw_m8 192 rfl) rfl
theorem q2001 : (Jvm.Cond.static ({ cls := "StoneYearModel", name := "isWho", desc := "(I)Z" } : Jvm.MethodName)) ∈ lw_all := lw_g (lw_at lw_m8 193 rfl) rfl
theorem q2002 : (Jvm.Cond.code ({ cls := "StoneYearModel", name := "isWho", desc := "(I)Z" } : Jvm.MethodName) prog_20_method_63_code (1 : Nat) (Option.some Jvm.ClassFile.FieldType.boolean)) ∈ lw_all := lw_g (lw_at lw_m8 194 rfl) rfl
theorem q2003 : (Jvm.Cond.constantLong "StoneYearModel" (288 : Nat) (-1 : Int64)) ∈ lw_all := lw_g (lw_at lw_m8 195 rfl) rfl
theorem q2004 : (Jvm.Cond.methodLink "StoneYearModel" (299 : Nat) ({ cls := "StoneYearModel", name := "isDone", desc := "(I)Z" } : Jvm.MethodName)) ∈ lw_all := lw_g (lw_at lw_m8 196 rfl) rfl
theorem q2005 : (Jvm.Cond.privateMethod ({ cls := "StoneYearModel", name := "isDone", desc := "(I)Z" } : Jvm.MethodName)) ∈ lw_tbl := lw_at lw_m8 197 rfl
theorem q2006 : (Jvm.Cond.instanceMethod ({ cls := "StoneYearModel", name := "isDone", desc := "(I)Z" } : Jvm.MethodName)) ∈ lw_all := lw_g (lw_at lw_m8 198 rfl) rfl
theorem q2007 : (Jvm.Cond.code ({ cls := "StoneYearModel", name := "isDone", desc := "(I)Z" } : Jvm.MethodName) prog_20_method_67_code (4 : Nat) (Option.some Jvm.ClassFile.FieldType.boolean)) ∈ lw_all := lw_g (lw_at lw_m8 199 rfl) rfl
theorem q2008 : (Jvm.Cond.methodLink "StoneYearModel" (290 : Nat) ({ cls := "StoneYearModel", name := "isWished", desc := "(II)Z" } : Jvm.MethodName)) ∈ lw_all := lw_g (lw_at lw_m8 200 rfl) rfl
theorem q2009 : (Jvm.Cond.privateMethod ({ cls := "StoneYearModel", name := "isWished", desc := "(II)Z" } : Jvm.MethodName)) ∈ lw_tbl := lw_at lw_m8 201 rfl
theorem q2010 : (Jvm.Cond.instanceMethod ({ cls := "StoneYearModel", name := "isWished", desc := "(II)Z" } : Jvm.MethodName)) ∈ lw_all := lw_g (lw_at lw_m8 202 rfl) rfl
theorem q2011 : (Jvm.Cond.code ({ cls := "StoneYearModel", name := "isWished", desc := "(II)Z" } : Jvm.MethodName) prog_20_method_64_code (3 : Nat) (Option.some Jvm.ClassFile.FieldType.boolean)) ∈ lw_all := lw_g (lw_at lw_m8 203 rfl) rfl
theorem q2012 : (Jvm.Cond.methodLink "StoneYearModel" (293 : Nat) ({ cls := "StoneYearModel", name := "isRight", desc := "(I)Z" } : Jvm.MethodName)) ∈ lw_all := lw_g (lw_at lw_m8 204 rfl) rfl
theorem q2013 : (Jvm.Cond.privateMethod ({ cls := "StoneYearModel", name := "isRight", desc := "(I)Z" } : Jvm.MethodName)) ∈ lw_tbl := lw_at lw_m8 205 rfl
theorem q2014 : (Jvm.Cond.instanceMethod ({ cls := "StoneYearModel", name := "isRight", desc := "(I)Z" } : Jvm.MethodName)) ∈ lw_all := lw_g (lw_at lw_m8 206 rfl) rfl
theorem q2015 : (Jvm.Cond.code ({ cls := "StoneYearModel", name := "isRight", desc := "(I)Z" } : Jvm.MethodName) prog_20_method_65_code (2 : Nat) (Option.some Jvm.ClassFile.FieldType.boolean)) ∈ lw_all := lw_g (lw_at lw_m8 207 rfl) rfl
theorem q2017 : (Jvm.Cond.instanceMethod ({ cls := "StoneYearModel", name := "right", desc := "(I)I" } : Jvm.MethodName)) ∈ lw_all := lw_g (lw_at lw_m8 209 rfl) rfl
theorem q2018 : (Jvm.Cond.selects "StoneYearModel" ({ cls := "StoneYearModel", name := "right", desc := "(I)I" } : Jvm.MethodName) ({ cls := "StoneYearModel", name := "right", desc := "(I)I" } : Jvm.MethodName)) ∈ lw_all := lw_g (lw_at lw_m8 210 rfl) rfl
theorem q2019 : (Jvm.Cond.code ({ cls := "StoneYearModel", name := "right", desc := "(I)I" } : Jvm.MethodName) prog_20_method_69_code (2 : Nat) (Option.some Jvm.ClassFile.FieldType.int)) ∈ lw_all := lw_g (lw_at lw_m8 211 rfl) rfl
theorem q2020 : (Jvm.Cond.methodLink "StoneYearModel" (302 : Nat) ({ cls := "StoneYearModel", name := "rights", desc := "(I)I" } : Jvm.MethodName)) ∈ lw_all := lw_g (lw_at lw_m8 212 rfl) rfl
theorem q2021 : (Jvm.Cond.privateMethod ({ cls := "StoneYearModel", name := "rights", desc := "(I)I" } : Jvm.MethodName)) ∈ lw_tbl := lw_at lw_m8 213 rfl
theorem q2022 : (Jvm.Cond.instanceMethod ({ cls := "StoneYearModel", name := "rights", desc := "(I)I" } : Jvm.MethodName)) ∈ lw_all := lw_g (lw_at lw_m8 214 rfl) rfl
theorem q2023 : (Jvm.Cond.code ({ cls := "StoneYearModel", name := "rights", desc := "(I)I" } : Jvm.MethodName) prog_20_method_66_code (4 : Nat) (Option.some Jvm.ClassFile.FieldType.int)) ∈ lw_all := lw_g (lw_at lw_m8 215 rfl) rfl
theorem q2025 : (Jvm.Cond.instanceMethod ({ cls := "StoneYearModel", name := "judge", desc := "(II)I" } : Jvm.MethodName)) ∈ lw_all := lw_g (lw_at lw_m8 217 rfl) rfl
theorem q2026 : (Jvm.Cond.selects "StoneYearModel" ({ cls := "StoneYearModel", name := "judge", desc := "(II)I" } : Jvm.MethodName) ({ cls := "StoneYearModel", name := "judge", desc := "(II)I" } : Jvm.MethodName)) ∈ lw_all := lw_g (lw_at lw_m8 218 rfl) rfl
theorem q2027 : (Jvm.Cond.code ({ cls := "StoneYearModel", name := "judge", desc := "(II)I" } : Jvm.MethodName) prog_20_method_72_code (4 : Nat) (Option.some Jvm.ClassFile.FieldType.int)) ∈ lw_all := lw_g (lw_at lw_m8 219 rfl) rfl
theorem q2028 : (Jvm.Cond.constantLong "StoneYearModel" (319 : Nat) (3 : Int64)) ∈ lw_all := lw_g (lw_at lw_m8 220 rfl) rfl
theorem q2029 : (Jvm.Cond.methodLink "StoneYearModel" (321 : Nat) ({ cls := "StoneYearModel", name := "goes", desc := "(I)I" } : Jvm.MethodName)) ∈ lw_all := lw_g (lw_at lw_m8 221 rfl) rfl
theorem q2030 : (Jvm.Cond.privateMethod ({ cls := "StoneYearModel", name := "goes", desc := "(I)I" } : Jvm.MethodName)) ∈ lw_tbl := lw_at lw_m8 222 rfl
theorem q2031 : (Jvm.Cond.instanceMethod ({ cls := "StoneYearModel", name := "goes", desc := "(I)I" } : Jvm.MethodName)) ∈ lw_all := lw_g (lw_at lw_m8 223 rfl) rfl
theorem q2032 : (Jvm.Cond.code ({ cls := "StoneYearModel", name := "goes", desc := "(I)I" } : Jvm.MethodName) prog_20_method_71_code (3 : Nat) (Option.some Jvm.ClassFile.FieldType.int)) ∈ lw_all := lw_g (lw_at lw_m8 224 rfl) rfl
theorem q2033 : (Jvm.Cond.methodLink "StoneYearModel" (315 : Nat) ({ cls := "StoneYearModel", name := "does", desc := "(J)I" } : Jvm.MethodName)) ∈ lw_all := lw_g (lw_at lw_m8 225 rfl) rfl
theorem q2034 : (Jvm.Cond.privateMethod ({ cls := "StoneYearModel", name := "does", desc := "(J)I" } : Jvm.MethodName)) ∈ lw_tbl := lw_at lw_m8 226 rfl
theorem q2035 : (Jvm.Cond.instanceMethod ({ cls := "StoneYearModel", name := "does", desc := "(J)I" } : Jvm.MethodName)) ∈ lw_all := lw_g (lw_at lw_m8 227 rfl) rfl
theorem q2036 : (Jvm.Cond.code ({ cls := "StoneYearModel", name := "does", desc := "(J)I" } : Jvm.MethodName) prog_20_method_70_code (6 : Nat) (Option.some Jvm.ClassFile.FieldType.int)) ∈ lw_all := lw_g (lw_at lw_m8 228 rfl) rfl
theorem q2037 : (Jvm.Cond.constantLong "StoneYearModel" (308 : Nat) (199 : Int64)) ∈ lw_all := lw_g (lw_at lw_m8 229 rfl) rfl
theorem q2038 : (Jvm.Cond.constantLong "StoneYearModel" (310 : Nat) (100 : Int64)) ∈ lw_all := lw_g (lw_at lw_m8 230 rfl) rfl
theorem q2040 : (Jvm.Cond.instanceMethod ({ cls := "StoneYearModel", name := "perform", desc := "(I)I" } : Jvm.MethodName)) ∈ lw_all := lw_g (lw_at lw_m8 232 rfl) rfl
theorem q2041 : (Jvm.Cond.selects "StoneYearModel" ({ cls := "StoneYearModel", name := "perform", desc := "(I)I" } : Jvm.MethodName) ({ cls := "StoneYearModel", name := "perform", desc := "(I)I" } : Jvm.MethodName)) ∈ lw_all := lw_g (lw_at lw_m8 233 rfl) rfl
theorem q2042 : (Jvm.Cond.code ({ cls := "StoneYearModel", name := "perform", desc := "(I)I" } : Jvm.MethodName) prog_20_method_73_code (6 : Nat) (Option.some Jvm.ClassFile.FieldType.int)) ∈ lw_all := lw_g (lw_at lw_m8 234 rfl) rfl
theorem q2043 : (Jvm.Cond.methodLink "StoneYearModel" (324 : Nat) ({ cls := "StoneYearModel", name := "year", desc := "()I" } : Jvm.MethodName)) ∈ lw_all := lw_g (lw_at lw_m8 235 rfl) rfl
theorem q2044 : (Jvm.Cond.methodLink "StoneYearModel" (327 : Nat) ({ cls := "StoneYearModel", name := "carry", desc := "(II)I" } : Jvm.MethodName)) ∈ lw_all := lw_g (lw_at lw_m8 236 rfl) rfl
theorem q2045 : (Jvm.Cond.methodLink "StoneYearModel" (330 : Nat) ({ cls := "StoneYearModel", name := "exchange", desc := "(II)I" } : Jvm.MethodName)) ∈ lw_all := lw_g (lw_at lw_m8 237 rfl) rfl
theorem q2047 : (Jvm.Cond.instanceMethod ({ cls := "StoneYearModel", name := "match", desc := "(I)I" } : Jvm.MethodName)) ∈ lw_all := lw_g (lw_at lw_m8 239 rfl) rfl
theorem q2048 : (Jvm.Cond.selects "StoneYearModel" ({ cls := "StoneYearModel", name := "match", desc := "(I)I" } : Jvm.MethodName) ({ cls := "StoneYearModel", name := "match", desc := "(I)I" } : Jvm.MethodName)) ∈ lw_all := lw_g (lw_at lw_m9 0 rfl) rfl
theorem q2049 : (Jvm.Cond.code ({ cls := "StoneYearModel", name := "match", desc := "(I)I" } : Jvm.MethodName) prog_20_method_77_code (4 : Nat) (Option.some Jvm.ClassFile.FieldType.int)) ∈ lw_all := lw_g (lw_at lw_m9 1 rfl) rfl
theorem q2050 : (Jvm.Cond.methodLink "StoneYearModel" (340 : Nat) ({ cls := "StoneYearModel", name := "matches", desc := "()V" } : Jvm.MethodName)) ∈ lw_all := lw_g (lw_at lw_m9 2 rfl) rfl
theorem q2051 : (Jvm.Cond.privateMethod ({ cls := "StoneYearModel", name := "matches", desc := "()V" } : Jvm.MethodName)) ∈ lw_tbl := lw_at lw_m9 3 rfl
theorem q2052 : (Jvm.Cond.instanceMethod ({ cls := "StoneYearModel", name := "matches", desc := "()V" } : Jvm.MethodName)) ∈ lw_all := lw_g (lw_at lw_m9 4 rfl) rfl
theorem q2053 : (Jvm.Cond.code ({ cls := "StoneYearModel", name := "matches", desc := "()V" } : Jvm.MethodName) prog_20_method_75_code (7 : Nat) (Option.none : Option Jvm.ClassFile.FieldType)) ∈ lw_all := lw_g (lw_at lw_m9 5 rfl) rfl
theorem q2054 : (Jvm.Cond.constant "StoneYearModel" (333 : Nat) (32768 : Int32)) ∈ lw_all := lw_g (lw_at lw_m9 6 rfl) rfl
theorem q2055 : (Jvm.Cond.constant "StoneYearModel" (334 : Nat) (262144 : Int32)) ∈ lw_all := lw_g (lw_at lw_m9 7 rfl) rfl
theorem q2056 : (Jvm.Cond.constant "StoneYearModel" (335 : Nat) (1000000 : Int32)) ∈ lw_all := lw_g (lw_at lw_m9 8 rfl) rfl
theorem q2057 : (Jvm.Cond.methodLink "StoneYearModel" (336 : Nat) ({ cls := "StoneYearModel", name := "costOf", desc := "(III)I" } : Jvm.MethodName)) ∈ lw_all := lw_g (lw_at lw_m9 9 rfl) rfl
theorem q2058 : (Jvm.Cond.privateMethod ({ cls := "StoneYearModel", name := "costOf", desc := "(III)I" } : Jvm.MethodName)) ∈ lw_tbl := lw_at lw_m9 10 rfl
theorem q2059 : (Jvm.Cond.instanceMethod ({ cls := "StoneYearModel", name := "costOf", desc := "(III)I" } : Jvm.MethodName)) ∈ lw_all := lw_g (lw_at lw_m9 11 rfl) rfl
theorem q2060 : (Jvm.Cond.code ({ cls := "StoneYearModel", name := "costOf", desc := "(III)I" } : Jvm.MethodName) prog_20_method_74_code (6 : Nat) (Option.some Jvm.ClassFile.FieldType.int)) ∈ lw_all := lw_g (lw_at lw_m9 12 rfl) rfl
theorem q2061 : (Jvm.Cond.methodLink "StoneYearModel" (343 : Nat) ({ cls := "StoneYearModel", name := "isAway", desc := "(I)Z" } : Jvm.MethodName)) ∈ lw_all := lw_g (lw_at lw_m9 13 rfl) rfl
theorem q2062 : (Jvm.Cond.privateMethod ({ cls := "StoneYearModel", name := "isAway", desc := "(I)Z" } : Jvm.MethodName)) ∈ lw_tbl := lw_at lw_m9 14 rfl
theorem q2063 : (Jvm.Cond.instanceMethod ({ cls := "StoneYearModel", name := "isAway", desc := "(I)Z" } : Jvm.MethodName)) ∈ lw_all := lw_g (lw_at lw_m9 15 rfl) rfl
theorem q2064 : (Jvm.Cond.code ({ cls := "StoneYearModel", name := "isAway", desc := "(I)Z" } : Jvm.MethodName) prog_20_method_76_code (2 : Nat) (Option.some Jvm.ClassFile.FieldType.boolean)) ∈ lw_all := lw_g (lw_at lw_m9 16 rfl) rfl
theorem q2066 : (Jvm.Cond.instanceMethod ({ cls := "StoneYearModel", name := "once", desc := "(I)I" } : Jvm.MethodName)) ∈ lw_all := lw_g (lw_at lw_m9 18 rfl) rfl
theorem q2067 : (Jvm.Cond.selects "StoneYearModel" ({ cls := "StoneYearModel", name := "once", desc := "(I)I" } : Jvm.MethodName) ({ cls := "StoneYearModel", name := "once", desc := "(I)I" } : Jvm.MethodName)) ∈ lw_all := lw_g (lw_at lw_m9 19 rfl) rfl
theorem q2068 : (Jvm.Cond.code ({ cls := "StoneYearModel", name := "once", desc := "(I)I" } : Jvm.MethodName) prog_20_method_79_code (4 : Nat) (Option.some Jvm.ClassFile.FieldType.int)) ∈ lw_all := lw_g (lw_at lw_m9 20 rfl) rfl
theorem q2069 : (Jvm.Cond.methodLink "StoneYearModel" (350 : Nat) ({ cls := "StoneYearModel", name := "orders", desc := "(II)Z" } : Jvm.MethodName)) ∈ lw_all := lw_g (lw_at lw_m9 21 rfl) rfl
theorem q2070 : (Jvm.Cond.privateMethod ({ cls := "StoneYearModel", name := "orders", desc := "(II)Z" } : Jvm.MethodName)) ∈ lw_tbl := lw_at lw_m9 22 rfl
theorem q2071 : (Jvm.Cond.instanceMethod ({ cls := "StoneYearModel", name := "orders", desc := "(II)Z" } : Jvm.MethodName)) ∈ lw_all := lw_g (lw_at lw_m9 23 rfl) rfl
theorem q2072 : (Jvm.Cond.code ({ cls := "StoneYearModel", name := "orders", desc := "(II)Z" } : Jvm.MethodName) prog_20_method_78_code (9 : Nat) (Option.some Jvm.ClassFile.FieldType.boolean)) ∈ lw_all := lw_g (lw_at lw_m9 24 rfl) rfl
theorem q2073 : (Jvm.Cond.methodLink "StoneYearModel" (346 : Nat) ({ cls := "StoneYearModel", name := "packed", desc := "([I)J" } : Jvm.MethodName)) ∈ lw_all := lw_g (lw_at lw_m9 25 rfl) rfl
theorem q2074 : (Jvm.Cond.static ({ cls := "StoneYearModel", name := "packed", desc := "([I)J" } : Jvm.MethodName)) ∈ lw_all := lw_g (lw_at lw_m9 26 rfl) rfl
theorem q2075 : (Jvm.Cond.code ({ cls := "StoneYearModel", name := "packed", desc := "([I)J" } : Jvm.MethodName) prog_20_method_31_code (4 : Nat) (Option.some Jvm.ClassFile.FieldType.long)) ∈ lw_all := lw_g (lw_at lw_m9 27 rfl) rfl
theorem q2076 : (Jvm.Cond.methodLink "StoneYearModel" (353 : Nat) ({ cls := "StoneYearModel", name := "looksAt", desc := "(JI)V" } : Jvm.MethodName)) ∈ lw_all := lw_g (lw_at lw_m9 28 rfl) rfl
theorem q2077 : (Jvm.Cond.privateMethod ({ cls := "StoneYearModel", name := "looksAt", desc := "(JI)V" } : Jvm.MethodName)) ∈ lw_tbl := lw_at lw_m9 29 rfl
theorem q2078 : (Jvm.Cond.instanceMethod ({ cls := "StoneYearModel", name := "looksAt", desc := "(JI)V" } : Jvm.MethodName)) ∈ lw_all := lw_g (lw_at lw_m9 30 rfl) rfl
theorem q2079 : (Jvm.Cond.code ({ cls := "StoneYearModel", name := "looksAt", desc := "(JI)V" } : Jvm.MethodName) prog_20_method_32_code (5 : Nat) (Option.none : Option Jvm.ClassFile.FieldType)) ∈ lw_all := lw_g (lw_at lw_m9 31 rfl) rfl
theorem q2080 : (Jvm.Cond.constantLong "StoneYearModel" (217 : Nat) (15 : Int64)) ∈ lw_all := lw_g (lw_at lw_m9 32 rfl) rfl
theorem q2082 : (Jvm.Cond.instanceMethod ({ cls := "StoneYearModel", name := "ahead", desc := "(II)I" } : Jvm.MethodName)) ∈ lw_all := lw_g (lw_at lw_m9 34 rfl) rfl
theorem q2083 : (Jvm.Cond.selects "StoneYearModel" ({ cls := "StoneYearModel", name := "ahead", desc := "(II)I" } : Jvm.MethodName) ({ cls := "StoneYearModel", name := "ahead", desc := "(II)I" } : Jvm.MethodName)) ∈ lw_all := lw_g (lw_at lw_m9 35 rfl) rfl
theorem q2084 : (Jvm.Cond.code ({ cls := "StoneYearModel", name := "ahead", desc := "(II)I" } : Jvm.MethodName) prog_20_method_81_code (3 : Nat) (Option.some Jvm.ClassFile.FieldType.int)) ∈ lw_all := lw_g (lw_at lw_m9 36 rfl) rfl
theorem q2085 : (Jvm.Cond.methodLink "StoneYearModel" (357 : Nat) ({ cls := "StoneYearModel", name := "isAhead", desc := "(II)Z" } : Jvm.MethodName)) ∈ lw_all := lw_g (lw_at lw_m9 37 rfl) rfl
theorem q2086 : (Jvm.Cond.privateMethod ({ cls := "StoneYearModel", name := "isAhead", desc := "(II)Z" } : Jvm.MethodName)) ∈ lw_tbl := lw_at lw_m9 38 rfl
theorem q2087 : (Jvm.Cond.instanceMethod ({ cls := "StoneYearModel", name := "isAhead", desc := "(II)Z" } : Jvm.MethodName)) ∈ lw_all := lw_g (lw_at lw_m9 39 rfl) rfl
theorem q2088 : (Jvm.Cond.code ({ cls := "StoneYearModel", name := "isAhead", desc := "(II)Z" } : Jvm.MethodName) prog_20_method_80_code (5 : Nat) (Option.some Jvm.ClassFile.FieldType.boolean)) ∈ lw_all := lw_g (lw_at lw_m9 40 rfl) rfl
theorem q2090 : (Jvm.Cond.instanceMethod ({ cls := "StoneYearModel", name := "aside", desc := "(I)I" } : Jvm.MethodName)) ∈ lw_all := lw_g (lw_at lw_m9 42 rfl) rfl
theorem q2091 : (Jvm.Cond.selects "StoneYearModel" ({ cls := "StoneYearModel", name := "aside", desc := "(I)I" } : Jvm.MethodName) ({ cls := "StoneYearModel", name := "aside", desc := "(I)I" } : Jvm.MethodName)) ∈ lw_all := lw_g (lw_at lw_m9 43 rfl) rfl
theorem q2092 : (Jvm.Cond.code ({ cls := "StoneYearModel", name := "aside", desc := "(I)I" } : Jvm.MethodName) prog_20_method_83_code (5 : Nat) (Option.some Jvm.ClassFile.FieldType.int)) ∈ lw_all := lw_g (lw_at lw_m9 44 rfl) rfl
theorem q2093 : (Jvm.Cond.methodLink "StoneYearModel" (360 : Nat) ({ cls := "StoneYearModel", name := "isRing", desc := "(I)Z" } : Jvm.MethodName)) ∈ lw_all := lw_g (lw_at lw_m9 45 rfl) rfl
theorem q2094 : (Jvm.Cond.privateMethod ({ cls := "StoneYearModel", name := "isRing", desc := "(I)Z" } : Jvm.MethodName)) ∈ lw_tbl := lw_at lw_m9 46 rfl
theorem q2095 : (Jvm.Cond.instanceMethod ({ cls := "StoneYearModel", name := "isRing", desc := "(I)Z" } : Jvm.MethodName)) ∈ lw_all := lw_g (lw_at lw_m9 47 rfl) rfl
theorem q2096 : (Jvm.Cond.code ({ cls := "StoneYearModel", name := "isRing", desc := "(I)Z" } : Jvm.MethodName) prog_20_method_82_code (7 : Nat) (Option.some Jvm.ClassFile.FieldType.boolean)) ∈ lw_all := lw_g (lw_at lw_m9 48 rfl) rfl
theorem q2098 : (Jvm.Cond.instanceMethod ({ cls := "StoneYearModel", name := "years", desc := "(I)I" } : Jvm.MethodName)) ∈ lw_all := lw_g (lw_at lw_m9 50 rfl) rfl
theorem q2099 : (Jvm.Cond.selects "StoneYearModel" ({ cls := "StoneYearModel", name := "years", desc := "(I)I" } : Jvm.MethodName) ({ cls := "StoneYearModel", name := "years", desc := "(I)I" } : Jvm.MethodName)) ∈ lw_all := lw_g (lw_at lw_m9 51 rfl) rfl
theorem q2100 : (Jvm.Cond.code ({ cls := "StoneYearModel", name := "years", desc := "(I)I" } : Jvm.MethodName) prog_20_method_91_code (3 : Nat) (Option.some Jvm.ClassFile.FieldType.int)) ∈ lw_all := lw_g (lw_at lw_m9 52 rfl) rfl
theorem q2101 : (Jvm.Cond.methodLink "StoneYearModel" (408 : Nat) ({ cls := "StoneYearModel", name := "sought", desc := "(I)I" } : Jvm.MethodName)) ∈ lw_all := lw_g (lw_at lw_m9 53 rfl) rfl
theorem q2102 : (Jvm.Cond.privateMethod ({ cls := "StoneYearModel", name := "sought", desc := "(I)I" } : Jvm.MethodName)) ∈ lw_tbl := lw_at lw_m9 54 rfl
theorem q2103 : (Jvm.Cond.instanceMethod ({ cls := "StoneYearModel", name := "sought", desc := "(I)I" } : Jvm.MethodName)) ∈ lw_all := lw_g (lw_at lw_m9 55 rfl) rfl
theorem q2104 : (Jvm.Cond.code ({ cls := "StoneYearModel", name := "sought", desc := "(I)I" } : Jvm.MethodName) prog_20_method_90_code (4 : Nat) (Option.some Jvm.ClassFile.FieldType.int)) ∈ lw_all := lw_g (lw_at lw_m9 56 rfl) rfl
theorem q2105 : (Jvm.Cond.methodLink "StoneYearModel" (397 : Nat) ({ cls := "StoneYearModel", name := "startsYears", desc := "()V" } : Jvm.MethodName)) ∈ lw_all := lw_g (lw_at lw_m9 57 rfl) rfl
theorem q2106 : (Jvm.Cond.privateMethod ({ cls := "StoneYearModel", name := "startsYears", desc := "()V" } : Jvm.MethodName)) ∈ lw_tbl := lw_at lw_m9 58 rfl
theorem q2107 : (Jvm.Cond.instanceMethod ({ cls := "StoneYearModel", name := "startsYears", desc := "()V" } : Jvm.MethodName)) ∈ lw_all := lw_g (lw_at lw_m9 59 rfl) rfl
theorem q2108 : (Jvm.Cond.code ({ cls := "StoneYearModel", name := "startsYears", desc := "()V" } : Jvm.MethodName) prog_20_method_88_code (1 : Nat) (Option.none : Option Jvm.ClassFile.FieldType)) ∈ lw_all := lw_g (lw_at lw_m9 60 rfl) rfl
theorem q2109 : (Jvm.Cond.methodLink "StoneYearModel" (390 : Nat) ({ cls := "StoneYearModel", name := "takes", desc := "(JI)V" } : Jvm.MethodName)) ∈ lw_all := lw_g (lw_at lw_m9 61 rfl) rfl
theorem q2110 : (Jvm.Cond.privateMethod ({ cls := "StoneYearModel", name := "takes", desc := "(JI)V" } : Jvm.MethodName)) ∈ lw_tbl := lw_at lw_m9 62 rfl
theorem q2111 : (Jvm.Cond.instanceMethod ({ cls := "StoneYearModel", name := "takes", desc := "(JI)V" } : Jvm.MethodName)) ∈ lw_all := lw_g (lw_at lw_m9 63 rfl) rfl
theorem q2112 : (Jvm.Cond.code ({ cls := "StoneYearModel", name := "takes", desc := "(JI)V" } : Jvm.MethodName) prog_20_method_85_code (5 : Nat) (Option.none : Option Jvm.ClassFile.FieldType)) ∈ lw_all := lw_g (lw_at lw_m9 64 rfl) rfl
theorem q2113 : (Jvm.Cond.methodLink "StoneYearModel" (367 : Nat) ({ cls := "StoneYearModel", name := "spot", desc := "(JI)I" } : Jvm.MethodName)) ∈ lw_all := lw_g (lw_at lw_m9 65 rfl) rfl
theorem q2114 : (Jvm.Cond.static ({ cls := "StoneYearModel", name := "spot", desc := "(JI)I" } : Jvm.MethodName)) ∈ lw_all := lw_g (lw_at lw_m9 66 rfl) rfl
theorem q2115 : (Jvm.Cond.code ({ cls := "StoneYearModel", name := "spot", desc := "(JI)I" } : Jvm.MethodName) prog_20_method_84_code (5 : Nat) (Option.some Jvm.ClassFile.FieldType.int)) ∈ lw_all := lw_g (lw_at lw_m9 67 rfl) rfl
theorem q2116 : (Jvm.Cond.constantLong "StoneYearModel" (363 : Nat) (256 : Int64)) ∈ lw_all := lw_g (lw_at lw_m9 68 rfl) rfl
theorem q2117 : (Jvm.Cond.constantLong "StoneYearModel" (365 : Nat) (-7046029254386353131 : Int64)) ∈ lw_all := lw_g (lw_at lw_m9 69 rfl) rfl
theorem q2118 : (Jvm.Cond.methodLink "StoneYearModel" (393 : Nat) ({ cls := "StoneYearModel", name := "isBegun", desc := "(J)Z" } : Jvm.MethodName)) ∈ lw_all := lw_g (lw_at lw_m9 70 rfl) rfl
theorem q2119 : (Jvm.Cond.privateMethod ({ cls := "StoneYearModel", name := "isBegun", desc := "(J)Z" } : Jvm.MethodName)) ∈ lw_tbl := lw_at lw_m9 71 rfl
theorem q2120 : (Jvm.Cond.instanceMethod ({ cls := "StoneYearModel", name := "isBegun", desc := "(J)Z" } : Jvm.MethodName)) ∈ lw_all := lw_g (lw_at lw_m9 72 rfl) rfl
theorem q2121 : (Jvm.Cond.code ({ cls := "StoneYearModel", name := "isBegun", desc := "(J)Z" } : Jvm.MethodName) prog_20_method_86_code (4 : Nat) (Option.some Jvm.ClassFile.FieldType.boolean)) ∈ lw_all := lw_g (lw_at lw_m9 73 rfl) rfl
theorem q2122 : (Jvm.Cond.methodLink "StoneYearModel" (400 : Nat) ({ cls := "StoneYearModel", name := "spreads", desc := "(Z)V" } : Jvm.MethodName)) ∈ lw_all := lw_g (lw_at lw_m9 74 rfl) rfl
theorem q2123 : (Jvm.Cond.privateMethod ({ cls := "StoneYearModel", name := "spreads", desc := "(Z)V" } : Jvm.MethodName)) ∈ lw_tbl := lw_at lw_m9 75 rfl
theorem q2124 : (Jvm.Cond.instanceMethod ({ cls := "StoneYearModel", name := "spreads", desc := "(Z)V" } : Jvm.MethodName)) ∈ lw_all := lw_g (lw_at lw_m9 76 rfl) rfl
theorem q2125 : (Jvm.Cond.code ({ cls := "StoneYearModel", name := "spreads", desc := "(Z)V" } : Jvm.MethodName) prog_20_method_87_code (6 : Nat) (Option.none : Option Jvm.ClassFile.FieldType)) ∈ lw_all := lw_g (lw_at lw_m9 77 rfl) rfl
theorem q2126 : (Jvm.Cond.methodLink "StoneYearModel" (404 : Nat) ({ cls := "StoneYearModel", name := "nextYear", desc := "()Z" } : Jvm.MethodName)) ∈ lw_all := lw_g (lw_at lw_m9 78 rfl) rfl
theorem q2127 : (Jvm.Cond.privateMethod ({ cls := "StoneYearModel", name := "nextYear", desc := "()Z" } : Jvm.MethodName)) ∈ lw_tbl := lw_at lw_m9 79 rfl
theorem q2128 : (Jvm.Cond.instanceMethod ({ cls := "StoneYearModel", name := "nextYear", desc := "()Z" } : Jvm.MethodName)) ∈ lw_all := lw_g (lw_at lw_m9 80 rfl) rfl
theorem q2129 : (Jvm.Cond.code ({ cls := "StoneYearModel", name := "nextYear", desc := "()Z" } : Jvm.MethodName) prog_20_method_89_code (4 : Nat) (Option.some Jvm.ClassFile.FieldType.boolean)) ∈ lw_all := lw_g (lw_at lw_m9 81 rfl) rfl
theorem q2131 : (Jvm.Cond.instanceMethod ({ cls := "StoneYearModel", name := "states", desc := "()I" } : Jvm.MethodName)) ∈ lw_all := lw_g (lw_at lw_m9 83 rfl) rfl
theorem q2132 : (Jvm.Cond.selects "StoneYearModel" ({ cls := "StoneYearModel", name := "states", desc := "()I" } : Jvm.MethodName) ({ cls := "StoneYearModel", name := "states", desc := "()I" } : Jvm.MethodName)) ∈ lw_all := lw_g (lw_at lw_m9 84 rfl) rfl
theorem q2133 : (Jvm.Cond.code ({ cls := "StoneYearModel", name := "states", desc := "()I" } : Jvm.MethodName) prog_20_method_92_code (1 : Nat) (Option.some Jvm.ClassFile.FieldType.int)) ∈ lw_all := lw_g (lw_at lw_m9 85 rfl) rfl
theorem q2135 : (Jvm.Cond.instanceMethod ({ cls := "StoneYearModel", name := "after", desc := "(II)I" } : Jvm.MethodName)) ∈ lw_all := lw_g (lw_at lw_m9 87 rfl) rfl
theorem q2136 : (Jvm.Cond.selects "StoneYearModel" ({ cls := "StoneYearModel", name := "after", desc := "(II)I" } : Jvm.MethodName) ({ cls := "StoneYearModel", name := "after", desc := "(II)I" } : Jvm.MethodName)) ∈ lw_all := lw_g (lw_at lw_m9 88 rfl) rfl
theorem q2137 : (Jvm.Cond.code ({ cls := "StoneYearModel", name := "after", desc := "(II)I" } : Jvm.MethodName) prog_20_method_93_code (3 : Nat) (Option.some Jvm.ClassFile.FieldType.int)) ∈ lw_all := lw_g (lw_at lw_m9 89 rfl) rfl
theorem q2139 : (Jvm.Cond.instanceMethod ({ cls := "StoneYearModel", name := "without", desc := "(I)I" } : Jvm.MethodName)) ∈ lw_all := lw_g (lw_at lw_m9 91 rfl) rfl
theorem q2140 : (Jvm.Cond.selects "StoneYearModel" ({ cls := "StoneYearModel", name := "without", desc := "(I)I" } : Jvm.MethodName) ({ cls := "StoneYearModel", name := "without", desc := "(I)I" } : Jvm.MethodName)) ∈ lw_all := lw_g (lw_at lw_m9 92 rfl) rfl
theorem q2141 : (Jvm.Cond.code ({ cls := "StoneYearModel", name := "without", desc := "(I)I" } : Jvm.MethodName) prog_20_method_94_code (3 : Nat) (Option.some Jvm.ClassFile.FieldType.int)) ∈ lw_all := lw_g (lw_at lw_m9 93 rfl) rfl
theorem q2143 : (Jvm.Cond.instanceMethod ({ cls := "StoneYearModel", name := "missing", desc := "(I)I" } : Jvm.MethodName)) ∈ lw_all := lw_g (lw_at lw_m9 95 rfl) rfl
theorem q2144 : (Jvm.Cond.selects "StoneYearModel" ({ cls := "StoneYearModel", name := "missing", desc := "(I)I" } : Jvm.MethodName) ({ cls := "StoneYearModel", name := "missing", desc := "(I)I" } : Jvm.MethodName)) ∈ lw_all := lw_g (lw_at lw_m9 96 rfl) rfl
theorem q2145 : (Jvm.Cond.code ({ cls := "StoneYearModel", name := "missing", desc := "(I)I" } : Jvm.MethodName) prog_20_method_95_code (3 : Nat) (Option.some Jvm.ClassFile.FieldType.int)) ∈ lw_all := lw_g (lw_at lw_m9 97 rfl) rfl
theorem q2147 : (Jvm.Cond.instanceMethod ({ cls := "StoneYearModel", name := "winters", desc := "(I)I" } : Jvm.MethodName)) ∈ lw_all := lw_g (lw_at lw_m9 99 rfl) rfl
theorem q2148 : (Jvm.Cond.selects "StoneYearModel" ({ cls := "StoneYearModel", name := "winters", desc := "(I)I" } : Jvm.MethodName) ({ cls := "StoneYearModel", name := "winters", desc := "(I)I" } : Jvm.MethodName)) ∈ lw_all := lw_g (lw_at lw_m9 100 rfl) rfl
theorem q2149 : (Jvm.Cond.code ({ cls := "StoneYearModel", name := "winters", desc := "(I)I" } : Jvm.MethodName) prog_20_method_96_code (6 : Nat) (Option.some Jvm.ClassFile.FieldType.int)) ∈ lw_all := lw_g (lw_at lw_m9 101 rfl) rfl
theorem q2151 : (Jvm.Cond.instanceMethod ({ cls := "StoneYearModel", name := "can", desc := "(I)I" } : Jvm.MethodName)) ∈ lw_all := lw_g (lw_at lw_m9 103 rfl) rfl
theorem q2152 : (Jvm.Cond.selects "StoneYearModel" ({ cls := "StoneYearModel", name := "can", desc := "(I)I" } : Jvm.MethodName) ({ cls := "StoneYearModel", name := "can", desc := "(I)I" } : Jvm.MethodName)) ∈ lw_all := lw_g (lw_at lw_m9 104 rfl) rfl
theorem q2153 : (Jvm.Cond.code ({ cls := "StoneYearModel", name := "can", desc := "(I)I" } : Jvm.MethodName) prog_20_method_98_code (2 : Nat) (Option.some Jvm.ClassFile.FieldType.int)) ∈ lw_all := lw_g (lw_at lw_m9 105 rfl) rfl
theorem q2154 : (Jvm.Cond.methodLink "StoneYearModel" (414 : Nat) ({ cls := "StoneYearModel", name := "canBe", desc := "(I)I" } : Jvm.MethodName)) ∈ lw_all := lw_g (lw_at lw_m9 106 rfl) rfl
theorem q2155 : (Jvm.Cond.privateMethod ({ cls := "StoneYearModel", name := "canBe", desc := "(I)I" } : Jvm.MethodName)) ∈ lw_tbl := lw_at lw_m9 107 rfl
theorem q2156 : (Jvm.Cond.instanceMethod ({ cls := "StoneYearModel", name := "canBe", desc := "(I)I" } : Jvm.MethodName)) ∈ lw_all := lw_g (lw_at lw_m9 108 rfl) rfl
theorem q2157 : (Jvm.Cond.code ({ cls := "StoneYearModel", name := "canBe", desc := "(I)I" } : Jvm.MethodName) prog_20_method_97_code (3 : Nat) (Option.some Jvm.ClassFile.FieldType.int)) ∈ lw_all := lw_g (lw_at lw_m9 109 rfl) rfl
theorem q2159 : (Jvm.Cond.instanceMethod ({ cls := "StoneYearModel", name := "why", desc := "(I)I" } : Jvm.MethodName)) ∈ lw_all := lw_g (lw_at lw_m9 111 rfl) rfl
theorem q2160 : (Jvm.Cond.selects "StoneYearModel" ({ cls := "StoneYearModel", name := "why", desc := "(I)I" } : Jvm.MethodName) ({ cls := "StoneYearModel", name := "why", desc := "(I)I" } : Jvm.MethodName)) ∈ lw_all := lw_g (lw_at lw_m9 112 rfl) rfl
theorem q2161 : (Jvm.Cond.code ({ cls := "StoneYearModel", name := "why", desc := "(I)I" } : Jvm.MethodName) prog_20_method_101_code (3 : Nat) (Option.some Jvm.ClassFile.FieldType.int)) ∈ lw_all := lw_g (lw_at lw_m9 113 rfl) rfl
theorem q2162 : (Jvm.Cond.methodLink "StoneYearModel" (417 : Nat) ({ cls := "StoneYearModel", name := "areTooFew", desc := "(I)Z" } : Jvm.MethodName)) ∈ lw_all := lw_g (lw_at lw_m9 114 rfl) rfl
theorem q2163 : (Jvm.Cond.privateMethod ({ cls := "StoneYearModel", name := "areTooFew", desc := "(I)Z" } : Jvm.MethodName)) ∈ lw_tbl := lw_at lw_m9 115 rfl
theorem q2164 : (Jvm.Cond.instanceMethod ({ cls := "StoneYearModel", name := "areTooFew", desc := "(I)Z" } : Jvm.MethodName)) ∈ lw_all := lw_g (lw_at lw_m9 116 rfl) rfl
theorem q2165 : (Jvm.Cond.code ({ cls := "StoneYearModel", name := "areTooFew", desc := "(I)Z" } : Jvm.MethodName) prog_20_method_99_code (5 : Nat) (Option.some Jvm.ClassFile.FieldType.boolean)) ∈ lw_all := lw_g (lw_at lw_m9 117 rfl) rfl
theorem q2166 : (Jvm.Cond.methodLink "StoneYearModel" (420 : Nat) ({ cls := "StoneYearModel", name := "breaksMust", desc := "(I)Z" } : Jvm.MethodName)) ∈ lw_all := lw_g (lw_at lw_m9 118 rfl) rfl
theorem q2167 : (Jvm.Cond.privateMethod ({ cls := "StoneYearModel", name := "breaksMust", desc := "(I)Z" } : Jvm.MethodName)) ∈ lw_tbl := lw_at lw_m9 119 rfl
theorem q2168 : (Jvm.Cond.instanceMethod ({ cls := "StoneYearModel", name := "breaksMust", desc := "(I)Z" } : Jvm.MethodName)) ∈ lw_all := lw_g (lw_at lw_m9 120 rfl) rfl
theorem q2169 : (Jvm.Cond.code ({ cls := "StoneYearModel", name := "breaksMust", desc := "(I)Z" } : Jvm.MethodName) prog_20_method_100_code (4 : Nat) (Option.some Jvm.ClassFile.FieldType.boolean)) ∈ lw_all := lw_g (lw_at lw_m9 121 rfl) rfl
theorem q2171 : (Jvm.Cond.instanceMethod ({ cls := "StoneYearModel", name := "easier", desc := "(I)I" } : Jvm.MethodName)) ∈ lw_all := lw_g (lw_at lw_m9 123 rfl) rfl
theorem q2172 : (Jvm.Cond.selects "StoneYearModel" ({ cls := "StoneYearModel", name := "easier", desc := "(I)I" } : Jvm.MethodName) ({ cls := "StoneYearModel", name := "easier", desc := "(I)I" } : Jvm.MethodName)) ∈ lw_all := lw_g (lw_at lw_m9 124 rfl) rfl
theorem q2173 : (Jvm.Cond.code ({ cls := "StoneYearModel", name := "easier", desc := "(I)I" } : Jvm.MethodName) prog_20_method_102_code (9 : Nat) (Option.some Jvm.ClassFile.FieldType.int)) ∈ lw_all := lw_g (lw_at lw_m9 125 rfl) rfl
theorem q2174 : (Jvm.Cond.constantLong "StoneYearModel" (423 : Nat) (2 : Int64)) ∈ lw_all := lw_g (lw_at lw_m9 126 rfl) rfl
theorem q2175 : (Jvm.Cond.methodLink "StoneYearModel" (425 : Nat) ({ cls := "StoneYearModel", name := "swaps", desc := "(II)V" } : Jvm.MethodName)) ∈ lw_all := lw_g (lw_at lw_m9 127 rfl) rfl
theorem q2176 : (Jvm.Cond.privateMethod ({ cls := "StoneYearModel", name := "swaps", desc := "(II)V" } : Jvm.MethodName)) ∈ lw_tbl := lw_at lw_m9 128 rfl
theorem q2177 : (Jvm.Cond.instanceMethod ({ cls := "StoneYearModel", name := "swaps", desc := "(II)V" } : Jvm.MethodName)) ∈ lw_all := lw_g (lw_at lw_m9 129 rfl) rfl
theorem q2178 : (Jvm.Cond.code ({ cls := "StoneYearModel", name := "swaps", desc := "(II)V" } : Jvm.MethodName) prog_20_method_103_code (4 : Nat) (Option.none : Option Jvm.ClassFile.FieldType)) ∈ lw_all := lw_g (lw_at lw_m9 130 rfl) rfl
theorem q2180 : (Jvm.Cond.instanceMethod ({ cls := "StoneYearModel", name := "wall", desc := "(II)I" } : Jvm.MethodName)) ∈ lw_all := lw_g (lw_at lw_m9 132 rfl) rfl
theorem q2181 : (Jvm.Cond.selects "StoneYearModel" ({ cls := "StoneYearModel", name := "wall", desc := "(II)I" } : Jvm.MethodName) ({ cls := "StoneYearModel", name := "wall", desc := "(II)I" } : Jvm.MethodName)) ∈ lw_all := lw_g (lw_at lw_m9 133 rfl) rfl
theorem q2182 : (Jvm.Cond.code ({ cls := "StoneYearModel", name := "wall", desc := "(II)I" } : Jvm.MethodName) prog_20_method_106_code (4 : Nat) (Option.some Jvm.ClassFile.FieldType.int)) ∈ lw_all := lw_g (lw_at lw_m9 134 rfl) rfl
theorem q2183 : (Jvm.Cond.methodLink "StoneYearModel" (430 : Nat) ({ cls := "StoneYearModel", name := "laysWall", desc := "(II)I" } : Jvm.MethodName)) ∈ lw_all := lw_g (lw_at lw_m9 135 rfl) rfl
theorem q2184 : (Jvm.Cond.privateMethod ({ cls := "StoneYearModel", name := "laysWall", desc := "(II)I" } : Jvm.MethodName)) ∈ lw_tbl := lw_at lw_m9 136 rfl
theorem q2185 : (Jvm.Cond.instanceMethod ({ cls := "StoneYearModel", name := "laysWall", desc := "(II)I" } : Jvm.MethodName)) ∈ lw_all := lw_g (lw_at lw_m9 137 rfl) rfl
theorem q2186 : (Jvm.Cond.code ({ cls := "StoneYearModel", name := "laysWall", desc := "(II)I" } : Jvm.MethodName) prog_20_method_104_code (8 : Nat) (Option.some Jvm.ClassFile.FieldType.int)) ∈ lw_all := lw_g (lw_at lw_m9 138 rfl) rfl
theorem q2187 : (Jvm.Cond.constantLong "StoneYearModel" (428 : Nat) (40 : Int64)) ∈ lw_all := lw_g (lw_at lw_m9 139 rfl) rfl
theorem q2188 : (Jvm.Cond.methodLink "StoneYearModel" (433 : Nat) ({ cls := "StoneYearModel", name := "wallYears", desc := "(I)I" } : Jvm.MethodName)) ∈ lw_all := lw_g (lw_at lw_m9 140 rfl) rfl
theorem q2189 : (Jvm.Cond.privateMethod ({ cls := "StoneYearModel", name := "wallYears", desc := "(I)I" } : Jvm.MethodName)) ∈ lw_tbl := lw_at lw_m9 141 rfl
theorem q2190 : (Jvm.Cond.instanceMethod ({ cls := "StoneYearModel", name := "wallYears", desc := "(I)I" } : Jvm.MethodName)) ∈ lw_all := lw_g (lw_at lw_m9 142 rfl) rfl
theorem q2191 : (Jvm.Cond.code ({ cls := "StoneYearModel", name := "wallYears", desc := "(I)I" } : Jvm.MethodName) prog_20_method_105_code (5 : Nat) (Option.some Jvm.ClassFile.FieldType.int)) ∈ lw_all := lw_g (lw_at lw_m9 143 rfl) rfl
theorem q2193 : (Jvm.Cond.instanceMethod ({ cls := "StoneYearModel", name := "partner", desc := "(IIII)I" } : Jvm.MethodName)) ∈ lw_all := lw_g (lw_at lw_m9 145 rfl) rfl
theorem q2194 : (Jvm.Cond.selects "StoneYearModel" ({ cls := "StoneYearModel", name := "partner", desc := "(IIII)I" } : Jvm.MethodName) ({ cls := "StoneYearModel", name := "partner", desc := "(IIII)I" } : Jvm.MethodName)) ∈ lw_all := lw_g (lw_at lw_m9 146 rfl) rfl
theorem q2195 : (Jvm.Cond.code ({ cls := "StoneYearModel", name := "partner", desc := "(IIII)I" } : Jvm.MethodName) prog_20_method_107_code (13 : Nat) (Option.some Jvm.ClassFile.FieldType.int)) ∈ lw_all := lw_g (lw_at lw_m9 147 rfl) rfl
theorem q2197 : (Jvm.Cond.instanceMethod ({ cls := "StoneYearModel", name := "threshold", desc := "(II)I" } : Jvm.MethodName)) ∈ lw_all := lw_g (lw_at lw_m9 149 rfl) rfl
theorem q2198 : (Jvm.Cond.selects "StoneYearModel" ({ cls := "StoneYearModel", name := "threshold", desc := "(II)I" } : Jvm.MethodName) ({ cls := "StoneYearModel", name := "threshold", desc := "(II)I" } : Jvm.MethodName)) ∈ lw_all := lw_g (lw_at lw_m9 150 rfl) rfl
theorem q2199 : (Jvm.Cond.code ({ cls := "StoneYearModel", name := "threshold", desc := "(II)I" } : Jvm.MethodName) prog_20_method_108_code (7 : Nat) (Option.some Jvm.ClassFile.FieldType.int)) ∈ lw_all := lw_g (lw_at lw_m9 151 rfl) rfl
theorem q2201 : (Jvm.Cond.instanceMethod ({ cls := "StoneYearModel", name := "numbers", desc := "(III)I" } : Jvm.MethodName)) ∈ lw_all := lw_g (lw_at lw_m9 153 rfl) rfl
theorem q2202 : (Jvm.Cond.selects "StoneYearModel" ({ cls := "StoneYearModel", name := "numbers", desc := "(III)I" } : Jvm.MethodName) ({ cls := "StoneYearModel", name := "numbers", desc := "(III)I" } : Jvm.MethodName)) ∈ lw_all := lw_g (lw_at lw_m9 154 rfl) rfl
theorem q2203 : (Jvm.Cond.code ({ cls := "StoneYearModel", name := "numbers", desc := "(III)I" } : Jvm.MethodName) prog_20_method_110_code (5 : Nat) (Option.some Jvm.ClassFile.FieldType.int)) ∈ lw_all := lw_g (lw_at lw_m9 155 rfl) rfl
theorem q2205 : (Jvm.Cond.instanceMethod ({ cls := "StoneYearModel", name := "write", desc := "(IIJ)J" } : Jvm.MethodName)) ∈ lw_all := lw_g (lw_at lw_m9 157 rfl) rfl
theorem q2206 : (Jvm.Cond.selects "StoneYearModel" ({ cls := "StoneYearModel", name := "write", desc := "(IIJ)J" } : Jvm.MethodName) ({ cls := "StoneYearModel", name := "write", desc := "(IIJ)J" } : Jvm.MethodName)) ∈ lw_all := lw_g (lw_at lw_m9 158 rfl) rfl
theorem q2207 : (Jvm.Cond.code ({ cls := "StoneYearModel", name := "write", desc := "(IIJ)J" } : Jvm.MethodName) prog_20_method_111_code (5 : Nat) (Option.some Jvm.ClassFile.FieldType.long)) ∈ lw_all := lw_g (lw_at lw_m9 159 rfl) rfl
theorem q2208 : (Jvm.Cond.constantLong "StoneYearModel" (436 : Nat) (-2 : Int64)) ∈ lw_all := lw_g (lw_at lw_m9 160 rfl) rfl
theorem q2209 : (Jvm.Cond.constantLong "StoneYearModel" (438 : Nat) (-6 : Int64)) ∈ lw_all := lw_g (lw_at lw_m9 161 rfl) rfl
theorem q2210 : (Jvm.Cond.constantLong "StoneYearModel" (440 : Nat) (-7 : Int64)) ∈ lw_all := lw_g (lw_at lw_m9 162 rfl) rfl
theorem q2211 : (Jvm.Cond.methodLink "StoneYearModel" (442 : Nat) ({ cls := "StoneYearModel", name := "cut", desc := "(JI)J" } : Jvm.MethodName)) ∈ lw_all := lw_g (lw_at lw_m9 163 rfl) rfl
theorem q2212 : (Jvm.Cond.static ({ cls := "StoneYearModel", name := "cut", desc := "(JI)J" } : Jvm.MethodName)) ∈ lw_all := lw_g (lw_at lw_m9 164 rfl) rfl
theorem q2213 : (Jvm.Cond.code ({ cls := "StoneYearModel", name := "cut", desc := "(JI)J" } : Jvm.MethodName) prog_20_method_109_code (3 : Nat) (Option.some Jvm.ClassFile.FieldType.long)) ∈ lw_all := lw_g (lw_at lw_m9 165 rfl) rfl
theorem q2215 : (Jvm.Cond.instanceMethod ({ cls := "StoneYearModel", name := "image", desc := "(I)I" } : Jvm.MethodName)) ∈ lw_all := lw_g (lw_at lw_m9 167 rfl) rfl
theorem q2216 : (Jvm.Cond.selects "StoneYearModel" ({ cls := "StoneYearModel", name := "image", desc := "(I)I" } : Jvm.MethodName) ({ cls := "StoneYearModel", name := "image", desc := "(I)I" } : Jvm.MethodName)) ∈ lw_all := lw_g (lw_at lw_m9 168 rfl) rfl
theorem q2217 : (Jvm.Cond.code ({ cls := "StoneYearModel", name := "image", desc := "(I)I" } : Jvm.MethodName) prog_20_method_112_code (3 : Nat) (Option.some Jvm.ClassFile.FieldType.int)) ∈ lw_all := lw_g (lw_at lw_m9 169 rfl) rfl
theorem q2219 : (Jvm.Cond.instanceMethod ({ cls := "StoneYearModel", name := "restore", desc := "(I)I" } : Jvm.MethodName)) ∈ lw_all := lw_g (lw_at lw_m9 171 rfl) rfl
theorem q2220 : (Jvm.Cond.selects "StoneYearModel" ({ cls := "StoneYearModel", name := "restore", desc := "(I)I" } : Jvm.MethodName) ({ cls := "StoneYearModel", name := "restore", desc := "(I)I" } : Jvm.MethodName)) ∈ lw_all := lw_g (lw_at lw_m9 172 rfl) rfl
theorem q2221 : (Jvm.Cond.code ({ cls := "StoneYearModel", name := "restore", desc := "(I)I" } : Jvm.MethodName) prog_20_method_113_code (3 : Nat) (Option.some Jvm.ClassFile.FieldType.int)) ∈ lw_all := lw_g (lw_at lw_m9 173 rfl) rfl
theorem q2223 : (Jvm.Cond.instanceMethod ({ cls := "StoneYearModel", name := "count", desc := "(I)I" } : Jvm.MethodName)) ∈ lw_all := lw_g (lw_at lw_m9 175 rfl) rfl
theorem q2224 : (Jvm.Cond.selects "StoneYearModel" ({ cls := "StoneYearModel", name := "count", desc := "(I)I" } : Jvm.MethodName) ({ cls := "StoneYearModel", name := "count", desc := "(I)I" } : Jvm.MethodName)) ∈ lw_all := lw_g (lw_at lw_m9 176 rfl) rfl
theorem q2225 : (Jvm.Cond.code ({ cls := "StoneYearModel", name := "count", desc := "(I)I" } : Jvm.MethodName) prog_20_method_114_code (2 : Nat) (Option.some Jvm.ClassFile.FieldType.int)) ∈ lw_all := lw_g (lw_at lw_m9 177 rfl) rfl
theorem q2243 : (Jvm.Cond.castable "StoneYearModel" "java/lang/Object") ∈ lw_tbl := lw_at lw_m9 195 rfl
theorem in_X8 : ∀ w ∈ wsX80, w ∈ lw_all := lw_in wsX80 [1671, 1673, 1675, 1677, 1679, 1681, 1683, 1685, 1687, 1689, 1691, 1693, 1695, 1697, 1699, 1701, 1703, 1705, 1707, 1709, 1711, 1713, 1715, 1717, 1719, 1721, 1723, 1725, 1727, 1729, 1731, 1733, 1735, 1737, 1739, 1741, 1743, 1745, 1747, 1749, 1751, 1753, 1755, 1757, 1759, 1761] (by decide +kernel) (by decide +kernel)
