/-! StoneYear -/
set_option maxRecDepth 100000
def RX0 : String := "StoneYear"
def TX0 : u_T := fun k => match k with
  | 0 => ("StoneYear", "s", "LStoneYear$State;", false)
  | 1 => ("StoneYear", "images", "[LStoneYear$State;", true)
  | 2 => ("StoneYear", "tape", "[B", true)
  | 3 => ("StoneYear", "taped", "I", false)
  | 4 => ("StoneYear", "faultKind", "I", false)
  | 5 => ("StoneYear", "faultPlace", "I", false)
  | 6 => ("StoneYear", "going", "LStoneYear$Going;", true)
  | 7 => ("StoneYear", "here", "LStoneYear$Stacks;", true)
  | 8 => ("StoneYear", "trial", "LStoneYear$Stacks;", true)
  | 9 => ("StoneYear", "x", "I", false)
  | 10 => ("StoneYear", "match", "LStoneYear$Match;", true)
  | 11 => ("StoneYear", "order", "[I", true)
  | 12 => ("StoneYear", "fails", "[Z", true)
  | 13 => ("StoneYear", "ordered", "I", false)
  | 14 => ("StoneYear", "states", "LStoneYear$Table;", true)
  | 15 => ("StoneYear", "begun", "LStoneYear$Table;", true)
  | 16 => ("StoneYear", "sought", "I", false)
  | 17 => ("StoneYear", "lastSought", "I", false)
  | 18 => ("StoneYear", "easy", "[I", true)
  | 19 => ("StoneYear", "wants", "[I", true)
  | 20 => ("StoneYear", "wantedBy", "[I", true)
  | 21 => ("StoneYear", "ring", "[I", true)
  | _ => ("StoneYear", "rows", "[LStoneYear$Numbers;", true)
def tyX0 : Nat → FieldType := fun k => match k with
  | 0 => .object "StoneYear$State"
  | 1 => .array (.object "StoneYear$State")
  | 2 => .array .byte
  | 3 => .int
  | 4 => .int
  | 5 => .int
  | 6 => .object "StoneYear$Going"
  | 7 => .object "StoneYear$Stacks"
  | 8 => .object "StoneYear$Stacks"
  | 9 => .int
  | 10 => .object "StoneYear$Match"
  | 11 => .array .int
  | 12 => .array .boolean
  | 13 => .int
  | 14 => .object "StoneYear$Table"
  | 15 => .object "StoneYear$Table"
  | 16 => .int
  | 17 => .int
  | 18 => .array .int
  | 19 => .array .int
  | 20 => .array .int
  | 21 => .array .int
  | _ => .array (.object "StoneYear$Numbers")
abbrev wsX00 : List Cond := u_ws RX0 TX0 23
set_option maxRecDepth 100000 in
theorem nmX0 : ∀ a, a < 23 → ∀ b, b < 23 → a ≠ b → (TX0 a).2.1 ≠ (TX0 b).2.1 := by decide +kernel
set_option maxRecDepth 100000 in
theorem tyX0_ok : ∀ k, k < 23 → parseFieldDescriptor (TX0 k).2.2.1 = some (tyX0 k) := by decide +kernel
abbrev cX0_init : ByteArray := prog_1_method_3_code
def yX0_init : MethodName := ⟨RX0, "<init>", "()V"⟩
def dkwX0_init_9 : List UInt8 := [182, 0, 95, 177]
abbrev dktX0_init_9 : List UInt8 := dkwX0_init_9 ++ []
def dkwX0_init_8 : List UInt8 := [89, 6, 187, 0, 84, 89, 183, 0, 86, 83, 181, 0, 87, 42, 180, 0, 10, 42, 180, 0, 10, 180, 0, 91]
abbrev dktX0_init_8 : List UInt8 := dkwX0_init_8 ++ dktX0_init_9
def dkwX0_init_7 : List UInt8 := [183, 0, 86, 83, 89, 4, 187, 0, 84, 89, 183, 0, 86, 83, 89, 5, 187, 0, 84, 89, 183, 0, 86, 83]
abbrev dktX0_init_7 : List UInt8 := dkwX0_init_7 ++ dktX0_init_8
def dkwX0_init_6 : List UInt8 := [181, 0, 78, 42, 16, 40, 188, 10, 181, 0, 81, 42, 7, 189, 0, 84, 89, 3, 187, 0, 84, 89]
abbrev dktX0_init_6 : List UInt8 := dkwX0_init_6 ++ dktX0_init_7
def dkwX0_init_5 : List UInt8 := [181, 0, 69, 42, 6, 188, 10, 181, 0, 72, 42, 16, 40, 188, 10, 181, 0, 75, 42, 16, 40, 188, 10]
abbrev dktX0_init_5 : List UInt8 := dkwX0_init_5 ++ dktX0_init_6
def dkwX0_init_4 : List UInt8 := [188, 4, 181, 0, 58, 42, 187, 0, 62, 89, 183, 0, 64, 181, 0, 65, 42, 187, 0, 62, 89, 183, 0, 64]
abbrev dktX0_init_4 : List UInt8 := dkwX0_init_4 ++ dktX0_init_5
def dkwX0_init_3 : List UInt8 := [42, 187, 0, 47, 89, 42, 183, 0, 49, 181, 0, 50, 42, 16, 8, 188, 10, 181, 0, 54, 42, 17, 1, 0]
abbrev dktX0_init_3 : List UInt8 := dkwX0_init_3 ++ dktX0_init_4
def dkwX0_init_2 : List UInt8 := [42, 187, 0, 35, 89, 42, 183, 0, 37, 181, 0, 40, 42, 187, 0, 35, 89, 42, 183, 0, 37, 181, 0, 44]
abbrev dktX0_init_2 : List UInt8 := dkwX0_init_2 ++ dktX0_init_3
def dkwX0_init_1 : List UInt8 := [17, 1, 144, 188, 8, 181, 0, 20, 42, 2, 181, 0, 24, 42, 187, 0, 28, 89, 183, 0, 30, 181, 0, 31]
abbrev dktX0_init_1 : List UInt8 := dkwX0_init_1 ++ dktX0_init_2
def dkwX0_init_0 : List UInt8 := [42, 183, 0, 1, 42, 187, 0, 7, 89, 183, 0, 9, 181, 0, 10, 42, 5, 189, 0, 7, 181, 0, 16, 42]
abbrev dktX0_init_0 : List UInt8 := dkwX0_init_0 ++ dktX0_init_1
theorem dksX0_init_0 : cX0_init.data.toList.drop 0 = dktX0_init_0 := by decide +kernel
theorem dksX0_init_1 : cX0_init.data.toList.drop 24 = dktX0_init_1 := dk_seg dksX0_init_0 24 rfl rfl
theorem dksX0_init_2 : cX0_init.data.toList.drop 48 = dktX0_init_2 := dk_seg dksX0_init_1 24 rfl rfl
theorem dksX0_init_3 : cX0_init.data.toList.drop 72 = dktX0_init_3 := dk_seg dksX0_init_2 24 rfl rfl
theorem dksX0_init_4 : cX0_init.data.toList.drop 96 = dktX0_init_4 := dk_seg dksX0_init_3 24 rfl rfl
theorem dksX0_init_5 : cX0_init.data.toList.drop 120 = dktX0_init_5 := dk_seg dksX0_init_4 24 rfl rfl
theorem dksX0_init_6 : cX0_init.data.toList.drop 143 = dktX0_init_6 := dk_seg dksX0_init_5 23 rfl rfl
theorem dksX0_init_7 : cX0_init.data.toList.drop 165 = dktX0_init_7 := dk_seg dksX0_init_6 22 rfl rfl
theorem dksX0_init_8 : cX0_init.data.toList.drop 189 = dktX0_init_8 := dk_seg dksX0_init_7 24 rfl rfl
theorem dksX0_init_9 : cX0_init.data.toList.drop 213 = dktX0_init_9 := dk_seg dksX0_init_8 24 rfl rfl
theorem dX0_init_0 : decode cX0_init 0 = .ok (.aload_n 0, 1) := dk_42 (dk_at dksX0_init_0 0 rfl rfl)
theorem dX0_init_1 : decode cX0_init 1 = .ok (.invokespecial 1, 3) := dk_183 0 1 (dk_at dksX0_init_0 1 rfl rfl)
theorem dX0_init_4 : decode cX0_init 4 = .ok (.aload_n 0, 1) := dk_42 (dk_at dksX0_init_0 4 rfl rfl)
theorem dX0_init_5 : decode cX0_init 5 = .ok (.new 7, 3) := dk_187 0 7 (dk_at dksX0_init_0 5 rfl rfl)
theorem dX0_init_8 : decode cX0_init 8 = .ok (.dup, 1) := dk_89 (dk_at dksX0_init_0 8 rfl rfl)
theorem dX0_init_9 : decode cX0_init 9 = .ok (.invokespecial 9, 3) := dk_183 0 9 (dk_at dksX0_init_0 9 rfl rfl)
theorem dX0_init_12 : decode cX0_init 12 = .ok (.putfield 10, 3) := dk_181 0 10 (dk_at dksX0_init_0 12 rfl rfl)
theorem dX0_init_15 : decode cX0_init 15 = .ok (.aload_n 0, 1) := dk_42 (dk_at dksX0_init_0 15 rfl rfl)
theorem dX0_init_16 : decode cX0_init 16 = .ok (.iconst 2, 1) := dk_5 (dk_at dksX0_init_0 16 rfl rfl)
theorem dX0_init_17 : decode cX0_init 17 = .ok (.anewarray 7, 3) := dk_189 0 7 (dk_at dksX0_init_0 17 rfl rfl)
theorem dX0_init_20 : decode cX0_init 20 = .ok (.putfield 16, 3) := dk_181 0 16 (dk_at dksX0_init_0 20 rfl rfl)
theorem dX0_init_23 : decode cX0_init 23 = .ok (.aload_n 0, 1) := dk_42 (dk_at dksX0_init_0 23 rfl rfl)
theorem dX0_init_24 : decode cX0_init 24 = .ok (.sipush 400, 3) := dk_17 1 144 (dk_at dksX0_init_1 0 rfl rfl)
theorem dX0_init_27 : decode cX0_init 27 = .ok (.newarray .byte, 2) := dk_188_8 (dk_at dksX0_init_1 3 rfl rfl)
theorem dX0_init_29 : decode cX0_init 29 = .ok (.putfield 20, 3) := dk_181 0 20 (dk_at dksX0_init_1 5 rfl rfl)
theorem dX0_init_32 : decode cX0_init 32 = .ok (.aload_n 0, 1) := dk_42 (dk_at dksX0_init_1 8 rfl rfl)
theorem dX0_init_33 : decode cX0_init 33 = .ok (.iconst (-1), 1) := dk_2 (dk_at dksX0_init_1 9 rfl rfl)
theorem dX0_init_34 : decode cX0_init 34 = .ok (.putfield 24, 3) := dk_181 0 24 (dk_at dksX0_init_1 10 rfl rfl)
theorem dX0_init_37 : decode cX0_init 37 = .ok (.aload_n 0, 1) := dk_42 (dk_at dksX0_init_1 13 rfl rfl)
theorem dX0_init_38 : decode cX0_init 38 = .ok (.new 28, 3) := dk_187 0 28 (dk_at dksX0_init_1 14 rfl rfl)
theorem dX0_init_41 : decode cX0_init 41 = .ok (.dup, 1) := dk_89 (dk_at dksX0_init_1 17 rfl rfl)
theorem dX0_init_42 : decode cX0_init 42 = .ok (.invokespecial 30, 3) := dk_183 0 30 (dk_at dksX0_init_1 18 rfl rfl)
theorem dX0_init_45 : decode cX0_init 45 = .ok (.putfield 31, 3) := dk_181 0 31 (dk_at dksX0_init_1 21 rfl rfl)
theorem dX0_init_48 : decode cX0_init 48 = .ok (.aload_n 0, 1) := dk_42 (dk_at dksX0_init_2 0 rfl rfl)
theorem dX0_init_49 : decode cX0_init 49 = .ok (.new 35, 3) := dk_187 0 35 (dk_at dksX0_init_2 1 rfl rfl)
theorem dX0_init_52 : decode cX0_init 52 = .ok (.dup, 1) := dk_89 (dk_at dksX0_init_2 4 rfl rfl)
theorem dX0_init_53 : decode cX0_init 53 = .ok (.aload_n 0, 1) := dk_42 (dk_at dksX0_init_2 5 rfl rfl)
theorem dX0_init_54 : decode cX0_init 54 = .ok (.invokespecial 37, 3) := dk_183 0 37 (dk_at dksX0_init_2 6 rfl rfl)
theorem dX0_init_57 : decode cX0_init 57 = .ok (.putfield 40, 3) := dk_181 0 40 (dk_at dksX0_init_2 9 rfl rfl)
theorem dX0_init_60 : decode cX0_init 60 = .ok (.aload_n 0, 1) := dk_42 (dk_at dksX0_init_2 12 rfl rfl)
theorem dX0_init_61 : decode cX0_init 61 = .ok (.new 35, 3) := dk_187 0 35 (dk_at dksX0_init_2 13 rfl rfl)
theorem dX0_init_64 : decode cX0_init 64 = .ok (.dup, 1) := dk_89 (dk_at dksX0_init_2 16 rfl rfl)
theorem dX0_init_65 : decode cX0_init 65 = .ok (.aload_n 0, 1) := dk_42 (dk_at dksX0_init_2 17 rfl rfl)
theorem dX0_init_66 : decode cX0_init 66 = .ok (.invokespecial 37, 3) := dk_183 0 37 (dk_at dksX0_init_2 18 rfl rfl)
theorem dX0_init_69 : decode cX0_init 69 = .ok (.putfield 44, 3) := dk_181 0 44 (dk_at dksX0_init_2 21 rfl rfl)
theorem dX0_init_72 : decode cX0_init 72 = .ok (.aload_n 0, 1) := dk_42 (dk_at dksX0_init_3 0 rfl rfl)
theorem dX0_init_73 : decode cX0_init 73 = .ok (.new 47, 3) := dk_187 0 47 (dk_at dksX0_init_3 1 rfl rfl)
theorem dX0_init_76 : decode cX0_init 76 = .ok (.dup, 1) := dk_89 (dk_at dksX0_init_3 4 rfl rfl)
theorem dX0_init_77 : decode cX0_init 77 = .ok (.aload_n 0, 1) := dk_42 (dk_at dksX0_init_3 5 rfl rfl)
theorem dX0_init_78 : decode cX0_init 78 = .ok (.invokespecial 49, 3) := dk_183 0 49 (dk_at dksX0_init_3 6 rfl rfl)
theorem dX0_init_81 : decode cX0_init 81 = .ok (.putfield 50, 3) := dk_181 0 50 (dk_at dksX0_init_3 9 rfl rfl)
theorem dX0_init_84 : decode cX0_init 84 = .ok (.aload_n 0, 1) := dk_42 (dk_at dksX0_init_3 12 rfl rfl)
theorem dX0_init_85 : decode cX0_init 85 = .ok (.bipush 8, 2) := dk_16 8 (dk_at dksX0_init_3 13 rfl rfl)
theorem dX0_init_87 : decode cX0_init 87 = .ok (.newarray .int, 2) := dk_188_10 (dk_at dksX0_init_3 15 rfl rfl)
theorem dX0_init_89 : decode cX0_init 89 = .ok (.putfield 54, 3) := dk_181 0 54 (dk_at dksX0_init_3 17 rfl rfl)
theorem dX0_init_92 : decode cX0_init 92 = .ok (.aload_n 0, 1) := dk_42 (dk_at dksX0_init_3 20 rfl rfl)
theorem dX0_init_93 : decode cX0_init 93 = .ok (.sipush 256, 3) := dk_17 1 0 (dk_at dksX0_init_3 21 rfl rfl)
theorem dX0_init_96 : decode cX0_init 96 = .ok (.newarray .boolean, 2) := dk_188_4 (dk_at dksX0_init_4 0 rfl rfl)
theorem dX0_init_98 : decode cX0_init 98 = .ok (.putfield 58, 3) := dk_181 0 58 (dk_at dksX0_init_4 2 rfl rfl)
theorem dX0_init_101 : decode cX0_init 101 = .ok (.aload_n 0, 1) := dk_42 (dk_at dksX0_init_4 5 rfl rfl)
theorem dX0_init_102 : decode cX0_init 102 = .ok (.new 62, 3) := dk_187 0 62 (dk_at dksX0_init_4 6 rfl rfl)
theorem dX0_init_105 : decode cX0_init 105 = .ok (.dup, 1) := dk_89 (dk_at dksX0_init_4 9 rfl rfl)
theorem dX0_init_106 : decode cX0_init 106 = .ok (.invokespecial 64, 3) := dk_183 0 64 (dk_at dksX0_init_4 10 rfl rfl)
theorem dX0_init_109 : decode cX0_init 109 = .ok (.putfield 65, 3) := dk_181 0 65 (dk_at dksX0_init_4 13 rfl rfl)
theorem dX0_init_112 : decode cX0_init 112 = .ok (.aload_n 0, 1) := dk_42 (dk_at dksX0_init_4 16 rfl rfl)
theorem dX0_init_113 : decode cX0_init 113 = .ok (.new 62, 3) := dk_187 0 62 (dk_at dksX0_init_4 17 rfl rfl)
theorem dX0_init_116 : decode cX0_init 116 = .ok (.dup, 1) := dk_89 (dk_at dksX0_init_4 20 rfl rfl)
theorem dX0_init_117 : decode cX0_init 117 = .ok (.invokespecial 64, 3) := dk_183 0 64 (dk_at dksX0_init_4 21 rfl rfl)
theorem dX0_init_120 : decode cX0_init 120 = .ok (.putfield 69, 3) := dk_181 0 69 (dk_at dksX0_init_5 0 rfl rfl)
theorem dX0_init_123 : decode cX0_init 123 = .ok (.aload_n 0, 1) := dk_42 (dk_at dksX0_init_5 3 rfl rfl)
theorem dX0_init_124 : decode cX0_init 124 = .ok (.iconst 3, 1) := dk_6 (dk_at dksX0_init_5 4 rfl rfl)
theorem dX0_init_125 : decode cX0_init 125 = .ok (.newarray .int, 2) := dk_188_10 (dk_at dksX0_init_5 5 rfl rfl)
theorem dX0_init_127 : decode cX0_init 127 = .ok (.putfield 72, 3) := dk_181 0 72 (dk_at dksX0_init_5 7 rfl rfl)
theorem dX0_init_130 : decode cX0_init 130 = .ok (.aload_n 0, 1) := dk_42 (dk_at dksX0_init_5 10 rfl rfl)
theorem dX0_init_131 : decode cX0_init 131 = .ok (.bipush 40, 2) := dk_16 40 (dk_at dksX0_init_5 11 rfl rfl)
theorem dX0_init_133 : decode cX0_init 133 = .ok (.newarray .int, 2) := dk_188_10 (dk_at dksX0_init_5 13 rfl rfl)
theorem dX0_init_135 : decode cX0_init 135 = .ok (.putfield 75, 3) := dk_181 0 75 (dk_at dksX0_init_5 15 rfl rfl)
theorem dX0_init_138 : decode cX0_init 138 = .ok (.aload_n 0, 1) := dk_42 (dk_at dksX0_init_5 18 rfl rfl)
theorem dX0_init_139 : decode cX0_init 139 = .ok (.bipush 40, 2) := dk_16 40 (dk_at dksX0_init_5 19 rfl rfl)
theorem dX0_init_141 : decode cX0_init 141 = .ok (.newarray .int, 2) := dk_188_10 (dk_at dksX0_init_5 21 rfl rfl)
theorem dX0_init_143 : decode cX0_init 143 = .ok (.putfield 78, 3) := dk_181 0 78 (dk_at dksX0_init_6 0 rfl rfl)
theorem dX0_init_146 : decode cX0_init 146 = .ok (.aload_n 0, 1) := dk_42 (dk_at dksX0_init_6 3 rfl rfl)
theorem dX0_init_147 : decode cX0_init 147 = .ok (.bipush 40, 2) := dk_16 40 (dk_at dksX0_init_6 4 rfl rfl)
theorem dX0_init_149 : decode cX0_init 149 = .ok (.newarray .int, 2) := dk_188_10 (dk_at dksX0_init_6 6 rfl rfl)
theorem dX0_init_151 : decode cX0_init 151 = .ok (.putfield 81, 3) := dk_181 0 81 (dk_at dksX0_init_6 8 rfl rfl)
theorem dX0_init_154 : decode cX0_init 154 = .ok (.aload_n 0, 1) := dk_42 (dk_at dksX0_init_6 11 rfl rfl)
theorem dX0_init_155 : decode cX0_init 155 = .ok (.iconst 4, 1) := dk_7 (dk_at dksX0_init_6 12 rfl rfl)
theorem dX0_init_156 : decode cX0_init 156 = .ok (.anewarray 84, 3) := dk_189 0 84 (dk_at dksX0_init_6 13 rfl rfl)
theorem dX0_init_159 : decode cX0_init 159 = .ok (.dup, 1) := dk_89 (dk_at dksX0_init_6 16 rfl rfl)
theorem dX0_init_160 : decode cX0_init 160 = .ok (.iconst 0, 1) := dk_3 (dk_at dksX0_init_6 17 rfl rfl)
theorem dX0_init_161 : decode cX0_init 161 = .ok (.new 84, 3) := dk_187 0 84 (dk_at dksX0_init_6 18 rfl rfl)
theorem dX0_init_164 : decode cX0_init 164 = .ok (.dup, 1) := dk_89 (dk_at dksX0_init_6 21 rfl rfl)
theorem dX0_init_165 : decode cX0_init 165 = .ok (.invokespecial 86, 3) := dk_183 0 86 (dk_at dksX0_init_7 0 rfl rfl)
theorem dX0_init_168 : decode cX0_init 168 = .ok (.aastore, 1) := dk_83 (dk_at dksX0_init_7 3 rfl rfl)
theorem dX0_init_169 : decode cX0_init 169 = .ok (.dup, 1) := dk_89 (dk_at dksX0_init_7 4 rfl rfl)
theorem dX0_init_170 : decode cX0_init 170 = .ok (.iconst 1, 1) := dk_4 (dk_at dksX0_init_7 5 rfl rfl)
theorem dX0_init_171 : decode cX0_init 171 = .ok (.new 84, 3) := dk_187 0 84 (dk_at dksX0_init_7 6 rfl rfl)
theorem dX0_init_174 : decode cX0_init 174 = .ok (.dup, 1) := dk_89 (dk_at dksX0_init_7 9 rfl rfl)
theorem dX0_init_175 : decode cX0_init 175 = .ok (.invokespecial 86, 3) := dk_183 0 86 (dk_at dksX0_init_7 10 rfl rfl)
theorem dX0_init_178 : decode cX0_init 178 = .ok (.aastore, 1) := dk_83 (dk_at dksX0_init_7 13 rfl rfl)
theorem dX0_init_179 : decode cX0_init 179 = .ok (.dup, 1) := dk_89 (dk_at dksX0_init_7 14 rfl rfl)
theorem dX0_init_180 : decode cX0_init 180 = .ok (.iconst 2, 1) := dk_5 (dk_at dksX0_init_7 15 rfl rfl)
theorem dX0_init_181 : decode cX0_init 181 = .ok (.new 84, 3) := dk_187 0 84 (dk_at dksX0_init_7 16 rfl rfl)
theorem dX0_init_184 : decode cX0_init 184 = .ok (.dup, 1) := dk_89 (dk_at dksX0_init_7 19 rfl rfl)
theorem dX0_init_185 : decode cX0_init 185 = .ok (.invokespecial 86, 3) := dk_183 0 86 (dk_at dksX0_init_7 20 rfl rfl)
theorem dX0_init_188 : decode cX0_init 188 = .ok (.aastore, 1) := dk_83 (dk_at dksX0_init_7 23 rfl rfl)
theorem dX0_init_189 : decode cX0_init 189 = .ok (.dup, 1) := dk_89 (dk_at dksX0_init_8 0 rfl rfl)
theorem dX0_init_190 : decode cX0_init 190 = .ok (.iconst 3, 1) := dk_6 (dk_at dksX0_init_8 1 rfl rfl)
theorem dX0_init_191 : decode cX0_init 191 = .ok (.new 84, 3) := dk_187 0 84 (dk_at dksX0_init_8 2 rfl rfl)
theorem dX0_init_194 : decode cX0_init 194 = .ok (.dup, 1) := dk_89 (dk_at dksX0_init_8 5 rfl rfl)
theorem dX0_init_195 : decode cX0_init 195 = .ok (.invokespecial 86, 3) := dk_183 0 86 (dk_at dksX0_init_8 6 rfl rfl)
theorem dX0_init_198 : decode cX0_init 198 = .ok (.aastore, 1) := dk_83 (dk_at dksX0_init_8 9 rfl rfl)
theorem dX0_init_199 : decode cX0_init 199 = .ok (.putfield 87, 3) := dk_181 0 87 (dk_at dksX0_init_8 10 rfl rfl)
theorem dX0_init_202 : decode cX0_init 202 = .ok (.aload_n 0, 1) := dk_42 (dk_at dksX0_init_8 13 rfl rfl)
theorem dX0_init_203 : decode cX0_init 203 = .ok (.getfield 10, 3) := dk_180 0 10 (dk_at dksX0_init_8 14 rfl rfl)
theorem dX0_init_206 : decode cX0_init 206 = .ok (.aload_n 0, 1) := dk_42 (dk_at dksX0_init_8 17 rfl rfl)
theorem dX0_init_207 : decode cX0_init 207 = .ok (.getfield 10, 3) := dk_180 0 10 (dk_at dksX0_init_8 18 rfl rfl)
theorem dX0_init_210 : decode cX0_init 210 = .ok (.getfield 91, 3) := dk_180 0 91 (dk_at dksX0_init_8 21 rfl rfl)
theorem dX0_init_213 : decode cX0_init 213 = .ok (.invokevirtual 95, 3) := dk_182 0 95 (dk_at dksX0_init_9 0 rfl rfl)
theorem dX0_init_216 : decode cX0_init 216 = .ok (.return_, 1) := dk_177 (dk_at dksX0_init_9 3 rfl rfl)
abbrev cX0_feed : ByteArray := prog_1_method_4_code
def yX0_feed : MethodName := ⟨RX0, "feed", "(IIIII)I"⟩
def dkwX0_feed_2 : List UInt8 := [172]
abbrev dktX0_feed_2 : List UInt8 := dkwX0_feed_2 ++ []
def dkwX0_feed_1 : List UInt8 := [182, 0, 102, 42, 29, 182, 0, 102, 42, 21, 4, 182, 0, 102, 42, 21, 5, 182, 0, 102, 42, 180, 0, 99]
abbrev dktX0_feed_1 : List UInt8 := dkwX0_feed_1 ++ dktX0_feed_2
def dkwX0_feed_0 : List UInt8 := [42, 180, 0, 99, 16, 20, 96, 17, 1, 144, 164, 0, 6, 16, 251, 172, 42, 27, 182, 0, 102, 42, 28]
abbrev dktX0_feed_0 : List UInt8 := dkwX0_feed_0 ++ dktX0_feed_1
theorem dksX0_feed_0 : cX0_feed.data.toList.drop 0 = dktX0_feed_0 := by decide +kernel
theorem dksX0_feed_1 : cX0_feed.data.toList.drop 23 = dktX0_feed_1 := dk_seg dksX0_feed_0 23 rfl rfl
theorem dksX0_feed_2 : cX0_feed.data.toList.drop 47 = dktX0_feed_2 := dk_seg dksX0_feed_1 24 rfl rfl
theorem dX0_feed_0 : decode cX0_feed 0 = .ok (.aload_n 0, 1) := dk_42 (dk_at dksX0_feed_0 0 rfl rfl)
theorem dX0_feed_1 : decode cX0_feed 1 = .ok (.getfield 99, 3) := dk_180 0 99 (dk_at dksX0_feed_0 1 rfl rfl)
theorem dX0_feed_4 : decode cX0_feed 4 = .ok (.bipush 20, 2) := dk_16 20 (dk_at dksX0_feed_0 4 rfl rfl)
theorem dX0_feed_6 : decode cX0_feed 6 = .ok (.iadd, 1) := dk_96 (dk_at dksX0_feed_0 6 rfl rfl)
theorem dX0_feed_7 : decode cX0_feed 7 = .ok (.sipush 400, 3) := dk_17 1 144 (dk_at dksX0_feed_0 7 rfl rfl)
theorem dX0_feed_10 : decode cX0_feed 10 = .ok (.if_icmp .le 6, 3) := dk_164 0 6 (dk_at dksX0_feed_0 10 rfl rfl)
theorem dX0_feed_13 : decode cX0_feed 13 = .ok (.bipush (-5), 2) := dk_16 251 (dk_at dksX0_feed_0 13 rfl rfl)
theorem dX0_feed_15 : decode cX0_feed 15 = .ok (.ireturn, 1) := dk_172 (dk_at dksX0_feed_0 15 rfl rfl)
theorem dX0_feed_16 : decode cX0_feed 16 = .ok (.aload_n 0, 1) := dk_42 (dk_at dksX0_feed_0 16 rfl rfl)
theorem dX0_feed_17 : decode cX0_feed 17 = .ok (.iload_n 1, 1) := dk_27 (dk_at dksX0_feed_0 17 rfl rfl)
theorem dX0_feed_18 : decode cX0_feed 18 = .ok (.invokevirtual 102, 3) := dk_182 0 102 (dk_at dksX0_feed_0 18 rfl rfl)
theorem dX0_feed_21 : decode cX0_feed 21 = .ok (.aload_n 0, 1) := dk_42 (dk_at dksX0_feed_0 21 rfl rfl)
theorem dX0_feed_22 : decode cX0_feed 22 = .ok (.iload_n 2, 1) := dk_28 (dk_at dksX0_feed_0 22 rfl rfl)
theorem dX0_feed_23 : decode cX0_feed 23 = .ok (.invokevirtual 102, 3) := dk_182 0 102 (dk_at dksX0_feed_1 0 rfl rfl)
theorem dX0_feed_26 : decode cX0_feed 26 = .ok (.aload_n 0, 1) := dk_42 (dk_at dksX0_feed_1 3 rfl rfl)
theorem dX0_feed_27 : decode cX0_feed 27 = .ok (.iload_n 3, 1) := dk_29 (dk_at dksX0_feed_1 4 rfl rfl)
theorem dX0_feed_28 : decode cX0_feed 28 = .ok (.invokevirtual 102, 3) := dk_182 0 102 (dk_at dksX0_feed_1 5 rfl rfl)
theorem dX0_feed_31 : decode cX0_feed 31 = .ok (.aload_n 0, 1) := dk_42 (dk_at dksX0_feed_1 8 rfl rfl)
theorem dX0_feed_32 : decode cX0_feed 32 = .ok (.iload 4, 2) := dk_21 4 (dk_at dksX0_feed_1 9 rfl rfl)
theorem dX0_feed_34 : decode cX0_feed 34 = .ok (.invokevirtual 102, 3) := dk_182 0 102 (dk_at dksX0_feed_1 11 rfl rfl)
theorem dX0_feed_37 : decode cX0_feed 37 = .ok (.aload_n 0, 1) := dk_42 (dk_at dksX0_feed_1 14 rfl rfl)
theorem dX0_feed_38 : decode cX0_feed 38 = .ok (.iload 5, 2) := dk_21 5 (dk_at dksX0_feed_1 15 rfl rfl)
theorem dX0_feed_40 : decode cX0_feed 40 = .ok (.invokevirtual 102, 3) := dk_182 0 102 (dk_at dksX0_feed_1 17 rfl rfl)
theorem dX0_feed_43 : decode cX0_feed 43 = .ok (.aload_n 0, 1) := dk_42 (dk_at dksX0_feed_1 20 rfl rfl)
theorem dX0_feed_44 : decode cX0_feed 44 = .ok (.getfield 99, 3) := dk_180 0 99 (dk_at dksX0_feed_1 21 rfl rfl)
theorem dX0_feed_47 : decode cX0_feed 47 = .ok (.ireturn, 1) := dk_172 (dk_at dksX0_feed_2 0 rfl rfl)
abbrev cX0_bytes : ByteArray := prog_1_method_5_code
def yX0_bytes : MethodName := ⟨RX0, "bytes", "(I)V"⟩
def dkwX0_bytes_1 : List UInt8 := [180, 0, 99, 4, 96, 181, 0, 99, 132, 2, 248, 167, 255, 226, 177]
abbrev dktX0_bytes_1 : List UInt8 := dkwX0_bytes_1 ++ []
def dkwX0_bytes_0 : List UInt8 := [16, 24, 61, 28, 155, 0, 32, 42, 180, 0, 20, 42, 180, 0, 99, 27, 28, 122, 145, 84, 42, 89]
abbrev dktX0_bytes_0 : List UInt8 := dkwX0_bytes_0 ++ dktX0_bytes_1
theorem dksX0_bytes_0 : cX0_bytes.data.toList.drop 0 = dktX0_bytes_0 := by decide +kernel
theorem dksX0_bytes_1 : cX0_bytes.data.toList.drop 22 = dktX0_bytes_1 := dk_seg dksX0_bytes_0 22 rfl rfl
theorem dX0_bytes_0 : decode cX0_bytes 0 = .ok (.bipush 24, 2) := dk_16 24 (dk_at dksX0_bytes_0 0 rfl rfl)
theorem dX0_bytes_2 : decode cX0_bytes 2 = .ok (.istore_n 2, 1) := dk_61 (dk_at dksX0_bytes_0 2 rfl rfl)
theorem dX0_bytes_3 : decode cX0_bytes 3 = .ok (.iload_n 2, 1) := dk_28 (dk_at dksX0_bytes_0 3 rfl rfl)
theorem dX0_bytes_4 : decode cX0_bytes 4 = .ok (.ifCond .lt 32, 3) := dk_155 0 32 (dk_at dksX0_bytes_0 4 rfl rfl)
theorem dX0_bytes_7 : decode cX0_bytes 7 = .ok (.aload_n 0, 1) := dk_42 (dk_at dksX0_bytes_0 7 rfl rfl)
theorem dX0_bytes_8 : decode cX0_bytes 8 = .ok (.getfield 20, 3) := dk_180 0 20 (dk_at dksX0_bytes_0 8 rfl rfl)
theorem dX0_bytes_11 : decode cX0_bytes 11 = .ok (.aload_n 0, 1) := dk_42 (dk_at dksX0_bytes_0 11 rfl rfl)
theorem dX0_bytes_12 : decode cX0_bytes 12 = .ok (.getfield 99, 3) := dk_180 0 99 (dk_at dksX0_bytes_0 12 rfl rfl)
theorem dX0_bytes_15 : decode cX0_bytes 15 = .ok (.iload_n 1, 1) := dk_27 (dk_at dksX0_bytes_0 15 rfl rfl)
theorem dX0_bytes_16 : decode cX0_bytes 16 = .ok (.iload_n 2, 1) := dk_28 (dk_at dksX0_bytes_0 16 rfl rfl)
theorem dX0_bytes_17 : decode cX0_bytes 17 = .ok (.ishr, 1) := dk_122 (dk_at dksX0_bytes_0 17 rfl rfl)
theorem dX0_bytes_18 : decode cX0_bytes 18 = .ok (.i2b, 1) := dk_145 (dk_at dksX0_bytes_0 18 rfl rfl)
theorem dX0_bytes_19 : decode cX0_bytes 19 = .ok (.bastore, 1) := dk_84 (dk_at dksX0_bytes_0 19 rfl rfl)
theorem dX0_bytes_20 : decode cX0_bytes 20 = .ok (.aload_n 0, 1) := dk_42 (dk_at dksX0_bytes_0 20 rfl rfl)
theorem dX0_bytes_21 : decode cX0_bytes 21 = .ok (.dup, 1) := dk_89 (dk_at dksX0_bytes_0 21 rfl rfl)
theorem dX0_bytes_22 : decode cX0_bytes 22 = .ok (.getfield 99, 3) := dk_180 0 99 (dk_at dksX0_bytes_1 0 rfl rfl)
theorem dX0_bytes_25 : decode cX0_bytes 25 = .ok (.iconst 1, 1) := dk_4 (dk_at dksX0_bytes_1 3 rfl rfl)
theorem dX0_bytes_26 : decode cX0_bytes 26 = .ok (.iadd, 1) := dk_96 (dk_at dksX0_bytes_1 4 rfl rfl)
theorem dX0_bytes_27 : decode cX0_bytes 27 = .ok (.putfield 99, 3) := dk_181 0 99 (dk_at dksX0_bytes_1 5 rfl rfl)
theorem dX0_bytes_30 : decode cX0_bytes 30 = .ok (.iinc 2 (-8), 3) := dk_132 2 248 (dk_at dksX0_bytes_1 8 rfl rfl)
theorem dX0_bytes_33 : decode cX0_bytes 33 = .ok (.goto (-30), 3) := dk_167 255 226 (dk_at dksX0_bytes_1 11 rfl rfl)
theorem dX0_bytes_36 : decode cX0_bytes 36 = .ok (.return_, 1) := dk_177 (dk_at dksX0_bytes_1 14 rfl rfl)
abbrev cX0_text : ByteArray := prog_1_method_6_code
def yX0_text : MethodName := ⟨RX0, "text", "(II)I"⟩
def dkwX0_text_5 : List UInt8 := [180, 0, 10, 45, 180, 0, 139, 182, 0, 95, 45, 180, 0, 139, 180, 0, 140, 172]
abbrev dktX0_text_5 : List UInt8 := dkwX0_text_5 ++ []
def dkwX0_text_4 : List UInt8 := [160, 0, 22, 42, 180, 0, 10, 45, 180, 0, 129, 181, 0, 132, 45, 180, 0, 129, 182, 0, 133, 172, 42]
abbrev dktX0_text_4 : List UInt8 := dkwX0_text_4 ++ dktX0_text_5
def dkwX0_text_3 : List UInt8 := [180, 0, 126, 181, 0, 24, 42, 180, 0, 123, 153, 0, 11, 16, 246, 42, 180, 0, 123, 100, 172, 27, 4]
abbrev dktX0_text_3 : List UInt8 := dkwX0_text_3 ++ dktX0_text_4
def dkwX0_text_2 : List UInt8 := [167, 0, 7, 45, 182, 0, 117, 42, 3, 181, 0, 99, 42, 45, 180, 0, 120, 181, 0, 123, 42, 45]
abbrev dktX0_text_2 : List UInt8 := dkwX0_text_2 ++ dktX0_text_3
def dkwX0_text_1 : List UInt8 := [154, 0, 6, 16, 253, 172, 187, 0, 110, 89, 42, 28, 183, 0, 112, 78, 27, 154, 0, 10, 45, 182, 0, 115]
abbrev dktX0_text_1 : List UInt8 := dkwX0_text_1 ++ dktX0_text_2
def dkwX0_text_0 : List UInt8 := [27, 133, 9, 10, 184, 0, 106, 154, 0, 6, 16, 254, 172, 28, 133, 9, 42, 180, 0, 99, 133, 184, 0, 106]
abbrev dktX0_text_0 : List UInt8 := dkwX0_text_0 ++ dktX0_text_1
theorem dksX0_text_0 : cX0_text.data.toList.drop 0 = dktX0_text_0 := by decide +kernel
theorem dksX0_text_1 : cX0_text.data.toList.drop 24 = dktX0_text_1 := dk_seg dksX0_text_0 24 rfl rfl
theorem dksX0_text_2 : cX0_text.data.toList.drop 48 = dktX0_text_2 := dk_seg dksX0_text_1 24 rfl rfl
theorem dksX0_text_3 : cX0_text.data.toList.drop 70 = dktX0_text_3 := dk_seg dksX0_text_2 22 rfl rfl
theorem dksX0_text_4 : cX0_text.data.toList.drop 93 = dktX0_text_4 := dk_seg dksX0_text_3 23 rfl rfl
theorem dksX0_text_5 : cX0_text.data.toList.drop 116 = dktX0_text_5 := dk_seg dksX0_text_4 23 rfl rfl
theorem dX0_text_0 : decode cX0_text 0 = .ok (.iload_n 1, 1) := dk_27 (dk_at dksX0_text_0 0 rfl rfl)
theorem dX0_text_1 : decode cX0_text 1 = .ok (.i2l, 1) := dk_133 (dk_at dksX0_text_0 1 rfl rfl)
theorem dX0_text_2 : decode cX0_text 2 = .ok (.lconst 0, 1) := dk_9 (dk_at dksX0_text_0 2 rfl rfl)
theorem dX0_text_3 : decode cX0_text 3 = .ok (.lconst 1, 1) := dk_10 (dk_at dksX0_text_0 3 rfl rfl)
theorem dX0_text_4 : decode cX0_text 4 = .ok (.invokestatic 106, 3) := dk_184 0 106 (dk_at dksX0_text_0 4 rfl rfl)
theorem dX0_text_7 : decode cX0_text 7 = .ok (.ifCond .ne 6, 3) := dk_154 0 6 (dk_at dksX0_text_0 7 rfl rfl)
theorem dX0_text_10 : decode cX0_text 10 = .ok (.bipush (-2), 2) := dk_16 254 (dk_at dksX0_text_0 10 rfl rfl)
theorem dX0_text_12 : decode cX0_text 12 = .ok (.ireturn, 1) := dk_172 (dk_at dksX0_text_0 12 rfl rfl)
theorem dX0_text_13 : decode cX0_text 13 = .ok (.iload_n 2, 1) := dk_28 (dk_at dksX0_text_0 13 rfl rfl)
theorem dX0_text_14 : decode cX0_text 14 = .ok (.i2l, 1) := dk_133 (dk_at dksX0_text_0 14 rfl rfl)
theorem dX0_text_15 : decode cX0_text 15 = .ok (.lconst 0, 1) := dk_9 (dk_at dksX0_text_0 15 rfl rfl)
theorem dX0_text_16 : decode cX0_text 16 = .ok (.aload_n 0, 1) := dk_42 (dk_at dksX0_text_0 16 rfl rfl)
theorem dX0_text_17 : decode cX0_text 17 = .ok (.getfield 99, 3) := dk_180 0 99 (dk_at dksX0_text_0 17 rfl rfl)
theorem dX0_text_20 : decode cX0_text 20 = .ok (.i2l, 1) := dk_133 (dk_at dksX0_text_0 20 rfl rfl)
theorem dX0_text_21 : decode cX0_text 21 = .ok (.invokestatic 106, 3) := dk_184 0 106 (dk_at dksX0_text_0 21 rfl rfl)
theorem dX0_text_24 : decode cX0_text 24 = .ok (.ifCond .ne 6, 3) := dk_154 0 6 (dk_at dksX0_text_1 0 rfl rfl)
theorem dX0_text_27 : decode cX0_text 27 = .ok (.bipush (-3), 2) := dk_16 253 (dk_at dksX0_text_1 3 rfl rfl)
theorem dX0_text_29 : decode cX0_text 29 = .ok (.ireturn, 1) := dk_172 (dk_at dksX0_text_1 5 rfl rfl)
theorem dX0_text_30 : decode cX0_text 30 = .ok (.new 110, 3) := dk_187 0 110 (dk_at dksX0_text_1 6 rfl rfl)
theorem dX0_text_33 : decode cX0_text 33 = .ok (.dup, 1) := dk_89 (dk_at dksX0_text_1 9 rfl rfl)
theorem dX0_text_34 : decode cX0_text 34 = .ok (.aload_n 0, 1) := dk_42 (dk_at dksX0_text_1 10 rfl rfl)
theorem dX0_text_35 : decode cX0_text 35 = .ok (.iload_n 2, 1) := dk_28 (dk_at dksX0_text_1 11 rfl rfl)
theorem dX0_text_36 : decode cX0_text 36 = .ok (.invokespecial 112, 3) := dk_183 0 112 (dk_at dksX0_text_1 12 rfl rfl)
theorem dX0_text_39 : decode cX0_text 39 = .ok (.astore_n 3, 1) := dk_78 (dk_at dksX0_text_1 15 rfl rfl)
theorem dX0_text_40 : decode cX0_text 40 = .ok (.iload_n 1, 1) := dk_27 (dk_at dksX0_text_1 16 rfl rfl)
theorem dX0_text_41 : decode cX0_text 41 = .ok (.ifCond .ne 10, 3) := dk_154 0 10 (dk_at dksX0_text_1 17 rfl rfl)
theorem dX0_text_44 : decode cX0_text 44 = .ok (.aload_n 3, 1) := dk_45 (dk_at dksX0_text_1 20 rfl rfl)
theorem dX0_text_45 : decode cX0_text 45 = .ok (.invokevirtual 115, 3) := dk_182 0 115 (dk_at dksX0_text_1 21 rfl rfl)
theorem dX0_text_48 : decode cX0_text 48 = .ok (.goto 7, 3) := dk_167 0 7 (dk_at dksX0_text_2 0 rfl rfl)
theorem dX0_text_51 : decode cX0_text 51 = .ok (.aload_n 3, 1) := dk_45 (dk_at dksX0_text_2 3 rfl rfl)
theorem dX0_text_52 : decode cX0_text 52 = .ok (.invokevirtual 117, 3) := dk_182 0 117 (dk_at dksX0_text_2 4 rfl rfl)
theorem dX0_text_55 : decode cX0_text 55 = .ok (.aload_n 0, 1) := dk_42 (dk_at dksX0_text_2 7 rfl rfl)
theorem dX0_text_56 : decode cX0_text 56 = .ok (.iconst 0, 1) := dk_3 (dk_at dksX0_text_2 8 rfl rfl)
theorem dX0_text_57 : decode cX0_text 57 = .ok (.putfield 99, 3) := dk_181 0 99 (dk_at dksX0_text_2 9 rfl rfl)
theorem dX0_text_60 : decode cX0_text 60 = .ok (.aload_n 0, 1) := dk_42 (dk_at dksX0_text_2 12 rfl rfl)
theorem dX0_text_61 : decode cX0_text 61 = .ok (.aload_n 3, 1) := dk_45 (dk_at dksX0_text_2 13 rfl rfl)
theorem dX0_text_62 : decode cX0_text 62 = .ok (.getfield 120, 3) := dk_180 0 120 (dk_at dksX0_text_2 14 rfl rfl)
theorem dX0_text_65 : decode cX0_text 65 = .ok (.putfield 123, 3) := dk_181 0 123 (dk_at dksX0_text_2 17 rfl rfl)
theorem dX0_text_68 : decode cX0_text 68 = .ok (.aload_n 0, 1) := dk_42 (dk_at dksX0_text_2 20 rfl rfl)
theorem dX0_text_69 : decode cX0_text 69 = .ok (.aload_n 3, 1) := dk_45 (dk_at dksX0_text_2 21 rfl rfl)
theorem dX0_text_70 : decode cX0_text 70 = .ok (.getfield 126, 3) := dk_180 0 126 (dk_at dksX0_text_3 0 rfl rfl)
theorem dX0_text_73 : decode cX0_text 73 = .ok (.putfield 24, 3) := dk_181 0 24 (dk_at dksX0_text_3 3 rfl rfl)
theorem dX0_text_76 : decode cX0_text 76 = .ok (.aload_n 0, 1) := dk_42 (dk_at dksX0_text_3 6 rfl rfl)
theorem dX0_text_77 : decode cX0_text 77 = .ok (.getfield 123, 3) := dk_180 0 123 (dk_at dksX0_text_3 7 rfl rfl)
theorem dX0_text_80 : decode cX0_text 80 = .ok (.ifCond .eq 11, 3) := dk_153 0 11 (dk_at dksX0_text_3 10 rfl rfl)
theorem dX0_text_83 : decode cX0_text 83 = .ok (.bipush (-10), 2) := dk_16 246 (dk_at dksX0_text_3 13 rfl rfl)
theorem dX0_text_85 : decode cX0_text 85 = .ok (.aload_n 0, 1) := dk_42 (dk_at dksX0_text_3 15 rfl rfl)
theorem dX0_text_86 : decode cX0_text 86 = .ok (.getfield 123, 3) := dk_180 0 123 (dk_at dksX0_text_3 16 rfl rfl)
theorem dX0_text_89 : decode cX0_text 89 = .ok (.isub, 1) := dk_100 (dk_at dksX0_text_3 19 rfl rfl)
theorem dX0_text_90 : decode cX0_text 90 = .ok (.ireturn, 1) := dk_172 (dk_at dksX0_text_3 20 rfl rfl)
theorem dX0_text_91 : decode cX0_text 91 = .ok (.iload_n 1, 1) := dk_27 (dk_at dksX0_text_3 21 rfl rfl)
theorem dX0_text_92 : decode cX0_text 92 = .ok (.iconst 1, 1) := dk_4 (dk_at dksX0_text_3 22 rfl rfl)
theorem dX0_text_93 : decode cX0_text 93 = .ok (.if_icmp .ne 22, 3) := dk_160 0 22 (dk_at dksX0_text_4 0 rfl rfl)
theorem dX0_text_96 : decode cX0_text 96 = .ok (.aload_n 0, 1) := dk_42 (dk_at dksX0_text_4 3 rfl rfl)
theorem dX0_text_97 : decode cX0_text 97 = .ok (.getfield 10, 3) := dk_180 0 10 (dk_at dksX0_text_4 4 rfl rfl)
theorem dX0_text_100 : decode cX0_text 100 = .ok (.aload_n 3, 1) := dk_45 (dk_at dksX0_text_4 7 rfl rfl)
theorem dX0_text_101 : decode cX0_text 101 = .ok (.getfield 129, 3) := dk_180 0 129 (dk_at dksX0_text_4 8 rfl rfl)
theorem dX0_text_104 : decode cX0_text 104 = .ok (.putfield 132, 3) := dk_181 0 132 (dk_at dksX0_text_4 11 rfl rfl)
theorem dX0_text_107 : decode cX0_text 107 = .ok (.aload_n 3, 1) := dk_45 (dk_at dksX0_text_4 14 rfl rfl)
theorem dX0_text_108 : decode cX0_text 108 = .ok (.getfield 129, 3) := dk_180 0 129 (dk_at dksX0_text_4 15 rfl rfl)
theorem dX0_text_111 : decode cX0_text 111 = .ok (.invokevirtual 133, 3) := dk_182 0 133 (dk_at dksX0_text_4 18 rfl rfl)
theorem dX0_text_114 : decode cX0_text 114 = .ok (.ireturn, 1) := dk_172 (dk_at dksX0_text_4 21 rfl rfl)
theorem dX0_text_115 : decode cX0_text 115 = .ok (.aload_n 0, 1) := dk_42 (dk_at dksX0_text_4 22 rfl rfl)
theorem dX0_text_116 : decode cX0_text 116 = .ok (.getfield 10, 3) := dk_180 0 10 (dk_at dksX0_text_5 0 rfl rfl)
theorem dX0_text_119 : decode cX0_text 119 = .ok (.aload_n 3, 1) := dk_45 (dk_at dksX0_text_5 3 rfl rfl)
theorem dX0_text_120 : decode cX0_text 120 = .ok (.getfield 139, 3) := dk_180 0 139 (dk_at dksX0_text_5 4 rfl rfl)
theorem dX0_text_123 : decode cX0_text 123 = .ok (.invokevirtual 95, 3) := dk_182 0 95 (dk_at dksX0_text_5 7 rfl rfl)
theorem dX0_text_126 : decode cX0_text 126 = .ok (.aload_n 3, 1) := dk_45 (dk_at dksX0_text_5 10 rfl rfl)
theorem dX0_text_127 : decode cX0_text 127 = .ok (.getfield 139, 3) := dk_180 0 139 (dk_at dksX0_text_5 11 rfl rfl)
theorem dX0_text_130 : decode cX0_text 130 = .ok (.getfield 140, 3) := dk_180 0 140 (dk_at dksX0_text_5 14 rfl rfl)
theorem dX0_text_133 : decode cX0_text 133 = .ok (.ireturn, 1) := dk_172 (dk_at dksX0_text_5 17 rfl rfl)
abbrev cX0_in : ByteArray := prog_1_method_1_code
def yX0_in : MethodName := ⟨RX0, "in", "(JJJ)Z"⟩
def dkwX0_in_0 : List UInt8 := [30, 32, 148, 155, 0, 14, 30, 22, 4, 148, 157, 0, 7, 4, 167, 0, 4, 3, 172]
abbrev dktX0_in_0 : List UInt8 := dkwX0_in_0 ++ []
theorem dksX0_in_0 : cX0_in.data.toList.drop 0 = dktX0_in_0 := by decide +kernel
theorem dX0_in_0 : decode cX0_in 0 = .ok (.lload_n 0, 1) := dk_30 (dk_at dksX0_in_0 0 rfl rfl)
theorem dX0_in_1 : decode cX0_in 1 = .ok (.lload_n 2, 1) := dk_32 (dk_at dksX0_in_0 1 rfl rfl)
theorem dX0_in_2 : decode cX0_in 2 = .ok (.lcmp, 1) := dk_148 (dk_at dksX0_in_0 2 rfl rfl)
theorem dX0_in_3 : decode cX0_in 3 = .ok (.ifCond .lt 14, 3) := dk_155 0 14 (dk_at dksX0_in_0 3 rfl rfl)
theorem dX0_in_6 : decode cX0_in 6 = .ok (.lload_n 0, 1) := dk_30 (dk_at dksX0_in_0 6 rfl rfl)
theorem dX0_in_7 : decode cX0_in 7 = .ok (.lload 4, 2) := dk_22 4 (dk_at dksX0_in_0 7 rfl rfl)
theorem dX0_in_9 : decode cX0_in 9 = .ok (.lcmp, 1) := dk_148 (dk_at dksX0_in_0 9 rfl rfl)
theorem dX0_in_10 : decode cX0_in 10 = .ok (.ifCond .gt 7, 3) := dk_157 0 7 (dk_at dksX0_in_0 10 rfl rfl)
theorem dX0_in_13 : decode cX0_in 13 = .ok (.iconst 1, 1) := dk_4 (dk_at dksX0_in_0 13 rfl rfl)
theorem dX0_in_14 : decode cX0_in 14 = .ok (.goto 4, 3) := dk_167 0 4 (dk_at dksX0_in_0 14 rfl rfl)
theorem dX0_in_17 : decode cX0_in 17 = .ok (.iconst 0, 1) := dk_3 (dk_at dksX0_in_0 17 rfl rfl)
theorem dX0_in_18 : decode cX0_in 18 = .ok (.ireturn, 1) := dk_172 (dk_at dksX0_in_0 18 rfl rfl)
abbrev cX0_fault : ByteArray := prog_1_method_7_code
def yX0_fault : MethodName := ⟨RX0, "fault", "(I)I"⟩
def dkwX0_fault_1 : List UInt8 := [172]
abbrev dktX0_fault_1 : List UInt8 := dkwX0_fault_1 ++ []
def dkwX0_fault_0 : List UInt8 := [27, 154, 0, 10, 42, 180, 0, 123, 167, 0, 16, 27, 4, 160, 0, 10, 42, 180, 0, 24, 167, 0, 4, 2]
abbrev dktX0_fault_0 : List UInt8 := dkwX0_fault_0 ++ dktX0_fault_1
theorem dksX0_fault_0 : cX0_fault.data.toList.drop 0 = dktX0_fault_0 := by decide +kernel
theorem dksX0_fault_1 : cX0_fault.data.toList.drop 24 = dktX0_fault_1 := dk_seg dksX0_fault_0 24 rfl rfl
theorem dX0_fault_0 : decode cX0_fault 0 = .ok (.iload_n 1, 1) := dk_27 (dk_at dksX0_fault_0 0 rfl rfl)
theorem dX0_fault_1 : decode cX0_fault 1 = .ok (.ifCond .ne 10, 3) := dk_154 0 10 (dk_at dksX0_fault_0 1 rfl rfl)
theorem dX0_fault_4 : decode cX0_fault 4 = .ok (.aload_n 0, 1) := dk_42 (dk_at dksX0_fault_0 4 rfl rfl)
theorem dX0_fault_5 : decode cX0_fault 5 = .ok (.getfield 123, 3) := dk_180 0 123 (dk_at dksX0_fault_0 5 rfl rfl)
theorem dX0_fault_8 : decode cX0_fault 8 = .ok (.goto 16, 3) := dk_167 0 16 (dk_at dksX0_fault_0 8 rfl rfl)
theorem dX0_fault_11 : decode cX0_fault 11 = .ok (.iload_n 1, 1) := dk_27 (dk_at dksX0_fault_0 11 rfl rfl)
theorem dX0_fault_12 : decode cX0_fault 12 = .ok (.iconst 1, 1) := dk_4 (dk_at dksX0_fault_0 12 rfl rfl)
theorem dX0_fault_13 : decode cX0_fault 13 = .ok (.if_icmp .ne 10, 3) := dk_160 0 10 (dk_at dksX0_fault_0 13 rfl rfl)
theorem dX0_fault_16 : decode cX0_fault 16 = .ok (.aload_n 0, 1) := dk_42 (dk_at dksX0_fault_0 16 rfl rfl)
theorem dX0_fault_17 : decode cX0_fault 17 = .ok (.getfield 24, 3) := dk_180 0 24 (dk_at dksX0_fault_0 17 rfl rfl)
theorem dX0_fault_20 : decode cX0_fault 20 = .ok (.goto 4, 3) := dk_167 0 4 (dk_at dksX0_fault_0 20 rfl rfl)
theorem dX0_fault_23 : decode cX0_fault 23 = .ok (.iconst (-1), 1) := dk_2 (dk_at dksX0_fault_0 23 rfl rfl)
theorem dX0_fault_24 : decode cX0_fault 24 = .ok (.ireturn, 1) := dk_172 (dk_at dksX0_fault_1 0 rfl rfl)
abbrev cX0_stone : ByteArray := prog_1_method_13_code
def yX0_stone : MethodName := ⟨RX0, "stone", "(II)I"⟩
def dkwX0_stone_6 : List UInt8 := [27, 46, 172]
abbrev dktX0_stone_6 : List UInt8 := dkwX0_stone_6 ++ []
def dkwX0_stone_5 : List UInt8 := [27, 96, 123, 10, 127, 136, 172, 42, 180, 0, 10, 180, 0, 187, 27, 46, 172, 42, 180, 0, 10, 180, 0, 190]
abbrev dktX0_stone_5 : List UInt8 := dkwX0_stone_5 ++ dktX0_stone_6
def dkwX0_stone_4 : List UInt8 := [180, 0, 10, 180, 0, 147, 27, 184, 0, 162, 167, 0, 4, 2, 172, 42, 180, 0, 10, 180, 0, 147, 16, 32]
abbrev dktX0_stone_4 : List UInt8 := dkwX0_stone_4 ++ dktX0_stone_5
def dkwX0_stone_3 : List UInt8 := [45, 180, 0, 176, 172, 45, 180, 0, 179, 172, 45, 180, 0, 181, 172, 42, 27, 182, 0, 184, 153, 0, 17, 42]
abbrev dktX0_stone_3 : List UInt8 := dkwX0_stone_3 ++ dktX0_stone_4
def dkwX0_stone_2 : List UInt8 := [170, 0, 0, 0, 0, 103, 0, 0, 0, 0, 0, 0, 0, 5, 0, 0, 0, 38, 0, 0, 0, 43, 0, 0, 0, 48, 0, 0, 0, 53, 0, 0, 0, 77, 0, 0, 0, 93]
abbrev dktX0_stone_2 : List UInt8 := dkwX0_stone_2 ++ dktX0_stone_3
def dkwX0_stone_1 : List UInt8 := [180, 0, 10, 180, 0, 91, 180, 0, 155, 27, 182, 0, 170, 192, 0, 174, 78, 28]
abbrev dktX0_stone_1 : List UInt8 := dkwX0_stone_1 ++ dktX0_stone_2
def dkwX0_stone_0 : List UInt8 := [42, 27, 182, 0, 158, 153, 0, 15, 28, 133, 9, 20, 0, 168, 184, 0, 106, 154, 0, 6, 16, 254, 172, 42]
abbrev dktX0_stone_0 : List UInt8 := dkwX0_stone_0 ++ dktX0_stone_1
theorem dksX0_stone_0 : cX0_stone.data.toList.drop 0 = dktX0_stone_0 := by decide +kernel
theorem dksX0_stone_1 : cX0_stone.data.toList.drop 24 = dktX0_stone_1 := dk_seg dksX0_stone_0 24 rfl rfl
theorem dksX0_stone_2 : cX0_stone.data.toList.drop 42 = dktX0_stone_2 := dk_seg dksX0_stone_1 18 rfl rfl
theorem dksX0_stone_3 : cX0_stone.data.toList.drop 80 = dktX0_stone_3 := dk_seg dksX0_stone_2 38 rfl rfl
theorem dksX0_stone_4 : cX0_stone.data.toList.drop 104 = dktX0_stone_4 := dk_seg dksX0_stone_3 24 rfl rfl
theorem dksX0_stone_5 : cX0_stone.data.toList.drop 128 = dktX0_stone_5 := dk_seg dksX0_stone_4 24 rfl rfl
theorem dksX0_stone_6 : cX0_stone.data.toList.drop 152 = dktX0_stone_6 := dk_seg dksX0_stone_5 24 rfl rfl
theorem dX0_stone_0 : decode cX0_stone 0 = .ok (.aload_n 0, 1) := dk_42 (dk_at dksX0_stone_0 0 rfl rfl)
theorem dX0_stone_1 : decode cX0_stone 1 = .ok (.iload_n 1, 1) := dk_27 (dk_at dksX0_stone_0 1 rfl rfl)
theorem dX0_stone_2 : decode cX0_stone 2 = .ok (.invokevirtual 158, 3) := dk_182 0 158 (dk_at dksX0_stone_0 2 rfl rfl)
theorem dX0_stone_5 : decode cX0_stone 5 = .ok (.ifCond .eq 15, 3) := dk_153 0 15 (dk_at dksX0_stone_0 5 rfl rfl)
theorem dX0_stone_8 : decode cX0_stone 8 = .ok (.iload_n 2, 1) := dk_28 (dk_at dksX0_stone_0 8 rfl rfl)
theorem dX0_stone_9 : decode cX0_stone 9 = .ok (.i2l, 1) := dk_133 (dk_at dksX0_stone_0 9 rfl rfl)
theorem dX0_stone_10 : decode cX0_stone 10 = .ok (.lconst 0, 1) := dk_9 (dk_at dksX0_stone_0 10 rfl rfl)
theorem dX0_stone_11 : decode cX0_stone 11 = .ok (.ldc2_w 168, 3) := dk_20 0 168 (dk_at dksX0_stone_0 11 rfl rfl)
theorem dX0_stone_14 : decode cX0_stone 14 = .ok (.invokestatic 106, 3) := dk_184 0 106 (dk_at dksX0_stone_0 14 rfl rfl)
theorem dX0_stone_17 : decode cX0_stone 17 = .ok (.ifCond .ne 6, 3) := dk_154 0 6 (dk_at dksX0_stone_0 17 rfl rfl)
theorem dX0_stone_20 : decode cX0_stone 20 = .ok (.bipush (-2), 2) := dk_16 254 (dk_at dksX0_stone_0 20 rfl rfl)
theorem dX0_stone_22 : decode cX0_stone 22 = .ok (.ireturn, 1) := dk_172 (dk_at dksX0_stone_0 22 rfl rfl)
theorem dX0_stone_23 : decode cX0_stone 23 = .ok (.aload_n 0, 1) := dk_42 (dk_at dksX0_stone_0 23 rfl rfl)
theorem dX0_stone_24 : decode cX0_stone 24 = .ok (.getfield 10, 3) := dk_180 0 10 (dk_at dksX0_stone_1 0 rfl rfl)
theorem dX0_stone_27 : decode cX0_stone 27 = .ok (.getfield 91, 3) := dk_180 0 91 (dk_at dksX0_stone_1 3 rfl rfl)
theorem dX0_stone_30 : decode cX0_stone 30 = .ok (.getfield 155, 3) := dk_180 0 155 (dk_at dksX0_stone_1 6 rfl rfl)
theorem dX0_stone_33 : decode cX0_stone 33 = .ok (.iload_n 1, 1) := dk_27 (dk_at dksX0_stone_1 9 rfl rfl)
theorem dX0_stone_34 : decode cX0_stone 34 = .ok (.invokevirtual 170, 3) := dk_182 0 170 (dk_at dksX0_stone_1 10 rfl rfl)
theorem dX0_stone_37 : decode cX0_stone 37 = .ok (.checkcast 174, 3) := dk_192 0 174 (dk_at dksX0_stone_1 13 rfl rfl)
theorem dX0_stone_40 : decode cX0_stone 40 = .ok (.astore_n 3, 1) := dk_78 (dk_at dksX0_stone_1 16 rfl rfl)
theorem dX0_stone_41 : decode cX0_stone 41 = .ok (.iload_n 2, 1) := dk_28 (dk_at dksX0_stone_1 17 rfl rfl)
theorem dX0_stone_42 : decode cX0_stone 42 = .ok (.tableswitch 103 0 5 #[38, 43, 48, 53, 77, 93], 38) := by decide +kernel
theorem dX0_stone_80 : decode cX0_stone 80 = .ok (.aload_n 3, 1) := dk_45 (dk_at dksX0_stone_3 0 rfl rfl)
theorem dX0_stone_81 : decode cX0_stone 81 = .ok (.getfield 176, 3) := dk_180 0 176 (dk_at dksX0_stone_3 1 rfl rfl)
theorem dX0_stone_84 : decode cX0_stone 84 = .ok (.ireturn, 1) := dk_172 (dk_at dksX0_stone_3 4 rfl rfl)
theorem dX0_stone_85 : decode cX0_stone 85 = .ok (.aload_n 3, 1) := dk_45 (dk_at dksX0_stone_3 5 rfl rfl)
theorem dX0_stone_86 : decode cX0_stone 86 = .ok (.getfield 179, 3) := dk_180 0 179 (dk_at dksX0_stone_3 6 rfl rfl)
theorem dX0_stone_89 : decode cX0_stone 89 = .ok (.ireturn, 1) := dk_172 (dk_at dksX0_stone_3 9 rfl rfl)
theorem dX0_stone_90 : decode cX0_stone 90 = .ok (.aload_n 3, 1) := dk_45 (dk_at dksX0_stone_3 10 rfl rfl)
theorem dX0_stone_91 : decode cX0_stone 91 = .ok (.getfield 181, 3) := dk_180 0 181 (dk_at dksX0_stone_3 11 rfl rfl)
theorem dX0_stone_94 : decode cX0_stone 94 = .ok (.ireturn, 1) := dk_172 (dk_at dksX0_stone_3 14 rfl rfl)
theorem dX0_stone_95 : decode cX0_stone 95 = .ok (.aload_n 0, 1) := dk_42 (dk_at dksX0_stone_3 15 rfl rfl)
theorem dX0_stone_96 : decode cX0_stone 96 = .ok (.iload_n 1, 1) := dk_27 (dk_at dksX0_stone_3 16 rfl rfl)
theorem dX0_stone_97 : decode cX0_stone 97 = .ok (.invokevirtual 184, 3) := dk_182 0 184 (dk_at dksX0_stone_3 17 rfl rfl)
theorem dX0_stone_100 : decode cX0_stone 100 = .ok (.ifCond .eq 17, 3) := dk_153 0 17 (dk_at dksX0_stone_3 20 rfl rfl)
theorem dX0_stone_103 : decode cX0_stone 103 = .ok (.aload_n 0, 1) := dk_42 (dk_at dksX0_stone_3 23 rfl rfl)
theorem dX0_stone_104 : decode cX0_stone 104 = .ok (.getfield 10, 3) := dk_180 0 10 (dk_at dksX0_stone_4 0 rfl rfl)
theorem dX0_stone_107 : decode cX0_stone 107 = .ok (.getfield 147, 3) := dk_180 0 147 (dk_at dksX0_stone_4 3 rfl rfl)
theorem dX0_stone_110 : decode cX0_stone 110 = .ok (.iload_n 1, 1) := dk_27 (dk_at dksX0_stone_4 6 rfl rfl)
theorem dX0_stone_111 : decode cX0_stone 111 = .ok (.invokestatic 162, 3) := dk_184 0 162 (dk_at dksX0_stone_4 7 rfl rfl)
theorem dX0_stone_114 : decode cX0_stone 114 = .ok (.goto 4, 3) := dk_167 0 4 (dk_at dksX0_stone_4 10 rfl rfl)
theorem dX0_stone_117 : decode cX0_stone 117 = .ok (.iconst (-1), 1) := dk_2 (dk_at dksX0_stone_4 13 rfl rfl)
theorem dX0_stone_118 : decode cX0_stone 118 = .ok (.ireturn, 1) := dk_172 (dk_at dksX0_stone_4 14 rfl rfl)
theorem dX0_stone_119 : decode cX0_stone 119 = .ok (.aload_n 0, 1) := dk_42 (dk_at dksX0_stone_4 15 rfl rfl)
theorem dX0_stone_120 : decode cX0_stone 120 = .ok (.getfield 10, 3) := dk_180 0 10 (dk_at dksX0_stone_4 16 rfl rfl)
theorem dX0_stone_123 : decode cX0_stone 123 = .ok (.getfield 147, 3) := dk_180 0 147 (dk_at dksX0_stone_4 19 rfl rfl)
theorem dX0_stone_126 : decode cX0_stone 126 = .ok (.bipush 32, 2) := dk_16 32 (dk_at dksX0_stone_4 22 rfl rfl)
theorem dX0_stone_128 : decode cX0_stone 128 = .ok (.iload_n 1, 1) := dk_27 (dk_at dksX0_stone_5 0 rfl rfl)
theorem dX0_stone_129 : decode cX0_stone 129 = .ok (.iadd, 1) := dk_96 (dk_at dksX0_stone_5 1 rfl rfl)
theorem dX0_stone_130 : decode cX0_stone 130 = .ok (.lshr, 1) := dk_123 (dk_at dksX0_stone_5 2 rfl rfl)
theorem dX0_stone_131 : decode cX0_stone 131 = .ok (.lconst 1, 1) := dk_10 (dk_at dksX0_stone_5 3 rfl rfl)
theorem dX0_stone_132 : decode cX0_stone 132 = .ok (.land, 1) := dk_127 (dk_at dksX0_stone_5 4 rfl rfl)
theorem dX0_stone_133 : decode cX0_stone 133 = .ok (.l2i, 1) := dk_136 (dk_at dksX0_stone_5 5 rfl rfl)
theorem dX0_stone_134 : decode cX0_stone 134 = .ok (.ireturn, 1) := dk_172 (dk_at dksX0_stone_5 6 rfl rfl)
theorem dX0_stone_135 : decode cX0_stone 135 = .ok (.aload_n 0, 1) := dk_42 (dk_at dksX0_stone_5 7 rfl rfl)
theorem dX0_stone_136 : decode cX0_stone 136 = .ok (.getfield 10, 3) := dk_180 0 10 (dk_at dksX0_stone_5 8 rfl rfl)
theorem dX0_stone_139 : decode cX0_stone 139 = .ok (.getfield 187, 3) := dk_180 0 187 (dk_at dksX0_stone_5 11 rfl rfl)
theorem dX0_stone_142 : decode cX0_stone 142 = .ok (.iload_n 1, 1) := dk_27 (dk_at dksX0_stone_5 14 rfl rfl)
theorem dX0_stone_143 : decode cX0_stone 143 = .ok (.iaload, 1) := dk_46 (dk_at dksX0_stone_5 15 rfl rfl)
theorem dX0_stone_144 : decode cX0_stone 144 = .ok (.ireturn, 1) := dk_172 (dk_at dksX0_stone_5 16 rfl rfl)
theorem dX0_stone_145 : decode cX0_stone 145 = .ok (.aload_n 0, 1) := dk_42 (dk_at dksX0_stone_5 17 rfl rfl)
theorem dX0_stone_146 : decode cX0_stone 146 = .ok (.getfield 10, 3) := dk_180 0 10 (dk_at dksX0_stone_5 18 rfl rfl)
theorem dX0_stone_149 : decode cX0_stone 149 = .ok (.getfield 190, 3) := dk_180 0 190 (dk_at dksX0_stone_5 21 rfl rfl)
theorem dX0_stone_152 : decode cX0_stone 152 = .ok (.iload_n 1, 1) := dk_27 (dk_at dksX0_stone_6 0 rfl rfl)
theorem dX0_stone_153 : decode cX0_stone 153 = .ok (.iaload, 1) := dk_46 (dk_at dksX0_stone_6 1 rfl rfl)
theorem dX0_stone_154 : decode cX0_stone 154 = .ok (.ireturn, 1) := dk_172 (dk_at dksX0_stone_6 2 rfl rfl)
abbrev cX0_isStone : ByteArray := prog_1_method_10_code
def yX0_isStone : MethodName := ⟨RX0, "isStone", "(I)Z"⟩
def dkwX0_isStone_0 : List UInt8 := [27, 133, 9, 42, 180, 0, 10, 180, 0, 91, 180, 0, 155, 182, 0, 133, 4, 100, 133, 184, 0, 106, 172]
abbrev dktX0_isStone_0 : List UInt8 := dkwX0_isStone_0 ++ []
theorem dksX0_isStone_0 : cX0_isStone.data.toList.drop 0 = dktX0_isStone_0 := by decide +kernel
theorem dX0_isStone_0 : decode cX0_isStone 0 = .ok (.iload_n 1, 1) := dk_27 (dk_at dksX0_isStone_0 0 rfl rfl)
theorem dX0_isStone_1 : decode cX0_isStone 1 = .ok (.i2l, 1) := dk_133 (dk_at dksX0_isStone_0 1 rfl rfl)
theorem dX0_isStone_2 : decode cX0_isStone 2 = .ok (.lconst 0, 1) := dk_9 (dk_at dksX0_isStone_0 2 rfl rfl)
theorem dX0_isStone_3 : decode cX0_isStone 3 = .ok (.aload_n 0, 1) := dk_42 (dk_at dksX0_isStone_0 3 rfl rfl)
theorem dX0_isStone_4 : decode cX0_isStone 4 = .ok (.getfield 10, 3) := dk_180 0 10 (dk_at dksX0_isStone_0 4 rfl rfl)
theorem dX0_isStone_7 : decode cX0_isStone 7 = .ok (.getfield 91, 3) := dk_180 0 91 (dk_at dksX0_isStone_0 7 rfl rfl)
theorem dX0_isStone_10 : decode cX0_isStone 10 = .ok (.getfield 155, 3) := dk_180 0 155 (dk_at dksX0_isStone_0 10 rfl rfl)
theorem dX0_isStone_13 : decode cX0_isStone 13 = .ok (.invokevirtual 133, 3) := dk_182 0 133 (dk_at dksX0_isStone_0 13 rfl rfl)
theorem dX0_isStone_16 : decode cX0_isStone 16 = .ok (.iconst 1, 1) := dk_4 (dk_at dksX0_isStone_0 16 rfl rfl)
theorem dX0_isStone_17 : decode cX0_isStone 17 = .ok (.isub, 1) := dk_100 (dk_at dksX0_isStone_0 17 rfl rfl)
theorem dX0_isStone_18 : decode cX0_isStone 18 = .ok (.i2l, 1) := dk_133 (dk_at dksX0_isStone_0 18 rfl rfl)
theorem dX0_isStone_19 : decode cX0_isStone 19 = .ok (.invokestatic 106, 3) := dk_184 0 106 (dk_at dksX0_isStone_0 19 rfl rfl)
theorem dX0_isStone_22 : decode cX0_isStone 22 = .ok (.ireturn, 1) := dk_172 (dk_at dksX0_isStone_0 22 rfl rfl)
abbrev cX0_isThere : ByteArray := prog_1_method_11_code
def yX0_isThere : MethodName := ⟨RX0, "isThere", "(I)Z"⟩
def dkwX0_isThere_1 : List UInt8 := [4, 167, 0, 4, 3, 172]
abbrev dktX0_isThere_1 : List UInt8 := dkwX0_isThere_1 ++ []
def dkwX0_isThere_0 : List UInt8 := [42, 27, 182, 0, 158, 153, 0, 23, 42, 180, 0, 10, 180, 0, 147, 27, 184, 0, 162, 16, 15, 159, 0, 7]
abbrev dktX0_isThere_0 : List UInt8 := dkwX0_isThere_0 ++ dktX0_isThere_1
theorem dksX0_isThere_0 : cX0_isThere.data.toList.drop 0 = dktX0_isThere_0 := by decide +kernel
theorem dksX0_isThere_1 : cX0_isThere.data.toList.drop 24 = dktX0_isThere_1 := dk_seg dksX0_isThere_0 24 rfl rfl
theorem dX0_isThere_0 : decode cX0_isThere 0 = .ok (.aload_n 0, 1) := dk_42 (dk_at dksX0_isThere_0 0 rfl rfl)
theorem dX0_isThere_1 : decode cX0_isThere 1 = .ok (.iload_n 1, 1) := dk_27 (dk_at dksX0_isThere_0 1 rfl rfl)
theorem dX0_isThere_2 : decode cX0_isThere 2 = .ok (.invokevirtual 158, 3) := dk_182 0 158 (dk_at dksX0_isThere_0 2 rfl rfl)
theorem dX0_isThere_5 : decode cX0_isThere 5 = .ok (.ifCond .eq 23, 3) := dk_153 0 23 (dk_at dksX0_isThere_0 5 rfl rfl)
theorem dX0_isThere_8 : decode cX0_isThere 8 = .ok (.aload_n 0, 1) := dk_42 (dk_at dksX0_isThere_0 8 rfl rfl)
theorem dX0_isThere_9 : decode cX0_isThere 9 = .ok (.getfield 10, 3) := dk_180 0 10 (dk_at dksX0_isThere_0 9 rfl rfl)
theorem dX0_isThere_12 : decode cX0_isThere 12 = .ok (.getfield 147, 3) := dk_180 0 147 (dk_at dksX0_isThere_0 12 rfl rfl)
theorem dX0_isThere_15 : decode cX0_isThere 15 = .ok (.iload_n 1, 1) := dk_27 (dk_at dksX0_isThere_0 15 rfl rfl)
theorem dX0_isThere_16 : decode cX0_isThere 16 = .ok (.invokestatic 162, 3) := dk_184 0 162 (dk_at dksX0_isThere_0 16 rfl rfl)
theorem dX0_isThere_19 : decode cX0_isThere 19 = .ok (.bipush 15, 2) := dk_16 15 (dk_at dksX0_isThere_0 19 rfl rfl)
theorem dX0_isThere_21 : decode cX0_isThere 21 = .ok (.if_icmp .eq 7, 3) := dk_159 0 7 (dk_at dksX0_isThere_0 21 rfl rfl)
theorem dX0_isThere_24 : decode cX0_isThere 24 = .ok (.iconst 1, 1) := dk_4 (dk_at dksX0_isThere_1 0 rfl rfl)
theorem dX0_isThere_25 : decode cX0_isThere 25 = .ok (.goto 4, 3) := dk_167 0 4 (dk_at dksX0_isThere_1 1 rfl rfl)
theorem dX0_isThere_28 : decode cX0_isThere 28 = .ok (.iconst 0, 1) := dk_3 (dk_at dksX0_isThere_1 4 rfl rfl)
theorem dX0_isThere_29 : decode cX0_isThere 29 = .ok (.ireturn, 1) := dk_172 (dk_at dksX0_isThere_1 5 rfl rfl)
abbrev cX0_placeIn : ByteArray := prog_1_method_8_code
def yX0_placeIn : MethodName := ⟨RX0, "placeIn", "(JI)I"⟩
def dkwX0_placeIn_0 : List UInt8 := [30, 7, 28, 104, 123, 20, 0, 145, 127, 136, 172]
abbrev dktX0_placeIn_0 : List UInt8 := dkwX0_placeIn_0 ++ []
theorem dksX0_placeIn_0 : cX0_placeIn.data.toList.drop 0 = dktX0_placeIn_0 := by decide +kernel
theorem dX0_placeIn_0 : decode cX0_placeIn 0 = .ok (.lload_n 0, 1) := dk_30 (dk_at dksX0_placeIn_0 0 rfl rfl)
theorem dX0_placeIn_1 : decode cX0_placeIn 1 = .ok (.iconst 4, 1) := dk_7 (dk_at dksX0_placeIn_0 1 rfl rfl)
theorem dX0_placeIn_2 : decode cX0_placeIn 2 = .ok (.iload_n 2, 1) := dk_28 (dk_at dksX0_placeIn_0 2 rfl rfl)
theorem dX0_placeIn_3 : decode cX0_placeIn 3 = .ok (.imul, 1) := dk_104 (dk_at dksX0_placeIn_0 3 rfl rfl)
theorem dX0_placeIn_4 : decode cX0_placeIn 4 = .ok (.lshr, 1) := dk_123 (dk_at dksX0_placeIn_0 4 rfl rfl)
theorem dX0_placeIn_5 : decode cX0_placeIn 5 = .ok (.ldc2_w 145, 3) := dk_20 0 145 (dk_at dksX0_placeIn_0 5 rfl rfl)
theorem dX0_placeIn_8 : decode cX0_placeIn 8 = .ok (.land, 1) := dk_127 (dk_at dksX0_placeIn_0 8 rfl rfl)
theorem dX0_placeIn_9 : decode cX0_placeIn 9 = .ok (.l2i, 1) := dk_136 (dk_at dksX0_placeIn_0 9 rfl rfl)
theorem dX0_placeIn_10 : decode cX0_placeIn 10 = .ok (.ireturn, 1) := dk_172 (dk_at dksX0_placeIn_0 10 rfl rfl)
abbrev cX0_lies : ByteArray := prog_1_method_14_code
def yX0_lies : MethodName := ⟨RX0, "lies", "(I)I"⟩
def dkwX0_lies_1 : List UInt8 := [16, 253, 172]
abbrev dktX0_lies_1 : List UInt8 := dkwX0_lies_1 ++ []
def dkwX0_lies_0 : List UInt8 := [27, 133, 9, 20, 0, 193, 184, 0, 106, 153, 0, 15, 42, 182, 0, 195, 180, 0, 198, 27, 46, 167, 0, 5]
abbrev dktX0_lies_0 : List UInt8 := dkwX0_lies_0 ++ dktX0_lies_1
theorem dksX0_lies_0 : cX0_lies.data.toList.drop 0 = dktX0_lies_0 := by decide +kernel
theorem dksX0_lies_1 : cX0_lies.data.toList.drop 24 = dktX0_lies_1 := dk_seg dksX0_lies_0 24 rfl rfl
theorem dX0_lies_0 : decode cX0_lies 0 = .ok (.iload_n 1, 1) := dk_27 (dk_at dksX0_lies_0 0 rfl rfl)
theorem dX0_lies_1 : decode cX0_lies 1 = .ok (.i2l, 1) := dk_133 (dk_at dksX0_lies_0 1 rfl rfl)
theorem dX0_lies_2 : decode cX0_lies 2 = .ok (.lconst 0, 1) := dk_9 (dk_at dksX0_lies_0 2 rfl rfl)
theorem dX0_lies_3 : decode cX0_lies 3 = .ok (.ldc2_w 193, 3) := dk_20 0 193 (dk_at dksX0_lies_0 3 rfl rfl)
theorem dX0_lies_6 : decode cX0_lies 6 = .ok (.invokestatic 106, 3) := dk_184 0 106 (dk_at dksX0_lies_0 6 rfl rfl)
theorem dX0_lies_9 : decode cX0_lies 9 = .ok (.ifCond .eq 15, 3) := dk_153 0 15 (dk_at dksX0_lies_0 9 rfl rfl)
theorem dX0_lies_12 : decode cX0_lies 12 = .ok (.aload_n 0, 1) := dk_42 (dk_at dksX0_lies_0 12 rfl rfl)
theorem dX0_lies_13 : decode cX0_lies 13 = .ok (.invokevirtual 195, 3) := dk_182 0 195 (dk_at dksX0_lies_0 13 rfl rfl)
theorem dX0_lies_16 : decode cX0_lies 16 = .ok (.getfield 198, 3) := dk_180 0 198 (dk_at dksX0_lies_0 16 rfl rfl)
theorem dX0_lies_19 : decode cX0_lies 19 = .ok (.iload_n 1, 1) := dk_27 (dk_at dksX0_lies_0 19 rfl rfl)
theorem dX0_lies_20 : decode cX0_lies 20 = .ok (.iaload, 1) := dk_46 (dk_at dksX0_lies_0 20 rfl rfl)
theorem dX0_lies_21 : decode cX0_lies 21 = .ok (.goto 5, 3) := dk_167 0 5 (dk_at dksX0_lies_0 21 rfl rfl)
theorem dX0_lies_24 : decode cX0_lies 24 = .ok (.bipush (-3), 2) := dk_16 253 (dk_at dksX0_lies_1 0 rfl rfl)
theorem dX0_lies_26 : decode cX0_lies 26 = .ok (.ireturn, 1) := dk_172 (dk_at dksX0_lies_1 2 rfl rfl)
abbrev cX0_here : ByteArray := prog_1_method_9_code
def yX0_here : MethodName := ⟨RX0, "here", "()LStoneYear$Stacks;"⟩
def dkwX0_here_0 : List UInt8 := [42, 180, 0, 40, 42, 180, 0, 10, 180, 0, 91, 42, 180, 0, 10, 180, 0, 147, 182, 0, 151, 176]
abbrev dktX0_here_0 : List UInt8 := dkwX0_here_0 ++ []
theorem dksX0_here_0 : cX0_here.data.toList.drop 0 = dktX0_here_0 := by decide +kernel
theorem dX0_here_0 : decode cX0_here 0 = .ok (.aload_n 0, 1) := dk_42 (dk_at dksX0_here_0 0 rfl rfl)
theorem dX0_here_1 : decode cX0_here 1 = .ok (.getfield 40, 3) := dk_180 0 40 (dk_at dksX0_here_0 1 rfl rfl)
theorem dX0_here_4 : decode cX0_here 4 = .ok (.aload_n 0, 1) := dk_42 (dk_at dksX0_here_0 4 rfl rfl)
theorem dX0_here_5 : decode cX0_here 5 = .ok (.getfield 10, 3) := dk_180 0 10 (dk_at dksX0_here_0 5 rfl rfl)
theorem dX0_here_8 : decode cX0_here 8 = .ok (.getfield 91, 3) := dk_180 0 91 (dk_at dksX0_here_0 8 rfl rfl)
theorem dX0_here_11 : decode cX0_here 11 = .ok (.aload_n 0, 1) := dk_42 (dk_at dksX0_here_0 11 rfl rfl)
theorem dX0_here_12 : decode cX0_here 12 = .ok (.getfield 10, 3) := dk_180 0 10 (dk_at dksX0_here_0 12 rfl rfl)
theorem dX0_here_15 : decode cX0_here 15 = .ok (.getfield 147, 3) := dk_180 0 147 (dk_at dksX0_here_0 15 rfl rfl)
theorem dX0_here_18 : decode cX0_here 18 = .ok (.invokevirtual 151, 3) := dk_182 0 151 (dk_at dksX0_here_0 18 rfl rfl)
theorem dX0_here_21 : decode cX0_here 21 = .ok (.areturn, 1) := dk_176 (dk_at dksX0_here_0 21 rfl rfl)
abbrev cX0_row : ByteArray := prog_1_method_15_code
def yX0_row : MethodName := ⟨RX0, "row", "(II)I"⟩
def dkwX0_row_5 : List UInt8 := [180, 0, 217, 28, 7, 100, 46, 172]
abbrev dktX0_row_5 : List UInt8 := dkwX0_row_5 ++ []
def dkwX0_row_4 : List UInt8 := [160, 0, 10, 45, 180, 0, 211, 167, 0, 23, 28, 6, 160, 0, 10, 45, 180, 0, 214, 167, 0, 11, 45]
abbrev dktX0_row_4 : List UInt8 := dkwX0_row_4 ++ dktX0_row_5
def dkwX0_row_3 : List UInt8 := [167, 0, 52, 28, 4, 160, 0, 15, 42, 182, 0, 195, 180, 0, 208, 27, 46, 167, 0, 35, 28, 5]
abbrev dktX0_row_3 : List UInt8 := dkwX0_row_3 ++ dktX0_row_4
def dkwX0_row_2 : List UInt8 := [180, 0, 91, 180, 0, 201, 27, 182, 0, 170, 192, 0, 203, 78, 28, 154, 0, 10, 45, 180, 0, 205]
abbrev dktX0_row_2 : List UInt8 := dkwX0_row_2 ++ dktX0_row_3
def dkwX0_row_1 : List UInt8 := [153, 0, 15, 28, 133, 9, 20, 0, 168, 184, 0, 106, 154, 0, 6, 16, 254, 172, 42, 180, 0, 10]
abbrev dktX0_row_1 : List UInt8 := dkwX0_row_1 ++ dktX0_row_2
def dkwX0_row_0 : List UInt8 := [27, 133, 9, 42, 180, 0, 10, 180, 0, 91, 180, 0, 201, 182, 0, 133, 4, 100, 133, 184, 0, 106]
abbrev dktX0_row_0 : List UInt8 := dkwX0_row_0 ++ dktX0_row_1
theorem dksX0_row_0 : cX0_row.data.toList.drop 0 = dktX0_row_0 := by decide +kernel
theorem dksX0_row_1 : cX0_row.data.toList.drop 22 = dktX0_row_1 := dk_seg dksX0_row_0 22 rfl rfl
theorem dksX0_row_2 : cX0_row.data.toList.drop 44 = dktX0_row_2 := dk_seg dksX0_row_1 22 rfl rfl
theorem dksX0_row_3 : cX0_row.data.toList.drop 66 = dktX0_row_3 := dk_seg dksX0_row_2 22 rfl rfl
theorem dksX0_row_4 : cX0_row.data.toList.drop 88 = dktX0_row_4 := dk_seg dksX0_row_3 22 rfl rfl
theorem dksX0_row_5 : cX0_row.data.toList.drop 111 = dktX0_row_5 := dk_seg dksX0_row_4 23 rfl rfl
theorem dX0_row_0 : decode cX0_row 0 = .ok (.iload_n 1, 1) := dk_27 (dk_at dksX0_row_0 0 rfl rfl)
theorem dX0_row_1 : decode cX0_row 1 = .ok (.i2l, 1) := dk_133 (dk_at dksX0_row_0 1 rfl rfl)
theorem dX0_row_2 : decode cX0_row 2 = .ok (.lconst 0, 1) := dk_9 (dk_at dksX0_row_0 2 rfl rfl)
theorem dX0_row_3 : decode cX0_row 3 = .ok (.aload_n 0, 1) := dk_42 (dk_at dksX0_row_0 3 rfl rfl)
theorem dX0_row_4 : decode cX0_row 4 = .ok (.getfield 10, 3) := dk_180 0 10 (dk_at dksX0_row_0 4 rfl rfl)
theorem dX0_row_7 : decode cX0_row 7 = .ok (.getfield 91, 3) := dk_180 0 91 (dk_at dksX0_row_0 7 rfl rfl)
theorem dX0_row_10 : decode cX0_row 10 = .ok (.getfield 201, 3) := dk_180 0 201 (dk_at dksX0_row_0 10 rfl rfl)
theorem dX0_row_13 : decode cX0_row 13 = .ok (.invokevirtual 133, 3) := dk_182 0 133 (dk_at dksX0_row_0 13 rfl rfl)
theorem dX0_row_16 : decode cX0_row 16 = .ok (.iconst 1, 1) := dk_4 (dk_at dksX0_row_0 16 rfl rfl)
theorem dX0_row_17 : decode cX0_row 17 = .ok (.isub, 1) := dk_100 (dk_at dksX0_row_0 17 rfl rfl)
theorem dX0_row_18 : decode cX0_row 18 = .ok (.i2l, 1) := dk_133 (dk_at dksX0_row_0 18 rfl rfl)
theorem dX0_row_19 : decode cX0_row 19 = .ok (.invokestatic 106, 3) := dk_184 0 106 (dk_at dksX0_row_0 19 rfl rfl)
theorem dX0_row_22 : decode cX0_row 22 = .ok (.ifCond .eq 15, 3) := dk_153 0 15 (dk_at dksX0_row_1 0 rfl rfl)
theorem dX0_row_25 : decode cX0_row 25 = .ok (.iload_n 2, 1) := dk_28 (dk_at dksX0_row_1 3 rfl rfl)
theorem dX0_row_26 : decode cX0_row 26 = .ok (.i2l, 1) := dk_133 (dk_at dksX0_row_1 4 rfl rfl)
theorem dX0_row_27 : decode cX0_row 27 = .ok (.lconst 0, 1) := dk_9 (dk_at dksX0_row_1 5 rfl rfl)
theorem dX0_row_28 : decode cX0_row 28 = .ok (.ldc2_w 168, 3) := dk_20 0 168 (dk_at dksX0_row_1 6 rfl rfl)
theorem dX0_row_31 : decode cX0_row 31 = .ok (.invokestatic 106, 3) := dk_184 0 106 (dk_at dksX0_row_1 9 rfl rfl)
theorem dX0_row_34 : decode cX0_row 34 = .ok (.ifCond .ne 6, 3) := dk_154 0 6 (dk_at dksX0_row_1 12 rfl rfl)
theorem dX0_row_37 : decode cX0_row 37 = .ok (.bipush (-2), 2) := dk_16 254 (dk_at dksX0_row_1 15 rfl rfl)
theorem dX0_row_39 : decode cX0_row 39 = .ok (.ireturn, 1) := dk_172 (dk_at dksX0_row_1 17 rfl rfl)
theorem dX0_row_40 : decode cX0_row 40 = .ok (.aload_n 0, 1) := dk_42 (dk_at dksX0_row_1 18 rfl rfl)
theorem dX0_row_41 : decode cX0_row 41 = .ok (.getfield 10, 3) := dk_180 0 10 (dk_at dksX0_row_1 19 rfl rfl)
theorem dX0_row_44 : decode cX0_row 44 = .ok (.getfield 91, 3) := dk_180 0 91 (dk_at dksX0_row_2 0 rfl rfl)
theorem dX0_row_47 : decode cX0_row 47 = .ok (.getfield 201, 3) := dk_180 0 201 (dk_at dksX0_row_2 3 rfl rfl)
theorem dX0_row_50 : decode cX0_row 50 = .ok (.iload_n 1, 1) := dk_27 (dk_at dksX0_row_2 6 rfl rfl)
theorem dX0_row_51 : decode cX0_row 51 = .ok (.invokevirtual 170, 3) := dk_182 0 170 (dk_at dksX0_row_2 7 rfl rfl)
theorem dX0_row_54 : decode cX0_row 54 = .ok (.checkcast 203, 3) := dk_192 0 203 (dk_at dksX0_row_2 10 rfl rfl)
theorem dX0_row_57 : decode cX0_row 57 = .ok (.astore_n 3, 1) := dk_78 (dk_at dksX0_row_2 13 rfl rfl)
theorem dX0_row_58 : decode cX0_row 58 = .ok (.iload_n 2, 1) := dk_28 (dk_at dksX0_row_2 14 rfl rfl)
theorem dX0_row_59 : decode cX0_row 59 = .ok (.ifCond .ne 10, 3) := dk_154 0 10 (dk_at dksX0_row_2 15 rfl rfl)
theorem dX0_row_62 : decode cX0_row 62 = .ok (.aload_n 3, 1) := dk_45 (dk_at dksX0_row_2 18 rfl rfl)
theorem dX0_row_63 : decode cX0_row 63 = .ok (.getfield 205, 3) := dk_180 0 205 (dk_at dksX0_row_2 19 rfl rfl)
theorem dX0_row_66 : decode cX0_row 66 = .ok (.goto 52, 3) := dk_167 0 52 (dk_at dksX0_row_3 0 rfl rfl)
theorem dX0_row_69 : decode cX0_row 69 = .ok (.iload_n 2, 1) := dk_28 (dk_at dksX0_row_3 3 rfl rfl)
theorem dX0_row_70 : decode cX0_row 70 = .ok (.iconst 1, 1) := dk_4 (dk_at dksX0_row_3 4 rfl rfl)
theorem dX0_row_71 : decode cX0_row 71 = .ok (.if_icmp .ne 15, 3) := dk_160 0 15 (dk_at dksX0_row_3 5 rfl rfl)
theorem dX0_row_74 : decode cX0_row 74 = .ok (.aload_n 0, 1) := dk_42 (dk_at dksX0_row_3 8 rfl rfl)
theorem dX0_row_75 : decode cX0_row 75 = .ok (.invokevirtual 195, 3) := dk_182 0 195 (dk_at dksX0_row_3 9 rfl rfl)
theorem dX0_row_78 : decode cX0_row 78 = .ok (.getfield 208, 3) := dk_180 0 208 (dk_at dksX0_row_3 12 rfl rfl)
theorem dX0_row_81 : decode cX0_row 81 = .ok (.iload_n 1, 1) := dk_27 (dk_at dksX0_row_3 15 rfl rfl)
theorem dX0_row_82 : decode cX0_row 82 = .ok (.iaload, 1) := dk_46 (dk_at dksX0_row_3 16 rfl rfl)
theorem dX0_row_83 : decode cX0_row 83 = .ok (.goto 35, 3) := dk_167 0 35 (dk_at dksX0_row_3 17 rfl rfl)
theorem dX0_row_86 : decode cX0_row 86 = .ok (.iload_n 2, 1) := dk_28 (dk_at dksX0_row_3 20 rfl rfl)
theorem dX0_row_87 : decode cX0_row 87 = .ok (.iconst 2, 1) := dk_5 (dk_at dksX0_row_3 21 rfl rfl)
theorem dX0_row_88 : decode cX0_row 88 = .ok (.if_icmp .ne 10, 3) := dk_160 0 10 (dk_at dksX0_row_4 0 rfl rfl)
theorem dX0_row_91 : decode cX0_row 91 = .ok (.aload_n 3, 1) := dk_45 (dk_at dksX0_row_4 3 rfl rfl)
theorem dX0_row_92 : decode cX0_row 92 = .ok (.getfield 211, 3) := dk_180 0 211 (dk_at dksX0_row_4 4 rfl rfl)
theorem dX0_row_95 : decode cX0_row 95 = .ok (.goto 23, 3) := dk_167 0 23 (dk_at dksX0_row_4 7 rfl rfl)
theorem dX0_row_98 : decode cX0_row 98 = .ok (.iload_n 2, 1) := dk_28 (dk_at dksX0_row_4 10 rfl rfl)
theorem dX0_row_99 : decode cX0_row 99 = .ok (.iconst 3, 1) := dk_6 (dk_at dksX0_row_4 11 rfl rfl)
theorem dX0_row_100 : decode cX0_row 100 = .ok (.if_icmp .ne 10, 3) := dk_160 0 10 (dk_at dksX0_row_4 12 rfl rfl)
theorem dX0_row_103 : decode cX0_row 103 = .ok (.aload_n 3, 1) := dk_45 (dk_at dksX0_row_4 15 rfl rfl)
theorem dX0_row_104 : decode cX0_row 104 = .ok (.getfield 214, 3) := dk_180 0 214 (dk_at dksX0_row_4 16 rfl rfl)
theorem dX0_row_107 : decode cX0_row 107 = .ok (.goto 11, 3) := dk_167 0 11 (dk_at dksX0_row_4 19 rfl rfl)
theorem dX0_row_110 : decode cX0_row 110 = .ok (.aload_n 3, 1) := dk_45 (dk_at dksX0_row_4 22 rfl rfl)
theorem dX0_row_111 : decode cX0_row 111 = .ok (.getfield 217, 3) := dk_180 0 217 (dk_at dksX0_row_5 0 rfl rfl)
theorem dX0_row_114 : decode cX0_row 114 = .ok (.iload_n 2, 1) := dk_28 (dk_at dksX0_row_5 3 rfl rfl)
theorem dX0_row_115 : decode cX0_row 115 = .ok (.iconst 4, 1) := dk_7 (dk_at dksX0_row_5 4 rfl rfl)
theorem dX0_row_116 : decode cX0_row 116 = .ok (.isub, 1) := dk_100 (dk_at dksX0_row_5 5 rfl rfl)
theorem dX0_row_117 : decode cX0_row 117 = .ok (.iaload, 1) := dk_46 (dk_at dksX0_row_5 6 rfl rfl)
theorem dX0_row_118 : decode cX0_row 118 = .ok (.ireturn, 1) := dk_172 (dk_at dksX0_row_5 7 rfl rfl)
abbrev cX0_rests : ByteArray := prog_1_method_17_code
def yX0_rests : MethodName := ⟨RX0, "rests", "(I)I"⟩
def dkwX0_rests_1 : List UInt8 := [42, 182, 0, 195, 2, 2, 182, 0, 223, 172]
abbrev dktX0_rests_1 : List UInt8 := dkwX0_rests_1 ++ []
def dkwX0_rests_0 : List UInt8 := [27, 133, 9, 10, 184, 0, 106, 154, 0, 6, 16, 254, 172, 27, 154, 0, 10, 42, 182, 0, 220, 167, 0, 12]
abbrev dktX0_rests_0 : List UInt8 := dkwX0_rests_0 ++ dktX0_rests_1
theorem dksX0_rests_0 : cX0_rests.data.toList.drop 0 = dktX0_rests_0 := by decide +kernel
theorem dksX0_rests_1 : cX0_rests.data.toList.drop 24 = dktX0_rests_1 := dk_seg dksX0_rests_0 24 rfl rfl
theorem dX0_rests_0 : decode cX0_rests 0 = .ok (.iload_n 1, 1) := dk_27 (dk_at dksX0_rests_0 0 rfl rfl)
theorem dX0_rests_1 : decode cX0_rests 1 = .ok (.i2l, 1) := dk_133 (dk_at dksX0_rests_0 1 rfl rfl)
theorem dX0_rests_2 : decode cX0_rests 2 = .ok (.lconst 0, 1) := dk_9 (dk_at dksX0_rests_0 2 rfl rfl)
theorem dX0_rests_3 : decode cX0_rests 3 = .ok (.lconst 1, 1) := dk_10 (dk_at dksX0_rests_0 3 rfl rfl)
theorem dX0_rests_4 : decode cX0_rests 4 = .ok (.invokestatic 106, 3) := dk_184 0 106 (dk_at dksX0_rests_0 4 rfl rfl)
theorem dX0_rests_7 : decode cX0_rests 7 = .ok (.ifCond .ne 6, 3) := dk_154 0 6 (dk_at dksX0_rests_0 7 rfl rfl)
theorem dX0_rests_10 : decode cX0_rests 10 = .ok (.bipush (-2), 2) := dk_16 254 (dk_at dksX0_rests_0 10 rfl rfl)
theorem dX0_rests_12 : decode cX0_rests 12 = .ok (.ireturn, 1) := dk_172 (dk_at dksX0_rests_0 12 rfl rfl)
theorem dX0_rests_13 : decode cX0_rests 13 = .ok (.iload_n 1, 1) := dk_27 (dk_at dksX0_rests_0 13 rfl rfl)
theorem dX0_rests_14 : decode cX0_rests 14 = .ok (.ifCond .ne 10, 3) := dk_154 0 10 (dk_at dksX0_rests_0 14 rfl rfl)
theorem dX0_rests_17 : decode cX0_rests 17 = .ok (.aload_n 0, 1) := dk_42 (dk_at dksX0_rests_0 17 rfl rfl)
theorem dX0_rests_18 : decode cX0_rests 18 = .ok (.invokevirtual 220, 3) := dk_182 0 220 (dk_at dksX0_rests_0 18 rfl rfl)
theorem dX0_rests_21 : decode cX0_rests 21 = .ok (.goto 12, 3) := dk_167 0 12 (dk_at dksX0_rests_0 21 rfl rfl)
theorem dX0_rests_24 : decode cX0_rests 24 = .ok (.aload_n 0, 1) := dk_42 (dk_at dksX0_rests_1 0 rfl rfl)
theorem dX0_rests_25 : decode cX0_rests 25 = .ok (.invokevirtual 195, 3) := dk_182 0 195 (dk_at dksX0_rests_1 1 rfl rfl)
theorem dX0_rests_28 : decode cX0_rests 28 = .ok (.iconst (-1), 1) := dk_2 (dk_at dksX0_rests_1 4 rfl rfl)
theorem dX0_rests_29 : decode cX0_rests 29 = .ok (.iconst (-1), 1) := dk_2 (dk_at dksX0_rests_1 5 rfl rfl)
theorem dX0_rests_30 : decode cX0_rests 30 = .ok (.invokevirtual 223, 3) := dk_182 0 223 (dk_at dksX0_rests_1 6 rfl rfl)
theorem dX0_rests_33 : decode cX0_rests 33 = .ok (.ireturn, 1) := dk_172 (dk_at dksX0_rests_1 9 rfl rfl)
abbrev cX0_tooMuch : ByteArray := prog_1_method_16_code
def yX0_tooMuch : MethodName := ⟨RX0, "tooMuch", "()I"⟩
def dkwX0_tooMuch_5 : List UInt8 := [192, 0, 174, 180, 0, 179, 96, 54, 4, 132, 5, 255, 167, 255, 169, 132, 3, 1, 167, 255, 133, 28, 172]
abbrev dktX0_tooMuch_5 : List UInt8 := dkwX0_tooMuch_5 ++ []
def dkwX0_tooMuch_4 : List UInt8 := [162, 0, 6, 21, 6, 61, 21, 4, 42, 180, 0, 10, 180, 0, 91, 180, 0, 155, 21, 6, 182, 0, 170]
abbrev dktX0_tooMuch_4 : List UInt8 := dkwX0_tooMuch_4 ++ dktX0_tooMuch_5
def dkwX0_tooMuch_3 : List UInt8 := [21, 6, 182, 0, 170, 192, 0, 174, 180, 0, 181, 164, 0, 17, 28, 2, 159, 0, 9, 21, 6, 28]
abbrev dktX0_tooMuch_3 : List UInt8 := dkwX0_tooMuch_3 ++ dktX0_tooMuch_4
def dkwX0_tooMuch_2 : List UInt8 := [180, 0, 198, 6, 29, 104, 21, 5, 96, 46, 54, 6, 21, 4, 42, 180, 0, 10, 180, 0, 91, 180, 0, 155]
abbrev dktX0_tooMuch_2 : List UInt8 := dkwX0_tooMuch_2 ++ dktX0_tooMuch_3
def dkwX0_tooMuch_1 : List UInt8 := [162, 0, 112, 3, 54, 4, 43, 180, 0, 208, 29, 46, 4, 100, 54, 5, 21, 5, 155, 0, 88, 43]
abbrev dktX0_tooMuch_1 : List UInt8 := dkwX0_tooMuch_1 ++ dktX0_tooMuch_2
def dkwX0_tooMuch_0 : List UInt8 := [42, 182, 0, 195, 76, 2, 61, 3, 62, 29, 42, 180, 0, 10, 180, 0, 91, 180, 0, 201, 182, 0, 133]
abbrev dktX0_tooMuch_0 : List UInt8 := dkwX0_tooMuch_0 ++ dktX0_tooMuch_1
theorem dksX0_tooMuch_0 : cX0_tooMuch.data.toList.drop 0 = dktX0_tooMuch_0 := by decide +kernel
theorem dksX0_tooMuch_1 : cX0_tooMuch.data.toList.drop 23 = dktX0_tooMuch_1 := dk_seg dksX0_tooMuch_0 23 rfl rfl
theorem dksX0_tooMuch_2 : cX0_tooMuch.data.toList.drop 45 = dktX0_tooMuch_2 := dk_seg dksX0_tooMuch_1 22 rfl rfl
theorem dksX0_tooMuch_3 : cX0_tooMuch.data.toList.drop 69 = dktX0_tooMuch_3 := dk_seg dksX0_tooMuch_2 24 rfl rfl
theorem dksX0_tooMuch_4 : cX0_tooMuch.data.toList.drop 91 = dktX0_tooMuch_4 := dk_seg dksX0_tooMuch_3 22 rfl rfl
theorem dksX0_tooMuch_5 : cX0_tooMuch.data.toList.drop 114 = dktX0_tooMuch_5 := dk_seg dksX0_tooMuch_4 23 rfl rfl
theorem dX0_tooMuch_0 : decode cX0_tooMuch 0 = .ok (.aload_n 0, 1) := dk_42 (dk_at dksX0_tooMuch_0 0 rfl rfl)
theorem dX0_tooMuch_1 : decode cX0_tooMuch 1 = .ok (.invokevirtual 195, 3) := dk_182 0 195 (dk_at dksX0_tooMuch_0 1 rfl rfl)
theorem dX0_tooMuch_4 : decode cX0_tooMuch 4 = .ok (.astore_n 1, 1) := dk_76 (dk_at dksX0_tooMuch_0 4 rfl rfl)
theorem dX0_tooMuch_5 : decode cX0_tooMuch 5 = .ok (.iconst (-1), 1) := dk_2 (dk_at dksX0_tooMuch_0 5 rfl rfl)
theorem dX0_tooMuch_6 : decode cX0_tooMuch 6 = .ok (.istore_n 2, 1) := dk_61 (dk_at dksX0_tooMuch_0 6 rfl rfl)
theorem dX0_tooMuch_7 : decode cX0_tooMuch 7 = .ok (.iconst 0, 1) := dk_3 (dk_at dksX0_tooMuch_0 7 rfl rfl)
theorem dX0_tooMuch_8 : decode cX0_tooMuch 8 = .ok (.istore_n 3, 1) := dk_62 (dk_at dksX0_tooMuch_0 8 rfl rfl)
theorem dX0_tooMuch_9 : decode cX0_tooMuch 9 = .ok (.iload_n 3, 1) := dk_29 (dk_at dksX0_tooMuch_0 9 rfl rfl)
theorem dX0_tooMuch_10 : decode cX0_tooMuch 10 = .ok (.aload_n 0, 1) := dk_42 (dk_at dksX0_tooMuch_0 10 rfl rfl)
theorem dX0_tooMuch_11 : decode cX0_tooMuch 11 = .ok (.getfield 10, 3) := dk_180 0 10 (dk_at dksX0_tooMuch_0 11 rfl rfl)
theorem dX0_tooMuch_14 : decode cX0_tooMuch 14 = .ok (.getfield 91, 3) := dk_180 0 91 (dk_at dksX0_tooMuch_0 14 rfl rfl)
theorem dX0_tooMuch_17 : decode cX0_tooMuch 17 = .ok (.getfield 201, 3) := dk_180 0 201 (dk_at dksX0_tooMuch_0 17 rfl rfl)
theorem dX0_tooMuch_20 : decode cX0_tooMuch 20 = .ok (.invokevirtual 133, 3) := dk_182 0 133 (dk_at dksX0_tooMuch_0 20 rfl rfl)
theorem dX0_tooMuch_23 : decode cX0_tooMuch 23 = .ok (.if_icmp .ge 112, 3) := dk_162 0 112 (dk_at dksX0_tooMuch_1 0 rfl rfl)
theorem dX0_tooMuch_26 : decode cX0_tooMuch 26 = .ok (.iconst 0, 1) := dk_3 (dk_at dksX0_tooMuch_1 3 rfl rfl)
theorem dX0_tooMuch_27 : decode cX0_tooMuch 27 = .ok (.istore 4, 2) := dk_54 4 (dk_at dksX0_tooMuch_1 4 rfl rfl)
theorem dX0_tooMuch_29 : decode cX0_tooMuch 29 = .ok (.aload_n 1, 1) := dk_43 (dk_at dksX0_tooMuch_1 6 rfl rfl)
theorem dX0_tooMuch_30 : decode cX0_tooMuch 30 = .ok (.getfield 208, 3) := dk_180 0 208 (dk_at dksX0_tooMuch_1 7 rfl rfl)
theorem dX0_tooMuch_33 : decode cX0_tooMuch 33 = .ok (.iload_n 3, 1) := dk_29 (dk_at dksX0_tooMuch_1 10 rfl rfl)
theorem dX0_tooMuch_34 : decode cX0_tooMuch 34 = .ok (.iaload, 1) := dk_46 (dk_at dksX0_tooMuch_1 11 rfl rfl)
theorem dX0_tooMuch_35 : decode cX0_tooMuch 35 = .ok (.iconst 1, 1) := dk_4 (dk_at dksX0_tooMuch_1 12 rfl rfl)
theorem dX0_tooMuch_36 : decode cX0_tooMuch 36 = .ok (.isub, 1) := dk_100 (dk_at dksX0_tooMuch_1 13 rfl rfl)
theorem dX0_tooMuch_37 : decode cX0_tooMuch 37 = .ok (.istore 5, 2) := dk_54 5 (dk_at dksX0_tooMuch_1 14 rfl rfl)
theorem dX0_tooMuch_39 : decode cX0_tooMuch 39 = .ok (.iload 5, 2) := dk_21 5 (dk_at dksX0_tooMuch_1 16 rfl rfl)
theorem dX0_tooMuch_41 : decode cX0_tooMuch 41 = .ok (.ifCond .lt 88, 3) := dk_155 0 88 (dk_at dksX0_tooMuch_1 18 rfl rfl)
theorem dX0_tooMuch_44 : decode cX0_tooMuch 44 = .ok (.aload_n 1, 1) := dk_43 (dk_at dksX0_tooMuch_1 21 rfl rfl)
theorem dX0_tooMuch_45 : decode cX0_tooMuch 45 = .ok (.getfield 198, 3) := dk_180 0 198 (dk_at dksX0_tooMuch_2 0 rfl rfl)
theorem dX0_tooMuch_48 : decode cX0_tooMuch 48 = .ok (.iconst 3, 1) := dk_6 (dk_at dksX0_tooMuch_2 3 rfl rfl)
theorem dX0_tooMuch_49 : decode cX0_tooMuch 49 = .ok (.iload_n 3, 1) := dk_29 (dk_at dksX0_tooMuch_2 4 rfl rfl)
theorem dX0_tooMuch_50 : decode cX0_tooMuch 50 = .ok (.imul, 1) := dk_104 (dk_at dksX0_tooMuch_2 5 rfl rfl)
theorem dX0_tooMuch_51 : decode cX0_tooMuch 51 = .ok (.iload 5, 2) := dk_21 5 (dk_at dksX0_tooMuch_2 6 rfl rfl)
theorem dX0_tooMuch_53 : decode cX0_tooMuch 53 = .ok (.iadd, 1) := dk_96 (dk_at dksX0_tooMuch_2 8 rfl rfl)
theorem dX0_tooMuch_54 : decode cX0_tooMuch 54 = .ok (.iaload, 1) := dk_46 (dk_at dksX0_tooMuch_2 9 rfl rfl)
theorem dX0_tooMuch_55 : decode cX0_tooMuch 55 = .ok (.istore 6, 2) := dk_54 6 (dk_at dksX0_tooMuch_2 10 rfl rfl)
theorem dX0_tooMuch_57 : decode cX0_tooMuch 57 = .ok (.iload 4, 2) := dk_21 4 (dk_at dksX0_tooMuch_2 12 rfl rfl)
theorem dX0_tooMuch_59 : decode cX0_tooMuch 59 = .ok (.aload_n 0, 1) := dk_42 (dk_at dksX0_tooMuch_2 14 rfl rfl)
theorem dX0_tooMuch_60 : decode cX0_tooMuch 60 = .ok (.getfield 10, 3) := dk_180 0 10 (dk_at dksX0_tooMuch_2 15 rfl rfl)
theorem dX0_tooMuch_63 : decode cX0_tooMuch 63 = .ok (.getfield 91, 3) := dk_180 0 91 (dk_at dksX0_tooMuch_2 18 rfl rfl)
theorem dX0_tooMuch_66 : decode cX0_tooMuch 66 = .ok (.getfield 155, 3) := dk_180 0 155 (dk_at dksX0_tooMuch_2 21 rfl rfl)
theorem dX0_tooMuch_69 : decode cX0_tooMuch 69 = .ok (.iload 6, 2) := dk_21 6 (dk_at dksX0_tooMuch_3 0 rfl rfl)
theorem dX0_tooMuch_71 : decode cX0_tooMuch 71 = .ok (.invokevirtual 170, 3) := dk_182 0 170 (dk_at dksX0_tooMuch_3 2 rfl rfl)
theorem dX0_tooMuch_74 : decode cX0_tooMuch 74 = .ok (.checkcast 174, 3) := dk_192 0 174 (dk_at dksX0_tooMuch_3 5 rfl rfl)
theorem dX0_tooMuch_77 : decode cX0_tooMuch 77 = .ok (.getfield 181, 3) := dk_180 0 181 (dk_at dksX0_tooMuch_3 8 rfl rfl)
theorem dX0_tooMuch_80 : decode cX0_tooMuch 80 = .ok (.if_icmp .le 17, 3) := dk_164 0 17 (dk_at dksX0_tooMuch_3 11 rfl rfl)
theorem dX0_tooMuch_83 : decode cX0_tooMuch 83 = .ok (.iload_n 2, 1) := dk_28 (dk_at dksX0_tooMuch_3 14 rfl rfl)
theorem dX0_tooMuch_84 : decode cX0_tooMuch 84 = .ok (.iconst (-1), 1) := dk_2 (dk_at dksX0_tooMuch_3 15 rfl rfl)
theorem dX0_tooMuch_85 : decode cX0_tooMuch 85 = .ok (.if_icmp .eq 9, 3) := dk_159 0 9 (dk_at dksX0_tooMuch_3 16 rfl rfl)
theorem dX0_tooMuch_88 : decode cX0_tooMuch 88 = .ok (.iload 6, 2) := dk_21 6 (dk_at dksX0_tooMuch_3 19 rfl rfl)
theorem dX0_tooMuch_90 : decode cX0_tooMuch 90 = .ok (.iload_n 2, 1) := dk_28 (dk_at dksX0_tooMuch_3 21 rfl rfl)
theorem dX0_tooMuch_91 : decode cX0_tooMuch 91 = .ok (.if_icmp .ge 6, 3) := dk_162 0 6 (dk_at dksX0_tooMuch_4 0 rfl rfl)
theorem dX0_tooMuch_94 : decode cX0_tooMuch 94 = .ok (.iload 6, 2) := dk_21 6 (dk_at dksX0_tooMuch_4 3 rfl rfl)
theorem dX0_tooMuch_96 : decode cX0_tooMuch 96 = .ok (.istore_n 2, 1) := dk_61 (dk_at dksX0_tooMuch_4 5 rfl rfl)
theorem dX0_tooMuch_97 : decode cX0_tooMuch 97 = .ok (.iload 4, 2) := dk_21 4 (dk_at dksX0_tooMuch_4 6 rfl rfl)
theorem dX0_tooMuch_99 : decode cX0_tooMuch 99 = .ok (.aload_n 0, 1) := dk_42 (dk_at dksX0_tooMuch_4 8 rfl rfl)
theorem dX0_tooMuch_100 : decode cX0_tooMuch 100 = .ok (.getfield 10, 3) := dk_180 0 10 (dk_at dksX0_tooMuch_4 9 rfl rfl)
theorem dX0_tooMuch_103 : decode cX0_tooMuch 103 = .ok (.getfield 91, 3) := dk_180 0 91 (dk_at dksX0_tooMuch_4 12 rfl rfl)
theorem dX0_tooMuch_106 : decode cX0_tooMuch 106 = .ok (.getfield 155, 3) := dk_180 0 155 (dk_at dksX0_tooMuch_4 15 rfl rfl)
theorem dX0_tooMuch_109 : decode cX0_tooMuch 109 = .ok (.iload 6, 2) := dk_21 6 (dk_at dksX0_tooMuch_4 18 rfl rfl)
theorem dX0_tooMuch_111 : decode cX0_tooMuch 111 = .ok (.invokevirtual 170, 3) := dk_182 0 170 (dk_at dksX0_tooMuch_4 20 rfl rfl)
theorem dX0_tooMuch_114 : decode cX0_tooMuch 114 = .ok (.checkcast 174, 3) := dk_192 0 174 (dk_at dksX0_tooMuch_5 0 rfl rfl)
theorem dX0_tooMuch_117 : decode cX0_tooMuch 117 = .ok (.getfield 179, 3) := dk_180 0 179 (dk_at dksX0_tooMuch_5 3 rfl rfl)
theorem dX0_tooMuch_120 : decode cX0_tooMuch 120 = .ok (.iadd, 1) := dk_96 (dk_at dksX0_tooMuch_5 6 rfl rfl)
theorem dX0_tooMuch_121 : decode cX0_tooMuch 121 = .ok (.istore 4, 2) := dk_54 4 (dk_at dksX0_tooMuch_5 7 rfl rfl)
theorem dX0_tooMuch_123 : decode cX0_tooMuch 123 = .ok (.iinc 5 (-1), 3) := dk_132 5 255 (dk_at dksX0_tooMuch_5 9 rfl rfl)
theorem dX0_tooMuch_126 : decode cX0_tooMuch 126 = .ok (.goto (-87), 3) := dk_167 255 169 (dk_at dksX0_tooMuch_5 12 rfl rfl)
theorem dX0_tooMuch_129 : decode cX0_tooMuch 129 = .ok (.iinc 3 1, 3) := dk_132 3 1 (dk_at dksX0_tooMuch_5 15 rfl rfl)
theorem dX0_tooMuch_132 : decode cX0_tooMuch 132 = .ok (.goto (-123), 3) := dk_167 255 133 (dk_at dksX0_tooMuch_5 18 rfl rfl)
theorem dX0_tooMuch_135 : decode cX0_tooMuch 135 = .ok (.iload_n 2, 1) := dk_28 (dk_at dksX0_tooMuch_5 21 rfl rfl)
theorem dX0_tooMuch_136 : decode cX0_tooMuch 136 = .ok (.ireturn, 1) := dk_172 (dk_at dksX0_tooMuch_5 22 rfl rfl)
abbrev cX0_may : ByteArray := prog_1_method_18_code
def yX0_may : MethodName := ⟨RX0, "may", "(II)I"⟩
def dkwX0_may_0 : List UInt8 := [42, 182, 0, 195, 27, 28, 182, 0, 227, 172]
abbrev dktX0_may_0 : List UInt8 := dkwX0_may_0 ++ []
theorem dksX0_may_0 : cX0_may.data.toList.drop 0 = dktX0_may_0 := by decide +kernel
theorem dX0_may_0 : decode cX0_may 0 = .ok (.aload_n 0, 1) := dk_42 (dk_at dksX0_may_0 0 rfl rfl)
theorem dX0_may_1 : decode cX0_may 1 = .ok (.invokevirtual 195, 3) := dk_182 0 195 (dk_at dksX0_may_0 1 rfl rfl)
theorem dX0_may_4 : decode cX0_may 4 = .ok (.iload_n 1, 1) := dk_27 (dk_at dksX0_may_0 4 rfl rfl)
theorem dX0_may_5 : decode cX0_may 5 = .ok (.iload_n 2, 1) := dk_28 (dk_at dksX0_may_0 5 rfl rfl)
theorem dX0_may_6 : decode cX0_may 6 = .ok (.invokevirtual 227, 3) := dk_182 0 227 (dk_at dksX0_may_0 6 rfl rfl)
theorem dX0_may_9 : decode cX0_may 9 = .ok (.ireturn, 1) := dk_172 (dk_at dksX0_may_0 9 rfl rfl)
abbrev cX0_has : ByteArray := prog_1_method_2_code
def yX0_has : MethodName := ⟨RX0, "has", "(II)Z"⟩
def dkwX0_has_0 : List UInt8 := [26, 27, 122, 4, 126, 4, 160, 0, 7, 4, 167, 0, 4, 3, 172]
abbrev dktX0_has_0 : List UInt8 := dkwX0_has_0 ++ []
theorem dksX0_has_0 : cX0_has.data.toList.drop 0 = dktX0_has_0 := by decide +kernel
theorem dX0_has_0 : decode cX0_has 0 = .ok (.iload_n 0, 1) := dk_26 (dk_at dksX0_has_0 0 rfl rfl)
theorem dX0_has_1 : decode cX0_has 1 = .ok (.iload_n 1, 1) := dk_27 (dk_at dksX0_has_0 1 rfl rfl)
theorem dX0_has_2 : decode cX0_has 2 = .ok (.ishr, 1) := dk_122 (dk_at dksX0_has_0 2 rfl rfl)
theorem dX0_has_3 : decode cX0_has 3 = .ok (.iconst 1, 1) := dk_4 (dk_at dksX0_has_0 3 rfl rfl)
theorem dX0_has_4 : decode cX0_has 4 = .ok (.iand, 1) := dk_126 (dk_at dksX0_has_0 4 rfl rfl)
theorem dX0_has_5 : decode cX0_has 5 = .ok (.iconst 1, 1) := dk_4 (dk_at dksX0_has_0 5 rfl rfl)
theorem dX0_has_6 : decode cX0_has 6 = .ok (.if_icmp .ne 7, 3) := dk_160 0 7 (dk_at dksX0_has_0 6 rfl rfl)
theorem dX0_has_9 : decode cX0_has 9 = .ok (.iconst 1, 1) := dk_4 (dk_at dksX0_has_0 9 rfl rfl)
theorem dX0_has_10 : decode cX0_has 10 = .ok (.goto 4, 3) := dk_167 0 4 (dk_at dksX0_has_0 10 rfl rfl)
theorem dX0_has_13 : decode cX0_has 13 = .ok (.iconst 0, 1) := dk_3 (dk_at dksX0_has_0 13 rfl rfl)
theorem dX0_has_14 : decode cX0_has 14 = .ok (.ireturn, 1) := dk_172 (dk_at dksX0_has_0 14 rfl rfl)
abbrev cX0_mayExchange : ByteArray := prog_1_method_19_code
def yX0_mayExchange : MethodName := ⟨RX0, "mayExchange", "(II)I"⟩
def dkwX0_mayExchange_0 : List UInt8 := [42, 182, 0, 195, 27, 28, 182, 0, 230, 172]
abbrev dktX0_mayExchange_0 : List UInt8 := dkwX0_mayExchange_0 ++ []
theorem dksX0_mayExchange_0 : cX0_mayExchange.data.toList.drop 0 = dktX0_mayExchange_0 := by decide +kernel
theorem dX0_mayExchange_0 : decode cX0_mayExchange 0 = .ok (.aload_n 0, 1) := dk_42 (dk_at dksX0_mayExchange_0 0 rfl rfl)
theorem dX0_mayExchange_1 : decode cX0_mayExchange 1 = .ok (.invokevirtual 195, 3) := dk_182 0 195 (dk_at dksX0_mayExchange_0 1 rfl rfl)
theorem dX0_mayExchange_4 : decode cX0_mayExchange 4 = .ok (.iload_n 1, 1) := dk_27 (dk_at dksX0_mayExchange_0 4 rfl rfl)
theorem dX0_mayExchange_5 : decode cX0_mayExchange 5 = .ok (.iload_n 2, 1) := dk_28 (dk_at dksX0_mayExchange_0 5 rfl rfl)
theorem dX0_mayExchange_6 : decode cX0_mayExchange 6 = .ok (.invokevirtual 230, 3) := dk_182 0 230 (dk_at dksX0_mayExchange_0 6 rfl rfl)
theorem dX0_mayExchange_9 : decode cX0_mayExchange 9 = .ok (.ireturn, 1) := dk_172 (dk_at dksX0_mayExchange_0 9 rfl rfl)
abbrev cX0_carry : ByteArray := prog_1_method_21_code
def yX0_carry : MethodName := ⟨RX0, "carry", "(II)I"⟩
def dkwX0_carry_2 : List UInt8 := [180, 0, 10, 180, 0, 147, 182, 0, 243, 181, 0, 147, 21, 4, 172]
abbrev dktX0_carry_2 : List UInt8 := dkwX0_carry_2 ++ []
def dkwX0_carry_1 : List UInt8 := [28, 4, 182, 0, 236, 54, 4, 42, 21, 4, 182, 0, 240, 42, 180, 0, 10, 42, 180, 0, 40, 42]
abbrev dktX0_carry_1 : List UInt8 := dkwX0_carry_1 ++ dktX0_carry_2
def dkwX0_carry_0 : List UInt8 := [42, 182, 0, 195, 27, 28, 182, 0, 227, 62, 29, 153, 0, 8, 16, 246, 29, 100, 172, 42, 180, 0, 40, 27]
abbrev dktX0_carry_0 : List UInt8 := dkwX0_carry_0 ++ dktX0_carry_1
theorem dksX0_carry_0 : cX0_carry.data.toList.drop 0 = dktX0_carry_0 := by decide +kernel
theorem dksX0_carry_1 : cX0_carry.data.toList.drop 24 = dktX0_carry_1 := dk_seg dksX0_carry_0 24 rfl rfl
theorem dksX0_carry_2 : cX0_carry.data.toList.drop 46 = dktX0_carry_2 := dk_seg dksX0_carry_1 22 rfl rfl
theorem dX0_carry_0 : decode cX0_carry 0 = .ok (.aload_n 0, 1) := dk_42 (dk_at dksX0_carry_0 0 rfl rfl)
theorem dX0_carry_1 : decode cX0_carry 1 = .ok (.invokevirtual 195, 3) := dk_182 0 195 (dk_at dksX0_carry_0 1 rfl rfl)
theorem dX0_carry_4 : decode cX0_carry 4 = .ok (.iload_n 1, 1) := dk_27 (dk_at dksX0_carry_0 4 rfl rfl)
theorem dX0_carry_5 : decode cX0_carry 5 = .ok (.iload_n 2, 1) := dk_28 (dk_at dksX0_carry_0 5 rfl rfl)
theorem dX0_carry_6 : decode cX0_carry 6 = .ok (.invokevirtual 227, 3) := dk_182 0 227 (dk_at dksX0_carry_0 6 rfl rfl)
theorem dX0_carry_9 : decode cX0_carry 9 = .ok (.istore_n 3, 1) := dk_62 (dk_at dksX0_carry_0 9 rfl rfl)
theorem dX0_carry_10 : decode cX0_carry 10 = .ok (.iload_n 3, 1) := dk_29 (dk_at dksX0_carry_0 10 rfl rfl)
theorem dX0_carry_11 : decode cX0_carry 11 = .ok (.ifCond .eq 8, 3) := dk_153 0 8 (dk_at dksX0_carry_0 11 rfl rfl)
theorem dX0_carry_14 : decode cX0_carry 14 = .ok (.bipush (-10), 2) := dk_16 246 (dk_at dksX0_carry_0 14 rfl rfl)
theorem dX0_carry_16 : decode cX0_carry 16 = .ok (.iload_n 3, 1) := dk_29 (dk_at dksX0_carry_0 16 rfl rfl)
theorem dX0_carry_17 : decode cX0_carry 17 = .ok (.isub, 1) := dk_100 (dk_at dksX0_carry_0 17 rfl rfl)
theorem dX0_carry_18 : decode cX0_carry 18 = .ok (.ireturn, 1) := dk_172 (dk_at dksX0_carry_0 18 rfl rfl)
theorem dX0_carry_19 : decode cX0_carry 19 = .ok (.aload_n 0, 1) := dk_42 (dk_at dksX0_carry_0 19 rfl rfl)
theorem dX0_carry_20 : decode cX0_carry 20 = .ok (.getfield 40, 3) := dk_180 0 40 (dk_at dksX0_carry_0 20 rfl rfl)
theorem dX0_carry_23 : decode cX0_carry 23 = .ok (.iload_n 1, 1) := dk_27 (dk_at dksX0_carry_0 23 rfl rfl)
theorem dX0_carry_24 : decode cX0_carry 24 = .ok (.iload_n 2, 1) := dk_28 (dk_at dksX0_carry_1 0 rfl rfl)
theorem dX0_carry_25 : decode cX0_carry 25 = .ok (.iconst 1, 1) := dk_4 (dk_at dksX0_carry_1 1 rfl rfl)
theorem dX0_carry_26 : decode cX0_carry 26 = .ok (.invokevirtual 236, 3) := dk_182 0 236 (dk_at dksX0_carry_1 2 rfl rfl)
theorem dX0_carry_29 : decode cX0_carry 29 = .ok (.istore 4, 2) := dk_54 4 (dk_at dksX0_carry_1 5 rfl rfl)
theorem dX0_carry_31 : decode cX0_carry 31 = .ok (.aload_n 0, 1) := dk_42 (dk_at dksX0_carry_1 7 rfl rfl)
theorem dX0_carry_32 : decode cX0_carry 32 = .ok (.iload 4, 2) := dk_21 4 (dk_at dksX0_carry_1 8 rfl rfl)
theorem dX0_carry_34 : decode cX0_carry 34 = .ok (.invokevirtual 240, 3) := dk_182 0 240 (dk_at dksX0_carry_1 10 rfl rfl)
theorem dX0_carry_37 : decode cX0_carry 37 = .ok (.aload_n 0, 1) := dk_42 (dk_at dksX0_carry_1 13 rfl rfl)
theorem dX0_carry_38 : decode cX0_carry 38 = .ok (.getfield 10, 3) := dk_180 0 10 (dk_at dksX0_carry_1 14 rfl rfl)
theorem dX0_carry_41 : decode cX0_carry 41 = .ok (.aload_n 0, 1) := dk_42 (dk_at dksX0_carry_1 17 rfl rfl)
theorem dX0_carry_42 : decode cX0_carry 42 = .ok (.getfield 40, 3) := dk_180 0 40 (dk_at dksX0_carry_1 18 rfl rfl)
theorem dX0_carry_45 : decode cX0_carry 45 = .ok (.aload_n 0, 1) := dk_42 (dk_at dksX0_carry_1 21 rfl rfl)
theorem dX0_carry_46 : decode cX0_carry 46 = .ok (.getfield 10, 3) := dk_180 0 10 (dk_at dksX0_carry_2 0 rfl rfl)
theorem dX0_carry_49 : decode cX0_carry 49 = .ok (.getfield 147, 3) := dk_180 0 147 (dk_at dksX0_carry_2 3 rfl rfl)
theorem dX0_carry_52 : decode cX0_carry 52 = .ok (.invokevirtual 243, 3) := dk_182 0 243 (dk_at dksX0_carry_2 6 rfl rfl)
theorem dX0_carry_55 : decode cX0_carry 55 = .ok (.putfield 147, 3) := dk_181 0 147 (dk_at dksX0_carry_2 9 rfl rfl)
theorem dX0_carry_58 : decode cX0_carry 58 = .ok (.iload 4, 2) := dk_21 4 (dk_at dksX0_carry_2 12 rfl rfl)
theorem dX0_carry_60 : decode cX0_carry 60 = .ok (.ireturn, 1) := dk_172 (dk_at dksX0_carry_2 14 rfl rfl)
abbrev cX0_counts : ByteArray := prog_1_method_20_code
def yX0_counts : MethodName := ⟨RX0, "counts", "(I)V"⟩
def dkwX0_counts_1 : List UInt8 := [180, 0, 10, 180, 0, 233, 79, 177]
abbrev dktX0_counts_1 : List UInt8 := dkwX0_counts_1 ++ []
def dkwX0_counts_0 : List UInt8 := [42, 180, 0, 10, 180, 0, 187, 27, 92, 46, 4, 96, 79, 42, 180, 0, 10, 180, 0, 190, 27, 42]
abbrev dktX0_counts_0 : List UInt8 := dkwX0_counts_0 ++ dktX0_counts_1
theorem dksX0_counts_0 : cX0_counts.data.toList.drop 0 = dktX0_counts_0 := by decide +kernel
theorem dksX0_counts_1 : cX0_counts.data.toList.drop 22 = dktX0_counts_1 := dk_seg dksX0_counts_0 22 rfl rfl
theorem dX0_counts_0 : decode cX0_counts 0 = .ok (.aload_n 0, 1) := dk_42 (dk_at dksX0_counts_0 0 rfl rfl)
theorem dX0_counts_1 : decode cX0_counts 1 = .ok (.getfield 10, 3) := dk_180 0 10 (dk_at dksX0_counts_0 1 rfl rfl)
theorem dX0_counts_4 : decode cX0_counts 4 = .ok (.getfield 187, 3) := dk_180 0 187 (dk_at dksX0_counts_0 4 rfl rfl)
theorem dX0_counts_7 : decode cX0_counts 7 = .ok (.iload_n 1, 1) := dk_27 (dk_at dksX0_counts_0 7 rfl rfl)
theorem dX0_counts_8 : decode cX0_counts 8 = .ok (.dup2, 1) := dk_92 (dk_at dksX0_counts_0 8 rfl rfl)
theorem dX0_counts_9 : decode cX0_counts 9 = .ok (.iaload, 1) := dk_46 (dk_at dksX0_counts_0 9 rfl rfl)
theorem dX0_counts_10 : decode cX0_counts 10 = .ok (.iconst 1, 1) := dk_4 (dk_at dksX0_counts_0 10 rfl rfl)
theorem dX0_counts_11 : decode cX0_counts 11 = .ok (.iadd, 1) := dk_96 (dk_at dksX0_counts_0 11 rfl rfl)
theorem dX0_counts_12 : decode cX0_counts 12 = .ok (.iastore, 1) := dk_79 (dk_at dksX0_counts_0 12 rfl rfl)
theorem dX0_counts_13 : decode cX0_counts 13 = .ok (.aload_n 0, 1) := dk_42 (dk_at dksX0_counts_0 13 rfl rfl)
theorem dX0_counts_14 : decode cX0_counts 14 = .ok (.getfield 10, 3) := dk_180 0 10 (dk_at dksX0_counts_0 14 rfl rfl)
theorem dX0_counts_17 : decode cX0_counts 17 = .ok (.getfield 190, 3) := dk_180 0 190 (dk_at dksX0_counts_0 17 rfl rfl)
theorem dX0_counts_20 : decode cX0_counts 20 = .ok (.iload_n 1, 1) := dk_27 (dk_at dksX0_counts_0 20 rfl rfl)
theorem dX0_counts_21 : decode cX0_counts 21 = .ok (.aload_n 0, 1) := dk_42 (dk_at dksX0_counts_0 21 rfl rfl)
theorem dX0_counts_22 : decode cX0_counts 22 = .ok (.getfield 10, 3) := dk_180 0 10 (dk_at dksX0_counts_1 0 rfl rfl)
theorem dX0_counts_25 : decode cX0_counts 25 = .ok (.getfield 233, 3) := dk_180 0 233 (dk_at dksX0_counts_1 3 rfl rfl)
theorem dX0_counts_28 : decode cX0_counts 28 = .ok (.iastore, 1) := dk_79 (dk_at dksX0_counts_1 6 rfl rfl)
theorem dX0_counts_29 : decode cX0_counts 29 = .ok (.return_, 1) := dk_177 (dk_at dksX0_counts_1 7 rfl rfl)
abbrev cX0_exchange : ByteArray := prog_1_method_22_code
def yX0_exchange : MethodName := ⟨RX0, "exchange", "(II)I"⟩
def dkwX0_exchange_2 : List UInt8 := [42, 180, 0, 10, 42, 180, 0, 40, 42, 180, 0, 10, 180, 0, 147, 182, 0, 243, 181, 0, 147, 21, 4, 172]
abbrev dktX0_exchange_2 : List UInt8 := dkwX0_exchange_2 ++ []
def dkwX0_exchange_1 : List UInt8 := [28, 182, 0, 246, 54, 4, 42, 21, 4, 182, 0, 240, 42, 42, 180, 0, 40, 27, 182, 0, 249, 182, 0, 240]
abbrev dktX0_exchange_1 : List UInt8 := dkwX0_exchange_1 ++ dktX0_exchange_2
def dkwX0_exchange_0 : List UInt8 := [42, 182, 0, 195, 27, 28, 182, 0, 230, 62, 29, 153, 0, 8, 16, 246, 29, 100, 172, 42, 180, 0, 40, 27]
abbrev dktX0_exchange_0 : List UInt8 := dkwX0_exchange_0 ++ dktX0_exchange_1
theorem dksX0_exchange_0 : cX0_exchange.data.toList.drop 0 = dktX0_exchange_0 := by decide +kernel
theorem dksX0_exchange_1 : cX0_exchange.data.toList.drop 24 = dktX0_exchange_1 := dk_seg dksX0_exchange_0 24 rfl rfl
theorem dksX0_exchange_2 : cX0_exchange.data.toList.drop 48 = dktX0_exchange_2 := dk_seg dksX0_exchange_1 24 rfl rfl
theorem dX0_exchange_0 : decode cX0_exchange 0 = .ok (.aload_n 0, 1) := dk_42 (dk_at dksX0_exchange_0 0 rfl rfl)
theorem dX0_exchange_1 : decode cX0_exchange 1 = .ok (.invokevirtual 195, 3) := dk_182 0 195 (dk_at dksX0_exchange_0 1 rfl rfl)
theorem dX0_exchange_4 : decode cX0_exchange 4 = .ok (.iload_n 1, 1) := dk_27 (dk_at dksX0_exchange_0 4 rfl rfl)
theorem dX0_exchange_5 : decode cX0_exchange 5 = .ok (.iload_n 2, 1) := dk_28 (dk_at dksX0_exchange_0 5 rfl rfl)
theorem dX0_exchange_6 : decode cX0_exchange 6 = .ok (.invokevirtual 230, 3) := dk_182 0 230 (dk_at dksX0_exchange_0 6 rfl rfl)
theorem dX0_exchange_9 : decode cX0_exchange 9 = .ok (.istore_n 3, 1) := dk_62 (dk_at dksX0_exchange_0 9 rfl rfl)
theorem dX0_exchange_10 : decode cX0_exchange 10 = .ok (.iload_n 3, 1) := dk_29 (dk_at dksX0_exchange_0 10 rfl rfl)
theorem dX0_exchange_11 : decode cX0_exchange 11 = .ok (.ifCond .eq 8, 3) := dk_153 0 8 (dk_at dksX0_exchange_0 11 rfl rfl)
theorem dX0_exchange_14 : decode cX0_exchange 14 = .ok (.bipush (-10), 2) := dk_16 246 (dk_at dksX0_exchange_0 14 rfl rfl)
theorem dX0_exchange_16 : decode cX0_exchange 16 = .ok (.iload_n 3, 1) := dk_29 (dk_at dksX0_exchange_0 16 rfl rfl)
theorem dX0_exchange_17 : decode cX0_exchange 17 = .ok (.isub, 1) := dk_100 (dk_at dksX0_exchange_0 17 rfl rfl)
theorem dX0_exchange_18 : decode cX0_exchange 18 = .ok (.ireturn, 1) := dk_172 (dk_at dksX0_exchange_0 18 rfl rfl)
theorem dX0_exchange_19 : decode cX0_exchange 19 = .ok (.aload_n 0, 1) := dk_42 (dk_at dksX0_exchange_0 19 rfl rfl)
theorem dX0_exchange_20 : decode cX0_exchange 20 = .ok (.getfield 40, 3) := dk_180 0 40 (dk_at dksX0_exchange_0 20 rfl rfl)
theorem dX0_exchange_23 : decode cX0_exchange 23 = .ok (.iload_n 1, 1) := dk_27 (dk_at dksX0_exchange_0 23 rfl rfl)
theorem dX0_exchange_24 : decode cX0_exchange 24 = .ok (.iload_n 2, 1) := dk_28 (dk_at dksX0_exchange_1 0 rfl rfl)
theorem dX0_exchange_25 : decode cX0_exchange 25 = .ok (.invokevirtual 246, 3) := dk_182 0 246 (dk_at dksX0_exchange_1 1 rfl rfl)
theorem dX0_exchange_28 : decode cX0_exchange 28 = .ok (.istore 4, 2) := dk_54 4 (dk_at dksX0_exchange_1 4 rfl rfl)
theorem dX0_exchange_30 : decode cX0_exchange 30 = .ok (.aload_n 0, 1) := dk_42 (dk_at dksX0_exchange_1 6 rfl rfl)
theorem dX0_exchange_31 : decode cX0_exchange 31 = .ok (.iload 4, 2) := dk_21 4 (dk_at dksX0_exchange_1 7 rfl rfl)
theorem dX0_exchange_33 : decode cX0_exchange 33 = .ok (.invokevirtual 240, 3) := dk_182 0 240 (dk_at dksX0_exchange_1 9 rfl rfl)
theorem dX0_exchange_36 : decode cX0_exchange 36 = .ok (.aload_n 0, 1) := dk_42 (dk_at dksX0_exchange_1 12 rfl rfl)
theorem dX0_exchange_37 : decode cX0_exchange 37 = .ok (.aload_n 0, 1) := dk_42 (dk_at dksX0_exchange_1 13 rfl rfl)
theorem dX0_exchange_38 : decode cX0_exchange 38 = .ok (.getfield 40, 3) := dk_180 0 40 (dk_at dksX0_exchange_1 14 rfl rfl)
theorem dX0_exchange_41 : decode cX0_exchange 41 = .ok (.iload_n 1, 1) := dk_27 (dk_at dksX0_exchange_1 17 rfl rfl)
theorem dX0_exchange_42 : decode cX0_exchange 42 = .ok (.invokevirtual 249, 3) := dk_182 0 249 (dk_at dksX0_exchange_1 18 rfl rfl)
theorem dX0_exchange_45 : decode cX0_exchange 45 = .ok (.invokevirtual 240, 3) := dk_182 0 240 (dk_at dksX0_exchange_1 21 rfl rfl)
theorem dX0_exchange_48 : decode cX0_exchange 48 = .ok (.aload_n 0, 1) := dk_42 (dk_at dksX0_exchange_2 0 rfl rfl)
theorem dX0_exchange_49 : decode cX0_exchange 49 = .ok (.getfield 10, 3) := dk_180 0 10 (dk_at dksX0_exchange_2 1 rfl rfl)
theorem dX0_exchange_52 : decode cX0_exchange 52 = .ok (.aload_n 0, 1) := dk_42 (dk_at dksX0_exchange_2 4 rfl rfl)
theorem dX0_exchange_53 : decode cX0_exchange 53 = .ok (.getfield 40, 3) := dk_180 0 40 (dk_at dksX0_exchange_2 5 rfl rfl)
theorem dX0_exchange_56 : decode cX0_exchange 56 = .ok (.aload_n 0, 1) := dk_42 (dk_at dksX0_exchange_2 8 rfl rfl)
theorem dX0_exchange_57 : decode cX0_exchange 57 = .ok (.getfield 10, 3) := dk_180 0 10 (dk_at dksX0_exchange_2 9 rfl rfl)
theorem dX0_exchange_60 : decode cX0_exchange 60 = .ok (.getfield 147, 3) := dk_180 0 147 (dk_at dksX0_exchange_2 12 rfl rfl)
theorem dX0_exchange_63 : decode cX0_exchange 63 = .ok (.invokevirtual 243, 3) := dk_182 0 243 (dk_at dksX0_exchange_2 15 rfl rfl)
theorem dX0_exchange_66 : decode cX0_exchange 66 = .ok (.putfield 147, 3) := dk_181 0 147 (dk_at dksX0_exchange_2 18 rfl rfl)
theorem dX0_exchange_69 : decode cX0_exchange 69 = .ok (.iload 4, 2) := dk_21 4 (dk_at dksX0_exchange_2 21 rfl rfl)
theorem dX0_exchange_71 : decode cX0_exchange 71 = .ok (.ireturn, 1) := dk_172 (dk_at dksX0_exchange_2 23 rfl rfl)
abbrev cX0_year : ByteArray := prog_1_method_24_code
def yX0_year : MethodName := ⟨RX0, "year", "()I"⟩
def dkwX0_year_2 : List UInt8 := [180, 0, 10, 180, 0, 233, 172]
abbrev dktX0_year_2 : List UInt8 := dkwX0_year_2 ++ []
def dkwX0_year_1 : List UInt8 := [4, 96, 181, 0, 233, 42, 180, 0, 10, 42, 180, 0, 10, 180, 0, 147, 184, 0, 255, 181, 0, 147, 42]
abbrev dktX0_year_1 : List UInt8 := dkwX0_year_1 ++ dktX0_year_2
def dkwX0_year_0 : List UInt8 := [42, 180, 0, 10, 180, 0, 233, 17, 3, 231, 160, 0, 6, 16, 251, 172, 42, 180, 0, 10, 89, 180, 0, 233]
abbrev dktX0_year_0 : List UInt8 := dkwX0_year_0 ++ dktX0_year_1
theorem dksX0_year_0 : cX0_year.data.toList.drop 0 = dktX0_year_0 := by decide +kernel
theorem dksX0_year_1 : cX0_year.data.toList.drop 24 = dktX0_year_1 := dk_seg dksX0_year_0 24 rfl rfl
theorem dksX0_year_2 : cX0_year.data.toList.drop 47 = dktX0_year_2 := dk_seg dksX0_year_1 23 rfl rfl
theorem dX0_year_0 : decode cX0_year 0 = .ok (.aload_n 0, 1) := dk_42 (dk_at dksX0_year_0 0 rfl rfl)
theorem dX0_year_1 : decode cX0_year 1 = .ok (.getfield 10, 3) := dk_180 0 10 (dk_at dksX0_year_0 1 rfl rfl)
theorem dX0_year_4 : decode cX0_year 4 = .ok (.getfield 233, 3) := dk_180 0 233 (dk_at dksX0_year_0 4 rfl rfl)
theorem dX0_year_7 : decode cX0_year 7 = .ok (.sipush 999, 3) := dk_17 3 231 (dk_at dksX0_year_0 7 rfl rfl)
theorem dX0_year_10 : decode cX0_year 10 = .ok (.if_icmp .ne 6, 3) := dk_160 0 6 (dk_at dksX0_year_0 10 rfl rfl)
theorem dX0_year_13 : decode cX0_year 13 = .ok (.bipush (-5), 2) := dk_16 251 (dk_at dksX0_year_0 13 rfl rfl)
theorem dX0_year_15 : decode cX0_year 15 = .ok (.ireturn, 1) := dk_172 (dk_at dksX0_year_0 15 rfl rfl)
theorem dX0_year_16 : decode cX0_year 16 = .ok (.aload_n 0, 1) := dk_42 (dk_at dksX0_year_0 16 rfl rfl)
theorem dX0_year_17 : decode cX0_year 17 = .ok (.getfield 10, 3) := dk_180 0 10 (dk_at dksX0_year_0 17 rfl rfl)
theorem dX0_year_20 : decode cX0_year 20 = .ok (.dup, 1) := dk_89 (dk_at dksX0_year_0 20 rfl rfl)
theorem dX0_year_21 : decode cX0_year 21 = .ok (.getfield 233, 3) := dk_180 0 233 (dk_at dksX0_year_0 21 rfl rfl)
theorem dX0_year_24 : decode cX0_year 24 = .ok (.iconst 1, 1) := dk_4 (dk_at dksX0_year_1 0 rfl rfl)
theorem dX0_year_25 : decode cX0_year 25 = .ok (.iadd, 1) := dk_96 (dk_at dksX0_year_1 1 rfl rfl)
theorem dX0_year_26 : decode cX0_year 26 = .ok (.putfield 233, 3) := dk_181 0 233 (dk_at dksX0_year_1 2 rfl rfl)
theorem dX0_year_29 : decode cX0_year 29 = .ok (.aload_n 0, 1) := dk_42 (dk_at dksX0_year_1 5 rfl rfl)
theorem dX0_year_30 : decode cX0_year 30 = .ok (.getfield 10, 3) := dk_180 0 10 (dk_at dksX0_year_1 6 rfl rfl)
theorem dX0_year_33 : decode cX0_year 33 = .ok (.aload_n 0, 1) := dk_42 (dk_at dksX0_year_1 9 rfl rfl)
theorem dX0_year_34 : decode cX0_year 34 = .ok (.getfield 10, 3) := dk_180 0 10 (dk_at dksX0_year_1 10 rfl rfl)
theorem dX0_year_37 : decode cX0_year 37 = .ok (.getfield 147, 3) := dk_180 0 147 (dk_at dksX0_year_1 13 rfl rfl)
theorem dX0_year_40 : decode cX0_year 40 = .ok (.invokestatic 255, 3) := dk_184 0 255 (dk_at dksX0_year_1 16 rfl rfl)
theorem dX0_year_43 : decode cX0_year 43 = .ok (.putfield 147, 3) := dk_181 0 147 (dk_at dksX0_year_1 19 rfl rfl)
theorem dX0_year_46 : decode cX0_year 46 = .ok (.aload_n 0, 1) := dk_42 (dk_at dksX0_year_1 22 rfl rfl)
theorem dX0_year_47 : decode cX0_year 47 = .ok (.getfield 10, 3) := dk_180 0 10 (dk_at dksX0_year_2 0 rfl rfl)
theorem dX0_year_50 : decode cX0_year 50 = .ok (.getfield 233, 3) := dk_180 0 233 (dk_at dksX0_year_2 3 rfl rfl)
theorem dX0_year_53 : decode cX0_year 53 = .ok (.ireturn, 1) := dk_172 (dk_at dksX0_year_2 6 rfl rfl)
abbrev cX0_resting : ByteArray := prog_1_method_23_code
def yX0_resting : MethodName := ⟨RX0, "resting", "(J)J"⟩
def dkwX0_resting_0 : List UInt8 := [30, 20, 0, 253, 127, 173]
abbrev dktX0_resting_0 : List UInt8 := dkwX0_resting_0 ++ []
theorem dksX0_resting_0 : cX0_resting.data.toList.drop 0 = dktX0_resting_0 := by decide +kernel
theorem dX0_resting_0 : decode cX0_resting 0 = .ok (.lload_n 0, 1) := dk_30 (dk_at dksX0_resting_0 0 rfl rfl)
theorem dX0_resting_1 : decode cX0_resting 1 = .ok (.ldc2_w 253, 3) := dk_20 0 253 (dk_at dksX0_resting_0 1 rfl rfl)
theorem dX0_resting_4 : decode cX0_resting 4 = .ok (.land, 1) := dk_127 (dk_at dksX0_resting_0 4 rfl rfl)
theorem dX0_resting_5 : decode cX0_resting 5 = .ok (.lreturn, 1) := dk_173 (dk_at dksX0_resting_0 5 rfl rfl)
abbrev cX0_flood : ByteArray := prog_1_method_26_code
def yX0_flood : MethodName := ⟨RX0, "flood", "(I)I"⟩
def dkwX0_flood_7 : List UInt8 := [167, 255, 106, 42, 180, 0, 10, 44, 42, 180, 0, 10, 180, 0, 147, 182, 0, 243, 181, 0, 147, 29, 172]
abbrev dktX0_flood_7 : List UInt8 := dkwX0_flood_7 ++ []
def dkwX0_flood_6 : List UInt8 := [21, 6, 42, 180, 0, 10, 180, 0, 91, 180, 1, 19, 182, 0, 236, 182, 0, 240, 132, 3, 1, 132, 4, 1]
abbrev dktX0_flood_6 : List UInt8 := dkwX0_flood_6 ++ dktX0_flood_7
def dkwX0_flood_5 : List UInt8 := [44, 44, 21, 4, 182, 0, 249, 182, 1, 14, 182, 1, 16, 154, 0, 6, 167, 0, 28, 42, 44, 21, 4]
abbrev dktX0_flood_5 : List UInt8 := dkwX0_flood_5 ++ dktX0_flood_6
def dkwX0_flood_4 : List UInt8 := [180, 0, 10, 180, 0, 91, 21, 6, 182, 1, 12, 159, 0, 57, 44, 21, 6, 44, 180, 0, 208, 21, 6, 46]
abbrev dktX0_flood_4 : List UInt8 := dkwX0_flood_4 ++ dktX0_flood_5
def dkwX0_flood_3 : List UInt8 := [21, 5, 153, 0, 88, 44, 21, 6, 182, 1, 9, 153, 0, 79, 44, 180, 0, 208, 21, 6, 46, 42]
abbrev dktX0_flood_3 : List UInt8 := dkwX0_flood_3 ++ dktX0_flood_4
def dkwX0_flood_2 : List UInt8 := [182, 1, 6, 54, 5, 21, 5, 4, 160, 0, 10, 21, 4, 4, 100, 167, 0, 7, 21, 4, 4, 96, 54, 6]
abbrev dktX0_flood_2 : List UInt8 := dkwX0_flood_2 ++ dktX0_flood_3
def dkwX0_flood_1 : List UInt8 := [180, 0, 201, 182, 0, 133, 162, 0, 138, 44, 180, 0, 208, 21, 4, 46, 154, 0, 6, 167, 0, 119, 42, 6]
abbrev dktX0_flood_1 : List UInt8 := dkwX0_flood_1 ++ dktX0_flood_2
def dkwX0_flood_0 : List UInt8 := [42, 182, 0, 195, 77, 42, 27, 181, 1, 3, 3, 62, 3, 54, 4, 21, 4, 42, 180, 0, 10, 180, 0, 91]
abbrev dktX0_flood_0 : List UInt8 := dkwX0_flood_0 ++ dktX0_flood_1
theorem dksX0_flood_0 : cX0_flood.data.toList.drop 0 = dktX0_flood_0 := by decide +kernel
theorem dksX0_flood_1 : cX0_flood.data.toList.drop 24 = dktX0_flood_1 := dk_seg dksX0_flood_0 24 rfl rfl
theorem dksX0_flood_2 : cX0_flood.data.toList.drop 48 = dktX0_flood_2 := dk_seg dksX0_flood_1 24 rfl rfl
theorem dksX0_flood_3 : cX0_flood.data.toList.drop 72 = dktX0_flood_3 := dk_seg dksX0_flood_2 24 rfl rfl
theorem dksX0_flood_4 : cX0_flood.data.toList.drop 94 = dktX0_flood_4 := dk_seg dksX0_flood_3 22 rfl rfl
theorem dksX0_flood_5 : cX0_flood.data.toList.drop 118 = dktX0_flood_5 := dk_seg dksX0_flood_4 24 rfl rfl
theorem dksX0_flood_6 : cX0_flood.data.toList.drop 141 = dktX0_flood_6 := dk_seg dksX0_flood_5 23 rfl rfl
theorem dksX0_flood_7 : cX0_flood.data.toList.drop 165 = dktX0_flood_7 := dk_seg dksX0_flood_6 24 rfl rfl
theorem dX0_flood_0 : decode cX0_flood 0 = .ok (.aload_n 0, 1) := dk_42 (dk_at dksX0_flood_0 0 rfl rfl)
theorem dX0_flood_1 : decode cX0_flood 1 = .ok (.invokevirtual 195, 3) := dk_182 0 195 (dk_at dksX0_flood_0 1 rfl rfl)
theorem dX0_flood_4 : decode cX0_flood 4 = .ok (.astore_n 2, 1) := dk_77 (dk_at dksX0_flood_0 4 rfl rfl)
theorem dX0_flood_5 : decode cX0_flood 5 = .ok (.aload_n 0, 1) := dk_42 (dk_at dksX0_flood_0 5 rfl rfl)
theorem dX0_flood_6 : decode cX0_flood 6 = .ok (.iload_n 1, 1) := dk_27 (dk_at dksX0_flood_0 6 rfl rfl)
theorem dX0_flood_7 : decode cX0_flood 7 = .ok (.putfield 259, 3) := dk_181 1 3 (dk_at dksX0_flood_0 7 rfl rfl)
theorem dX0_flood_10 : decode cX0_flood 10 = .ok (.iconst 0, 1) := dk_3 (dk_at dksX0_flood_0 10 rfl rfl)
theorem dX0_flood_11 : decode cX0_flood 11 = .ok (.istore_n 3, 1) := dk_62 (dk_at dksX0_flood_0 11 rfl rfl)
theorem dX0_flood_12 : decode cX0_flood 12 = .ok (.iconst 0, 1) := dk_3 (dk_at dksX0_flood_0 12 rfl rfl)
theorem dX0_flood_13 : decode cX0_flood 13 = .ok (.istore 4, 2) := dk_54 4 (dk_at dksX0_flood_0 13 rfl rfl)
theorem dX0_flood_15 : decode cX0_flood 15 = .ok (.iload 4, 2) := dk_21 4 (dk_at dksX0_flood_0 15 rfl rfl)
theorem dX0_flood_17 : decode cX0_flood 17 = .ok (.aload_n 0, 1) := dk_42 (dk_at dksX0_flood_0 17 rfl rfl)
theorem dX0_flood_18 : decode cX0_flood 18 = .ok (.getfield 10, 3) := dk_180 0 10 (dk_at dksX0_flood_0 18 rfl rfl)
theorem dX0_flood_21 : decode cX0_flood 21 = .ok (.getfield 91, 3) := dk_180 0 91 (dk_at dksX0_flood_0 21 rfl rfl)
theorem dX0_flood_24 : decode cX0_flood 24 = .ok (.getfield 201, 3) := dk_180 0 201 (dk_at dksX0_flood_1 0 rfl rfl)
theorem dX0_flood_27 : decode cX0_flood 27 = .ok (.invokevirtual 133, 3) := dk_182 0 133 (dk_at dksX0_flood_1 3 rfl rfl)
theorem dX0_flood_30 : decode cX0_flood 30 = .ok (.if_icmp .ge 138, 3) := dk_162 0 138 (dk_at dksX0_flood_1 6 rfl rfl)
theorem dX0_flood_33 : decode cX0_flood 33 = .ok (.aload_n 2, 1) := dk_44 (dk_at dksX0_flood_1 9 rfl rfl)
theorem dX0_flood_34 : decode cX0_flood 34 = .ok (.getfield 208, 3) := dk_180 0 208 (dk_at dksX0_flood_1 10 rfl rfl)
theorem dX0_flood_37 : decode cX0_flood 37 = .ok (.iload 4, 2) := dk_21 4 (dk_at dksX0_flood_1 13 rfl rfl)
theorem dX0_flood_39 : decode cX0_flood 39 = .ok (.iaload, 1) := dk_46 (dk_at dksX0_flood_1 15 rfl rfl)
theorem dX0_flood_40 : decode cX0_flood 40 = .ok (.ifCond .ne 6, 3) := dk_154 0 6 (dk_at dksX0_flood_1 16 rfl rfl)
theorem dX0_flood_43 : decode cX0_flood 43 = .ok (.goto 119, 3) := dk_167 0 119 (dk_at dksX0_flood_1 19 rfl rfl)
theorem dX0_flood_46 : decode cX0_flood 46 = .ok (.aload_n 0, 1) := dk_42 (dk_at dksX0_flood_1 22 rfl rfl)
theorem dX0_flood_47 : decode cX0_flood 47 = .ok (.iconst 3, 1) := dk_6 (dk_at dksX0_flood_1 23 rfl rfl)
theorem dX0_flood_48 : decode cX0_flood 48 = .ok (.invokevirtual 262, 3) := dk_182 1 6 (dk_at dksX0_flood_2 0 rfl rfl)
theorem dX0_flood_51 : decode cX0_flood 51 = .ok (.istore 5, 2) := dk_54 5 (dk_at dksX0_flood_2 3 rfl rfl)
theorem dX0_flood_53 : decode cX0_flood 53 = .ok (.iload 5, 2) := dk_21 5 (dk_at dksX0_flood_2 5 rfl rfl)
theorem dX0_flood_55 : decode cX0_flood 55 = .ok (.iconst 1, 1) := dk_4 (dk_at dksX0_flood_2 7 rfl rfl)
theorem dX0_flood_56 : decode cX0_flood 56 = .ok (.if_icmp .ne 10, 3) := dk_160 0 10 (dk_at dksX0_flood_2 8 rfl rfl)
theorem dX0_flood_59 : decode cX0_flood 59 = .ok (.iload 4, 2) := dk_21 4 (dk_at dksX0_flood_2 11 rfl rfl)
theorem dX0_flood_61 : decode cX0_flood 61 = .ok (.iconst 1, 1) := dk_4 (dk_at dksX0_flood_2 13 rfl rfl)
theorem dX0_flood_62 : decode cX0_flood 62 = .ok (.isub, 1) := dk_100 (dk_at dksX0_flood_2 14 rfl rfl)
theorem dX0_flood_63 : decode cX0_flood 63 = .ok (.goto 7, 3) := dk_167 0 7 (dk_at dksX0_flood_2 15 rfl rfl)
theorem dX0_flood_66 : decode cX0_flood 66 = .ok (.iload 4, 2) := dk_21 4 (dk_at dksX0_flood_2 18 rfl rfl)
theorem dX0_flood_68 : decode cX0_flood 68 = .ok (.iconst 1, 1) := dk_4 (dk_at dksX0_flood_2 20 rfl rfl)
theorem dX0_flood_69 : decode cX0_flood 69 = .ok (.iadd, 1) := dk_96 (dk_at dksX0_flood_2 21 rfl rfl)
theorem dX0_flood_70 : decode cX0_flood 70 = .ok (.istore 6, 2) := dk_54 6 (dk_at dksX0_flood_2 22 rfl rfl)
theorem dX0_flood_72 : decode cX0_flood 72 = .ok (.iload 5, 2) := dk_21 5 (dk_at dksX0_flood_3 0 rfl rfl)
theorem dX0_flood_74 : decode cX0_flood 74 = .ok (.ifCond .eq 88, 3) := dk_153 0 88 (dk_at dksX0_flood_3 2 rfl rfl)
theorem dX0_flood_77 : decode cX0_flood 77 = .ok (.aload_n 2, 1) := dk_44 (dk_at dksX0_flood_3 5 rfl rfl)
theorem dX0_flood_78 : decode cX0_flood 78 = .ok (.iload 6, 2) := dk_21 6 (dk_at dksX0_flood_3 6 rfl rfl)
theorem dX0_flood_80 : decode cX0_flood 80 = .ok (.invokevirtual 265, 3) := dk_182 1 9 (dk_at dksX0_flood_3 8 rfl rfl)
theorem dX0_flood_83 : decode cX0_flood 83 = .ok (.ifCond .eq 79, 3) := dk_153 0 79 (dk_at dksX0_flood_3 11 rfl rfl)
theorem dX0_flood_86 : decode cX0_flood 86 = .ok (.aload_n 2, 1) := dk_44 (dk_at dksX0_flood_3 14 rfl rfl)
theorem dX0_flood_87 : decode cX0_flood 87 = .ok (.getfield 208, 3) := dk_180 0 208 (dk_at dksX0_flood_3 15 rfl rfl)
theorem dX0_flood_90 : decode cX0_flood 90 = .ok (.iload 6, 2) := dk_21 6 (dk_at dksX0_flood_3 18 rfl rfl)
theorem dX0_flood_92 : decode cX0_flood 92 = .ok (.iaload, 1) := dk_46 (dk_at dksX0_flood_3 20 rfl rfl)
theorem dX0_flood_93 : decode cX0_flood 93 = .ok (.aload_n 0, 1) := dk_42 (dk_at dksX0_flood_3 21 rfl rfl)
theorem dX0_flood_94 : decode cX0_flood 94 = .ok (.getfield 10, 3) := dk_180 0 10 (dk_at dksX0_flood_4 0 rfl rfl)
theorem dX0_flood_97 : decode cX0_flood 97 = .ok (.getfield 91, 3) := dk_180 0 91 (dk_at dksX0_flood_4 3 rfl rfl)
theorem dX0_flood_100 : decode cX0_flood 100 = .ok (.iload 6, 2) := dk_21 6 (dk_at dksX0_flood_4 6 rfl rfl)
theorem dX0_flood_102 : decode cX0_flood 102 = .ok (.invokevirtual 268, 3) := dk_182 1 12 (dk_at dksX0_flood_4 8 rfl rfl)
theorem dX0_flood_105 : decode cX0_flood 105 = .ok (.if_icmp .eq 57, 3) := dk_159 0 57 (dk_at dksX0_flood_4 11 rfl rfl)
theorem dX0_flood_108 : decode cX0_flood 108 = .ok (.aload_n 2, 1) := dk_44 (dk_at dksX0_flood_4 14 rfl rfl)
theorem dX0_flood_109 : decode cX0_flood 109 = .ok (.iload 6, 2) := dk_21 6 (dk_at dksX0_flood_4 15 rfl rfl)
theorem dX0_flood_111 : decode cX0_flood 111 = .ok (.aload_n 2, 1) := dk_44 (dk_at dksX0_flood_4 17 rfl rfl)
theorem dX0_flood_112 : decode cX0_flood 112 = .ok (.getfield 208, 3) := dk_180 0 208 (dk_at dksX0_flood_4 18 rfl rfl)
theorem dX0_flood_115 : decode cX0_flood 115 = .ok (.iload 6, 2) := dk_21 6 (dk_at dksX0_flood_4 21 rfl rfl)
theorem dX0_flood_117 : decode cX0_flood 117 = .ok (.iaload, 1) := dk_46 (dk_at dksX0_flood_4 23 rfl rfl)
theorem dX0_flood_118 : decode cX0_flood 118 = .ok (.aload_n 2, 1) := dk_44 (dk_at dksX0_flood_5 0 rfl rfl)
theorem dX0_flood_119 : decode cX0_flood 119 = .ok (.aload_n 2, 1) := dk_44 (dk_at dksX0_flood_5 1 rfl rfl)
theorem dX0_flood_120 : decode cX0_flood 120 = .ok (.iload 4, 2) := dk_21 4 (dk_at dksX0_flood_5 2 rfl rfl)
theorem dX0_flood_122 : decode cX0_flood 122 = .ok (.invokevirtual 249, 3) := dk_182 0 249 (dk_at dksX0_flood_5 4 rfl rfl)
theorem dX0_flood_125 : decode cX0_flood 125 = .ok (.invokevirtual 270, 3) := dk_182 1 14 (dk_at dksX0_flood_5 7 rfl rfl)
theorem dX0_flood_128 : decode cX0_flood 128 = .ok (.invokevirtual 272, 3) := dk_182 1 16 (dk_at dksX0_flood_5 10 rfl rfl)
theorem dX0_flood_131 : decode cX0_flood 131 = .ok (.ifCond .ne 6, 3) := dk_154 0 6 (dk_at dksX0_flood_5 13 rfl rfl)
theorem dX0_flood_134 : decode cX0_flood 134 = .ok (.goto 28, 3) := dk_167 0 28 (dk_at dksX0_flood_5 16 rfl rfl)
theorem dX0_flood_137 : decode cX0_flood 137 = .ok (.aload_n 0, 1) := dk_42 (dk_at dksX0_flood_5 19 rfl rfl)
theorem dX0_flood_138 : decode cX0_flood 138 = .ok (.aload_n 2, 1) := dk_44 (dk_at dksX0_flood_5 20 rfl rfl)
theorem dX0_flood_139 : decode cX0_flood 139 = .ok (.iload 4, 2) := dk_21 4 (dk_at dksX0_flood_5 21 rfl rfl)
theorem dX0_flood_141 : decode cX0_flood 141 = .ok (.iload 6, 2) := dk_21 6 (dk_at dksX0_flood_6 0 rfl rfl)
theorem dX0_flood_143 : decode cX0_flood 143 = .ok (.aload_n 0, 1) := dk_42 (dk_at dksX0_flood_6 2 rfl rfl)
theorem dX0_flood_144 : decode cX0_flood 144 = .ok (.getfield 10, 3) := dk_180 0 10 (dk_at dksX0_flood_6 3 rfl rfl)
theorem dX0_flood_147 : decode cX0_flood 147 = .ok (.getfield 91, 3) := dk_180 0 91 (dk_at dksX0_flood_6 6 rfl rfl)
theorem dX0_flood_150 : decode cX0_flood 150 = .ok (.getfield 275, 3) := dk_180 1 19 (dk_at dksX0_flood_6 9 rfl rfl)
theorem dX0_flood_153 : decode cX0_flood 153 = .ok (.invokevirtual 236, 3) := dk_182 0 236 (dk_at dksX0_flood_6 12 rfl rfl)
theorem dX0_flood_156 : decode cX0_flood 156 = .ok (.invokevirtual 240, 3) := dk_182 0 240 (dk_at dksX0_flood_6 15 rfl rfl)
theorem dX0_flood_159 : decode cX0_flood 159 = .ok (.iinc 3 1, 3) := dk_132 3 1 (dk_at dksX0_flood_6 18 rfl rfl)
theorem dX0_flood_162 : decode cX0_flood 162 = .ok (.iinc 4 1, 3) := dk_132 4 1 (dk_at dksX0_flood_6 21 rfl rfl)
theorem dX0_flood_165 : decode cX0_flood 165 = .ok (.goto (-150), 3) := dk_167 255 106 (dk_at dksX0_flood_7 0 rfl rfl)
theorem dX0_flood_168 : decode cX0_flood 168 = .ok (.aload_n 0, 1) := dk_42 (dk_at dksX0_flood_7 3 rfl rfl)
theorem dX0_flood_169 : decode cX0_flood 169 = .ok (.getfield 10, 3) := dk_180 0 10 (dk_at dksX0_flood_7 4 rfl rfl)
theorem dX0_flood_172 : decode cX0_flood 172 = .ok (.aload_n 2, 1) := dk_44 (dk_at dksX0_flood_7 7 rfl rfl)
theorem dX0_flood_173 : decode cX0_flood 173 = .ok (.aload_n 0, 1) := dk_42 (dk_at dksX0_flood_7 8 rfl rfl)
theorem dX0_flood_174 : decode cX0_flood 174 = .ok (.getfield 10, 3) := dk_180 0 10 (dk_at dksX0_flood_7 9 rfl rfl)
theorem dX0_flood_177 : decode cX0_flood 177 = .ok (.getfield 147, 3) := dk_180 0 147 (dk_at dksX0_flood_7 12 rfl rfl)
theorem dX0_flood_180 : decode cX0_flood 180 = .ok (.invokevirtual 243, 3) := dk_182 0 243 (dk_at dksX0_flood_7 15 rfl rfl)
theorem dX0_flood_183 : decode cX0_flood 183 = .ok (.putfield 147, 3) := dk_181 0 147 (dk_at dksX0_flood_7 18 rfl rfl)
theorem dX0_flood_186 : decode cX0_flood 186 = .ok (.iload_n 3, 1) := dk_29 (dk_at dksX0_flood_7 21 rfl rfl)
theorem dX0_flood_187 : decode cX0_flood 187 = .ok (.ireturn, 1) := dk_172 (dk_at dksX0_flood_7 22 rfl rfl)
abbrev cX0_draw : ByteArray := prog_1_method_25_code
def yX0_draw : MethodName := ⟨RX0, "draw", "(I)I"⟩
def dkwX0_draw_1 : List UInt8 := [112, 172]
abbrev dktX0_draw_1 : List UInt8 := dkwX0_draw_1 ++ []
def dkwX0_draw_0 : List UInt8 := [42, 19, 1, 2, 42, 180, 1, 3, 104, 17, 48, 57, 96, 181, 1, 3, 42, 180, 1, 3, 16, 16, 124, 27]
abbrev dktX0_draw_0 : List UInt8 := dkwX0_draw_0 ++ dktX0_draw_1
theorem dksX0_draw_0 : cX0_draw.data.toList.drop 0 = dktX0_draw_0 := by decide +kernel
theorem dksX0_draw_1 : cX0_draw.data.toList.drop 24 = dktX0_draw_1 := dk_seg dksX0_draw_0 24 rfl rfl
theorem dX0_draw_0 : decode cX0_draw 0 = .ok (.aload_n 0, 1) := dk_42 (dk_at dksX0_draw_0 0 rfl rfl)
theorem dX0_draw_1 : decode cX0_draw 1 = .ok (.ldc_w 258, 3) := dk_19 1 2 (dk_at dksX0_draw_0 1 rfl rfl)
theorem dX0_draw_4 : decode cX0_draw 4 = .ok (.aload_n 0, 1) := dk_42 (dk_at dksX0_draw_0 4 rfl rfl)
theorem dX0_draw_5 : decode cX0_draw 5 = .ok (.getfield 259, 3) := dk_180 1 3 (dk_at dksX0_draw_0 5 rfl rfl)
theorem dX0_draw_8 : decode cX0_draw 8 = .ok (.imul, 1) := dk_104 (dk_at dksX0_draw_0 8 rfl rfl)
theorem dX0_draw_9 : decode cX0_draw 9 = .ok (.sipush 12345, 3) := dk_17 48 57 (dk_at dksX0_draw_0 9 rfl rfl)
theorem dX0_draw_12 : decode cX0_draw 12 = .ok (.iadd, 1) := dk_96 (dk_at dksX0_draw_0 12 rfl rfl)
theorem dX0_draw_13 : decode cX0_draw 13 = .ok (.putfield 259, 3) := dk_181 1 3 (dk_at dksX0_draw_0 13 rfl rfl)
theorem dX0_draw_16 : decode cX0_draw 16 = .ok (.aload_n 0, 1) := dk_42 (dk_at dksX0_draw_0 16 rfl rfl)
theorem dX0_draw_17 : decode cX0_draw 17 = .ok (.getfield 259, 3) := dk_180 1 3 (dk_at dksX0_draw_0 17 rfl rfl)
theorem dX0_draw_20 : decode cX0_draw 20 = .ok (.bipush 16, 2) := dk_16 16 (dk_at dksX0_draw_0 20 rfl rfl)
theorem dX0_draw_22 : decode cX0_draw 22 = .ok (.iushr, 1) := dk_124 (dk_at dksX0_draw_0 22 rfl rfl)
theorem dX0_draw_23 : decode cX0_draw 23 = .ok (.iload_n 1, 1) := dk_27 (dk_at dksX0_draw_0 23 rfl rfl)
theorem dX0_draw_24 : decode cX0_draw 24 = .ok (.irem, 1) := dk_112 (dk_at dksX0_draw_1 0 rfl rfl)
theorem dX0_draw_25 : decode cX0_draw 25 = .ok (.ireturn, 1) := dk_172 (dk_at dksX0_draw_1 1 rfl rfl)
abbrev cX0_steal : ByteArray := prog_1_method_29_code
def yX0_steal : MethodName := ⟨RX0, "steal", "(I)I"⟩
def dkwX0_steal_2 : List UInt8 := [184, 1, 26, 181, 0, 147, 28, 172]
abbrev dktX0_steal_2 : List UInt8 := dkwX0_steal_2 ++ []
def dkwX0_steal_1 : List UInt8 := [180, 0, 10, 180, 0, 147, 27, 184, 0, 162, 61, 42, 180, 0, 10, 42, 180, 0, 10, 180, 0, 147, 27]
abbrev dktX0_steal_1 : List UInt8 := dkwX0_steal_1 ++ dktX0_steal_2
def dkwX0_steal_0 : List UInt8 := [42, 27, 182, 0, 184, 154, 0, 6, 16, 254, 172, 42, 27, 182, 1, 23, 154, 0, 6, 16, 251, 172, 42]
abbrev dktX0_steal_0 : List UInt8 := dkwX0_steal_0 ++ dktX0_steal_1
theorem dksX0_steal_0 : cX0_steal.data.toList.drop 0 = dktX0_steal_0 := by decide +kernel
theorem dksX0_steal_1 : cX0_steal.data.toList.drop 23 = dktX0_steal_1 := dk_seg dksX0_steal_0 23 rfl rfl
theorem dksX0_steal_2 : cX0_steal.data.toList.drop 46 = dktX0_steal_2 := dk_seg dksX0_steal_1 23 rfl rfl
theorem dX0_steal_0 : decode cX0_steal 0 = .ok (.aload_n 0, 1) := dk_42 (dk_at dksX0_steal_0 0 rfl rfl)
theorem dX0_steal_1 : decode cX0_steal 1 = .ok (.iload_n 1, 1) := dk_27 (dk_at dksX0_steal_0 1 rfl rfl)
theorem dX0_steal_2 : decode cX0_steal 2 = .ok (.invokevirtual 184, 3) := dk_182 0 184 (dk_at dksX0_steal_0 2 rfl rfl)
theorem dX0_steal_5 : decode cX0_steal 5 = .ok (.ifCond .ne 6, 3) := dk_154 0 6 (dk_at dksX0_steal_0 5 rfl rfl)
theorem dX0_steal_8 : decode cX0_steal 8 = .ok (.bipush (-2), 2) := dk_16 254 (dk_at dksX0_steal_0 8 rfl rfl)
theorem dX0_steal_10 : decode cX0_steal 10 = .ok (.ireturn, 1) := dk_172 (dk_at dksX0_steal_0 10 rfl rfl)
theorem dX0_steal_11 : decode cX0_steal 11 = .ok (.aload_n 0, 1) := dk_42 (dk_at dksX0_steal_0 11 rfl rfl)
theorem dX0_steal_12 : decode cX0_steal 12 = .ok (.iload_n 1, 1) := dk_27 (dk_at dksX0_steal_0 12 rfl rfl)
theorem dX0_steal_13 : decode cX0_steal 13 = .ok (.invokevirtual 279, 3) := dk_182 1 23 (dk_at dksX0_steal_0 13 rfl rfl)
theorem dX0_steal_16 : decode cX0_steal 16 = .ok (.ifCond .ne 6, 3) := dk_154 0 6 (dk_at dksX0_steal_0 16 rfl rfl)
theorem dX0_steal_19 : decode cX0_steal 19 = .ok (.bipush (-5), 2) := dk_16 251 (dk_at dksX0_steal_0 19 rfl rfl)
theorem dX0_steal_21 : decode cX0_steal 21 = .ok (.ireturn, 1) := dk_172 (dk_at dksX0_steal_0 21 rfl rfl)
theorem dX0_steal_22 : decode cX0_steal 22 = .ok (.aload_n 0, 1) := dk_42 (dk_at dksX0_steal_0 22 rfl rfl)
theorem dX0_steal_23 : decode cX0_steal 23 = .ok (.getfield 10, 3) := dk_180 0 10 (dk_at dksX0_steal_1 0 rfl rfl)
theorem dX0_steal_26 : decode cX0_steal 26 = .ok (.getfield 147, 3) := dk_180 0 147 (dk_at dksX0_steal_1 3 rfl rfl)
theorem dX0_steal_29 : decode cX0_steal 29 = .ok (.iload_n 1, 1) := dk_27 (dk_at dksX0_steal_1 6 rfl rfl)
theorem dX0_steal_30 : decode cX0_steal 30 = .ok (.invokestatic 162, 3) := dk_184 0 162 (dk_at dksX0_steal_1 7 rfl rfl)
theorem dX0_steal_33 : decode cX0_steal 33 = .ok (.istore_n 2, 1) := dk_61 (dk_at dksX0_steal_1 10 rfl rfl)
theorem dX0_steal_34 : decode cX0_steal 34 = .ok (.aload_n 0, 1) := dk_42 (dk_at dksX0_steal_1 11 rfl rfl)
theorem dX0_steal_35 : decode cX0_steal 35 = .ok (.getfield 10, 3) := dk_180 0 10 (dk_at dksX0_steal_1 12 rfl rfl)
theorem dX0_steal_38 : decode cX0_steal 38 = .ok (.aload_n 0, 1) := dk_42 (dk_at dksX0_steal_1 15 rfl rfl)
theorem dX0_steal_39 : decode cX0_steal 39 = .ok (.getfield 10, 3) := dk_180 0 10 (dk_at dksX0_steal_1 16 rfl rfl)
theorem dX0_steal_42 : decode cX0_steal 42 = .ok (.getfield 147, 3) := dk_180 0 147 (dk_at dksX0_steal_1 19 rfl rfl)
theorem dX0_steal_45 : decode cX0_steal 45 = .ok (.iload_n 1, 1) := dk_27 (dk_at dksX0_steal_1 22 rfl rfl)
theorem dX0_steal_46 : decode cX0_steal 46 = .ok (.invokestatic 282, 3) := dk_184 1 26 (dk_at dksX0_steal_2 0 rfl rfl)
theorem dX0_steal_49 : decode cX0_steal 49 = .ok (.putfield 147, 3) := dk_181 0 147 (dk_at dksX0_steal_2 3 rfl rfl)
theorem dX0_steal_52 : decode cX0_steal 52 = .ok (.iload_n 2, 1) := dk_28 (dk_at dksX0_steal_2 6 rfl rfl)
theorem dX0_steal_53 : decode cX0_steal 53 = .ok (.ireturn, 1) := dk_172 (dk_at dksX0_steal_2 7 rfl rfl)
abbrev cX0_isTop : ByteArray := prog_1_method_27_code
def yX0_isTop : MethodName := ⟨RX0, "isTop", "(I)Z"⟩
def dkwX0_isTop_1 : List UInt8 := [160, 0, 7, 4, 167, 0, 4, 3, 172]
abbrev dktX0_isTop_1 : List UInt8 := dkwX0_isTop_1 ++ []
def dkwX0_isTop_0 : List UInt8 := [42, 180, 0, 10, 180, 0, 147, 27, 184, 0, 162, 6, 108, 61, 42, 182, 0, 195, 28, 182, 0, 249, 27]
abbrev dktX0_isTop_0 : List UInt8 := dkwX0_isTop_0 ++ dktX0_isTop_1
theorem dksX0_isTop_0 : cX0_isTop.data.toList.drop 0 = dktX0_isTop_0 := by decide +kernel
theorem dksX0_isTop_1 : cX0_isTop.data.toList.drop 23 = dktX0_isTop_1 := dk_seg dksX0_isTop_0 23 rfl rfl
theorem dX0_isTop_0 : decode cX0_isTop 0 = .ok (.aload_n 0, 1) := dk_42 (dk_at dksX0_isTop_0 0 rfl rfl)
theorem dX0_isTop_1 : decode cX0_isTop 1 = .ok (.getfield 10, 3) := dk_180 0 10 (dk_at dksX0_isTop_0 1 rfl rfl)
theorem dX0_isTop_4 : decode cX0_isTop 4 = .ok (.getfield 147, 3) := dk_180 0 147 (dk_at dksX0_isTop_0 4 rfl rfl)
theorem dX0_isTop_7 : decode cX0_isTop 7 = .ok (.iload_n 1, 1) := dk_27 (dk_at dksX0_isTop_0 7 rfl rfl)
theorem dX0_isTop_8 : decode cX0_isTop 8 = .ok (.invokestatic 162, 3) := dk_184 0 162 (dk_at dksX0_isTop_0 8 rfl rfl)
theorem dX0_isTop_11 : decode cX0_isTop 11 = .ok (.iconst 3, 1) := dk_6 (dk_at dksX0_isTop_0 11 rfl rfl)
theorem dX0_isTop_12 : decode cX0_isTop 12 = .ok (.idiv, 1) := dk_108 (dk_at dksX0_isTop_0 12 rfl rfl)
theorem dX0_isTop_13 : decode cX0_isTop 13 = .ok (.istore_n 2, 1) := dk_61 (dk_at dksX0_isTop_0 13 rfl rfl)
theorem dX0_isTop_14 : decode cX0_isTop 14 = .ok (.aload_n 0, 1) := dk_42 (dk_at dksX0_isTop_0 14 rfl rfl)
theorem dX0_isTop_15 : decode cX0_isTop 15 = .ok (.invokevirtual 195, 3) := dk_182 0 195 (dk_at dksX0_isTop_0 15 rfl rfl)
theorem dX0_isTop_18 : decode cX0_isTop 18 = .ok (.iload_n 2, 1) := dk_28 (dk_at dksX0_isTop_0 18 rfl rfl)
theorem dX0_isTop_19 : decode cX0_isTop 19 = .ok (.invokevirtual 249, 3) := dk_182 0 249 (dk_at dksX0_isTop_0 19 rfl rfl)
theorem dX0_isTop_22 : decode cX0_isTop 22 = .ok (.iload_n 1, 1) := dk_27 (dk_at dksX0_isTop_0 22 rfl rfl)
theorem dX0_isTop_23 : decode cX0_isTop 23 = .ok (.if_icmp .ne 7, 3) := dk_160 0 7 (dk_at dksX0_isTop_1 0 rfl rfl)
theorem dX0_isTop_26 : decode cX0_isTop 26 = .ok (.iconst 1, 1) := dk_4 (dk_at dksX0_isTop_1 3 rfl rfl)
theorem dX0_isTop_27 : decode cX0_isTop 27 = .ok (.goto 4, 3) := dk_167 0 4 (dk_at dksX0_isTop_1 4 rfl rfl)
theorem dX0_isTop_30 : decode cX0_isTop 30 = .ok (.iconst 0, 1) := dk_3 (dk_at dksX0_isTop_1 7 rfl rfl)
theorem dX0_isTop_31 : decode cX0_isTop 31 = .ok (.ireturn, 1) := dk_172 (dk_at dksX0_isTop_1 8 rfl rfl)
abbrev cX0_robbed : ByteArray := prog_1_method_28_code
def yX0_robbed : MethodName := ⟨RX0, "robbed", "(JI)J"⟩
def dkwX0_robbed_0 : List UInt8 := [30, 20, 0, 145, 7, 28, 104, 121, 129, 10, 16, 32, 28, 96, 121, 20, 0, 166, 131, 127, 173]
abbrev dktX0_robbed_0 : List UInt8 := dkwX0_robbed_0 ++ []
theorem dksX0_robbed_0 : cX0_robbed.data.toList.drop 0 = dktX0_robbed_0 := by decide +kernel
theorem dX0_robbed_0 : decode cX0_robbed 0 = .ok (.lload_n 0, 1) := dk_30 (dk_at dksX0_robbed_0 0 rfl rfl)
theorem dX0_robbed_1 : decode cX0_robbed 1 = .ok (.ldc2_w 145, 3) := dk_20 0 145 (dk_at dksX0_robbed_0 1 rfl rfl)
theorem dX0_robbed_4 : decode cX0_robbed 4 = .ok (.iconst 4, 1) := dk_7 (dk_at dksX0_robbed_0 4 rfl rfl)
theorem dX0_robbed_5 : decode cX0_robbed 5 = .ok (.iload_n 2, 1) := dk_28 (dk_at dksX0_robbed_0 5 rfl rfl)
theorem dX0_robbed_6 : decode cX0_robbed 6 = .ok (.imul, 1) := dk_104 (dk_at dksX0_robbed_0 6 rfl rfl)
theorem dX0_robbed_7 : decode cX0_robbed 7 = .ok (.lshl, 1) := dk_121 (dk_at dksX0_robbed_0 7 rfl rfl)
theorem dX0_robbed_8 : decode cX0_robbed 8 = .ok (.lor, 1) := dk_129 (dk_at dksX0_robbed_0 8 rfl rfl)
theorem dX0_robbed_9 : decode cX0_robbed 9 = .ok (.lconst 1, 1) := dk_10 (dk_at dksX0_robbed_0 9 rfl rfl)
theorem dX0_robbed_10 : decode cX0_robbed 10 = .ok (.bipush 32, 2) := dk_16 32 (dk_at dksX0_robbed_0 10 rfl rfl)
theorem dX0_robbed_12 : decode cX0_robbed 12 = .ok (.iload_n 2, 1) := dk_28 (dk_at dksX0_robbed_0 12 rfl rfl)
theorem dX0_robbed_13 : decode cX0_robbed 13 = .ok (.iadd, 1) := dk_96 (dk_at dksX0_robbed_0 13 rfl rfl)
theorem dX0_robbed_14 : decode cX0_robbed 14 = .ok (.lshl, 1) := dk_121 (dk_at dksX0_robbed_0 14 rfl rfl)
theorem dX0_robbed_15 : decode cX0_robbed 15 = .ok (.ldc2_w 166, 3) := dk_20 0 166 (dk_at dksX0_robbed_0 15 rfl rfl)
theorem dX0_robbed_18 : decode cX0_robbed 18 = .ok (.lxor, 1) := dk_131 (dk_at dksX0_robbed_0 18 rfl rfl)
theorem dX0_robbed_19 : decode cX0_robbed 19 = .ok (.land, 1) := dk_127 (dk_at dksX0_robbed_0 19 rfl rfl)
theorem dX0_robbed_20 : decode cX0_robbed 20 = .ok (.lreturn, 1) := dk_173 (dk_at dksX0_robbed_0 20 rfl rfl)
abbrev cX0_done : ByteArray := prog_1_method_30_code
def yX0_done : MethodName := ⟨RX0, "done", "(I)I"⟩
def dkwX0_done_1 : List UInt8 := [167, 0, 5, 16, 254, 172]
abbrev dktX0_done_1 : List UInt8 := dkwX0_done_1 ++ []
def dkwX0_done_0 : List UInt8 := [27, 184, 1, 30, 153, 0, 22, 42, 182, 0, 195, 27, 182, 1, 33, 153, 0, 7, 4, 167, 0, 9, 3]
abbrev dktX0_done_0 : List UInt8 := dkwX0_done_0 ++ dktX0_done_1
theorem dksX0_done_0 : cX0_done.data.toList.drop 0 = dktX0_done_0 := by decide +kernel
theorem dksX0_done_1 : cX0_done.data.toList.drop 23 = dktX0_done_1 := dk_seg dksX0_done_0 23 rfl rfl
theorem dX0_done_0 : decode cX0_done 0 = .ok (.iload_n 1, 1) := dk_27 (dk_at dksX0_done_0 0 rfl rfl)
theorem dX0_done_1 : decode cX0_done 1 = .ok (.invokestatic 286, 3) := dk_184 1 30 (dk_at dksX0_done_0 1 rfl rfl)
theorem dX0_done_4 : decode cX0_done 4 = .ok (.ifCond .eq 22, 3) := dk_153 0 22 (dk_at dksX0_done_0 4 rfl rfl)
theorem dX0_done_7 : decode cX0_done 7 = .ok (.aload_n 0, 1) := dk_42 (dk_at dksX0_done_0 7 rfl rfl)
theorem dX0_done_8 : decode cX0_done 8 = .ok (.invokevirtual 195, 3) := dk_182 0 195 (dk_at dksX0_done_0 8 rfl rfl)
theorem dX0_done_11 : decode cX0_done 11 = .ok (.iload_n 1, 1) := dk_27 (dk_at dksX0_done_0 11 rfl rfl)
theorem dX0_done_12 : decode cX0_done 12 = .ok (.invokevirtual 289, 3) := dk_182 1 33 (dk_at dksX0_done_0 12 rfl rfl)
theorem dX0_done_15 : decode cX0_done 15 = .ok (.ifCond .eq 7, 3) := dk_153 0 7 (dk_at dksX0_done_0 15 rfl rfl)
theorem dX0_done_18 : decode cX0_done 18 = .ok (.iconst 1, 1) := dk_4 (dk_at dksX0_done_0 18 rfl rfl)
theorem dX0_done_19 : decode cX0_done 19 = .ok (.goto 9, 3) := dk_167 0 9 (dk_at dksX0_done_0 19 rfl rfl)
theorem dX0_done_22 : decode cX0_done 22 = .ok (.iconst 0, 1) := dk_3 (dk_at dksX0_done_0 22 rfl rfl)
theorem dX0_done_23 : decode cX0_done 23 = .ok (.goto 5, 3) := dk_167 0 5 (dk_at dksX0_done_1 0 rfl rfl)
theorem dX0_done_26 : decode cX0_done 26 = .ok (.bipush (-2), 2) := dk_16 254 (dk_at dksX0_done_1 3 rfl rfl)
theorem dX0_done_28 : decode cX0_done 28 = .ok (.ireturn, 1) := dk_172 (dk_at dksX0_done_1 5 rfl rfl)
abbrev cX0_isWho : ByteArray := prog_1_method_12_code
def yX0_isWho : MethodName := ⟨RX0, "isWho", "(I)Z"⟩
def dkwX0_isWho_0 : List UInt8 := [26, 133, 20, 0, 166, 10, 184, 0, 106, 172]
abbrev dktX0_isWho_0 : List UInt8 := dkwX0_isWho_0 ++ []
theorem dksX0_isWho_0 : cX0_isWho.data.toList.drop 0 = dktX0_isWho_0 := by decide +kernel
theorem dX0_isWho_0 : decode cX0_isWho 0 = .ok (.iload_n 0, 1) := dk_26 (dk_at dksX0_isWho_0 0 rfl rfl)
theorem dX0_isWho_1 : decode cX0_isWho 1 = .ok (.i2l, 1) := dk_133 (dk_at dksX0_isWho_0 1 rfl rfl)
theorem dX0_isWho_2 : decode cX0_isWho 2 = .ok (.ldc2_w 166, 3) := dk_20 0 166 (dk_at dksX0_isWho_0 2 rfl rfl)
theorem dX0_isWho_5 : decode cX0_isWho 5 = .ok (.lconst 1, 1) := dk_10 (dk_at dksX0_isWho_0 5 rfl rfl)
theorem dX0_isWho_6 : decode cX0_isWho 6 = .ok (.invokestatic 106, 3) := dk_184 0 106 (dk_at dksX0_isWho_0 6 rfl rfl)
theorem dX0_isWho_9 : decode cX0_isWho 9 = .ok (.ireturn, 1) := dk_172 (dk_at dksX0_isWho_0 9 rfl rfl)
abbrev cX0_right : ByteArray := prog_1_method_31_code
def yX0_right : MethodName := ⟨RX0, "right", "(I)I"⟩
def dkwX0_right_0 : List UInt8 := [27, 184, 1, 30, 153, 0, 14, 42, 182, 0, 195, 27, 182, 1, 36, 167, 0, 5, 16, 254, 172]
abbrev dktX0_right_0 : List UInt8 := dkwX0_right_0 ++ []
theorem dksX0_right_0 : cX0_right.data.toList.drop 0 = dktX0_right_0 := by decide +kernel
theorem dX0_right_0 : decode cX0_right 0 = .ok (.iload_n 1, 1) := dk_27 (dk_at dksX0_right_0 0 rfl rfl)
theorem dX0_right_1 : decode cX0_right 1 = .ok (.invokestatic 286, 3) := dk_184 1 30 (dk_at dksX0_right_0 1 rfl rfl)
theorem dX0_right_4 : decode cX0_right 4 = .ok (.ifCond .eq 14, 3) := dk_153 0 14 (dk_at dksX0_right_0 4 rfl rfl)
theorem dX0_right_7 : decode cX0_right 7 = .ok (.aload_n 0, 1) := dk_42 (dk_at dksX0_right_0 7 rfl rfl)
theorem dX0_right_8 : decode cX0_right 8 = .ok (.invokevirtual 195, 3) := dk_182 0 195 (dk_at dksX0_right_0 8 rfl rfl)
theorem dX0_right_11 : decode cX0_right 11 = .ok (.iload_n 1, 1) := dk_27 (dk_at dksX0_right_0 11 rfl rfl)
theorem dX0_right_12 : decode cX0_right 12 = .ok (.invokevirtual 292, 3) := dk_182 1 36 (dk_at dksX0_right_0 12 rfl rfl)
theorem dX0_right_15 : decode cX0_right 15 = .ok (.goto 5, 3) := dk_167 0 5 (dk_at dksX0_right_0 15 rfl rfl)
theorem dX0_right_18 : decode cX0_right 18 = .ok (.bipush (-2), 2) := dk_16 254 (dk_at dksX0_right_0 18 rfl rfl)
theorem dX0_right_20 : decode cX0_right 20 = .ok (.ireturn, 1) := dk_172 (dk_at dksX0_right_0 20 rfl rfl)
abbrev cX0_judge : ByteArray := prog_1_method_34_code
def yX0_judge : MethodName := ⟨RX0, "judge", "(II)I"⟩
def dkwX0_judge_9 : List UInt8 := [160, 0, 12, 25, 4, 2, 182, 1, 36, 167, 0, 13, 21, 5, 42, 180, 0, 10, 180, 0, 233, 100, 172]
abbrev dktX0_judge_9 : List UInt8 := dkwX0_judge_9 ++ []
def dkwX0_judge_8 : List UInt8 := [160, 0, 7, 2, 167, 0, 42, 21, 6, 167, 0, 37, 28, 4, 160, 0, 8, 21, 7, 167, 0, 27, 28, 5]
abbrev dktX0_judge_8 : List UInt8 := dkwX0_judge_8 ++ dktX0_judge_9
def dkwX0_judge_7 : List UInt8 := [16, 10, 112, 182, 0, 246, 87, 132, 6, 1, 167, 255, 144, 28, 154, 0, 21, 21, 6, 45, 182, 1, 58]
abbrev dktX0_judge_7 : List UInt8 := dkwX0_judge_7 ++ dktX0_judge_8
def dkwX0_judge_6 : List UInt8 := [112, 4, 182, 0, 236, 87, 167, 0, 24, 25, 4, 22, 8, 136, 16, 100, 112, 16, 10, 108, 22, 8, 136]
abbrev dktX0_judge_6 : List UInt8 := dkwX0_judge_6 ++ dktX0_judge_7
def dkwX0_judge_5 : List UInt8 := [132, 5, 1, 167, 0, 51, 21, 10, 154, 0, 25, 25, 4, 22, 8, 136, 16, 10, 108, 22, 8, 136, 16, 10]
abbrev dktX0_judge_5 : List UInt8 := dkwX0_judge_5 ++ dktX0_judge_6
def dkwX0_judge_4 : List UInt8 := [167, 0, 82, 22, 8, 184, 1, 45, 54, 10, 21, 10, 5, 160, 0, 15, 25, 4, 3, 181, 1, 68]
abbrev dktX0_judge_4 : List UInt8 := dkwX0_judge_4 ++ dktX0_judge_5
def dkwX0_judge_3 : List UInt8 := [21, 6, 182, 1, 60, 55, 8, 25, 4, 22, 8, 21, 5, 184, 1, 64, 54, 7, 21, 7, 153, 0, 6]
abbrev dktX0_judge_3 : List UInt8 := dkwX0_judge_3 ++ dktX0_judge_4
def dkwX0_judge_2 : List UInt8 := [180, 0, 10, 180, 0, 233, 54, 5, 3, 54, 6, 3, 54, 7, 21, 6, 45, 182, 1, 58, 162, 0, 109, 45]
abbrev dktX0_judge_2 : List UInt8 := dkwX0_judge_2 ++ dktX0_judge_3
def dkwX0_judge_1 : List UInt8 := [180, 0, 87, 27, 50, 78, 45, 180, 1, 54, 199, 0, 6, 16, 250, 172, 42, 182, 0, 195, 58, 4, 42]
abbrev dktX0_judge_1 : List UInt8 := dkwX0_judge_1 ++ dktX0_judge_2
def dkwX0_judge_0 : List UInt8 := [27, 184, 1, 49, 153, 0, 15, 28, 133, 9, 20, 1, 52, 184, 0, 106, 154, 0, 6, 16, 254, 172, 42]
abbrev dktX0_judge_0 : List UInt8 := dkwX0_judge_0 ++ dktX0_judge_1
theorem dksX0_judge_0 : cX0_judge.data.toList.drop 0 = dktX0_judge_0 := by decide +kernel
theorem dksX0_judge_1 : cX0_judge.data.toList.drop 23 = dktX0_judge_1 := dk_seg dksX0_judge_0 23 rfl rfl
theorem dksX0_judge_2 : cX0_judge.data.toList.drop 46 = dktX0_judge_2 := dk_seg dksX0_judge_1 23 rfl rfl
theorem dksX0_judge_3 : cX0_judge.data.toList.drop 70 = dktX0_judge_3 := dk_seg dksX0_judge_2 24 rfl rfl
theorem dksX0_judge_4 : cX0_judge.data.toList.drop 93 = dktX0_judge_4 := dk_seg dksX0_judge_3 23 rfl rfl
theorem dksX0_judge_5 : cX0_judge.data.toList.drop 115 = dktX0_judge_5 := dk_seg dksX0_judge_4 22 rfl rfl
theorem dksX0_judge_6 : cX0_judge.data.toList.drop 139 = dktX0_judge_6 := dk_seg dksX0_judge_5 24 rfl rfl
theorem dksX0_judge_7 : cX0_judge.data.toList.drop 162 = dktX0_judge_7 := dk_seg dksX0_judge_6 23 rfl rfl
theorem dksX0_judge_8 : cX0_judge.data.toList.drop 185 = dktX0_judge_8 := dk_seg dksX0_judge_7 23 rfl rfl
theorem dksX0_judge_9 : cX0_judge.data.toList.drop 209 = dktX0_judge_9 := dk_seg dksX0_judge_8 24 rfl rfl
theorem dX0_judge_0 : decode cX0_judge 0 = .ok (.iload_n 1, 1) := dk_27 (dk_at dksX0_judge_0 0 rfl rfl)
theorem dX0_judge_1 : decode cX0_judge 1 = .ok (.invokestatic 305, 3) := dk_184 1 49 (dk_at dksX0_judge_0 1 rfl rfl)
theorem dX0_judge_4 : decode cX0_judge 4 = .ok (.ifCond .eq 15, 3) := dk_153 0 15 (dk_at dksX0_judge_0 4 rfl rfl)
theorem dX0_judge_7 : decode cX0_judge 7 = .ok (.iload_n 2, 1) := dk_28 (dk_at dksX0_judge_0 7 rfl rfl)
theorem dX0_judge_8 : decode cX0_judge 8 = .ok (.i2l, 1) := dk_133 (dk_at dksX0_judge_0 8 rfl rfl)
theorem dX0_judge_9 : decode cX0_judge 9 = .ok (.lconst 0, 1) := dk_9 (dk_at dksX0_judge_0 9 rfl rfl)
theorem dX0_judge_10 : decode cX0_judge 10 = .ok (.ldc2_w 308, 3) := dk_20 1 52 (dk_at dksX0_judge_0 10 rfl rfl)
theorem dX0_judge_13 : decode cX0_judge 13 = .ok (.invokestatic 106, 3) := dk_184 0 106 (dk_at dksX0_judge_0 13 rfl rfl)
theorem dX0_judge_16 : decode cX0_judge 16 = .ok (.ifCond .ne 6, 3) := dk_154 0 6 (dk_at dksX0_judge_0 16 rfl rfl)
theorem dX0_judge_19 : decode cX0_judge 19 = .ok (.bipush (-2), 2) := dk_16 254 (dk_at dksX0_judge_0 19 rfl rfl)
theorem dX0_judge_21 : decode cX0_judge 21 = .ok (.ireturn, 1) := dk_172 (dk_at dksX0_judge_0 21 rfl rfl)
theorem dX0_judge_22 : decode cX0_judge 22 = .ok (.aload_n 0, 1) := dk_42 (dk_at dksX0_judge_0 22 rfl rfl)
theorem dX0_judge_23 : decode cX0_judge 23 = .ok (.getfield 87, 3) := dk_180 0 87 (dk_at dksX0_judge_1 0 rfl rfl)
theorem dX0_judge_26 : decode cX0_judge 26 = .ok (.iload_n 1, 1) := dk_27 (dk_at dksX0_judge_1 3 rfl rfl)
theorem dX0_judge_27 : decode cX0_judge 27 = .ok (.aaload, 1) := dk_50 (dk_at dksX0_judge_1 4 rfl rfl)
theorem dX0_judge_28 : decode cX0_judge 28 = .ok (.astore_n 3, 1) := dk_78 (dk_at dksX0_judge_1 5 rfl rfl)
theorem dX0_judge_29 : decode cX0_judge 29 = .ok (.aload_n 3, 1) := dk_45 (dk_at dksX0_judge_1 6 rfl rfl)
theorem dX0_judge_30 : decode cX0_judge 30 = .ok (.getfield 310, 3) := dk_180 1 54 (dk_at dksX0_judge_1 7 rfl rfl)
theorem dX0_judge_33 : decode cX0_judge 33 = .ok (.ifnonnull 6, 3) := dk_199 0 6 (dk_at dksX0_judge_1 10 rfl rfl)
theorem dX0_judge_36 : decode cX0_judge 36 = .ok (.bipush (-6), 2) := dk_16 250 (dk_at dksX0_judge_1 13 rfl rfl)
theorem dX0_judge_38 : decode cX0_judge 38 = .ok (.ireturn, 1) := dk_172 (dk_at dksX0_judge_1 15 rfl rfl)
theorem dX0_judge_39 : decode cX0_judge 39 = .ok (.aload_n 0, 1) := dk_42 (dk_at dksX0_judge_1 16 rfl rfl)
theorem dX0_judge_40 : decode cX0_judge 40 = .ok (.invokevirtual 195, 3) := dk_182 0 195 (dk_at dksX0_judge_1 17 rfl rfl)
theorem dX0_judge_43 : decode cX0_judge 43 = .ok (.astore 4, 2) := dk_58 4 (dk_at dksX0_judge_1 20 rfl rfl)
theorem dX0_judge_45 : decode cX0_judge 45 = .ok (.aload_n 0, 1) := dk_42 (dk_at dksX0_judge_1 22 rfl rfl)
theorem dX0_judge_46 : decode cX0_judge 46 = .ok (.getfield 10, 3) := dk_180 0 10 (dk_at dksX0_judge_2 0 rfl rfl)
theorem dX0_judge_49 : decode cX0_judge 49 = .ok (.getfield 233, 3) := dk_180 0 233 (dk_at dksX0_judge_2 3 rfl rfl)
theorem dX0_judge_52 : decode cX0_judge 52 = .ok (.istore 5, 2) := dk_54 5 (dk_at dksX0_judge_2 6 rfl rfl)
theorem dX0_judge_54 : decode cX0_judge 54 = .ok (.iconst 0, 1) := dk_3 (dk_at dksX0_judge_2 8 rfl rfl)
theorem dX0_judge_55 : decode cX0_judge 55 = .ok (.istore 6, 2) := dk_54 6 (dk_at dksX0_judge_2 9 rfl rfl)
theorem dX0_judge_57 : decode cX0_judge 57 = .ok (.iconst 0, 1) := dk_3 (dk_at dksX0_judge_2 11 rfl rfl)
theorem dX0_judge_58 : decode cX0_judge 58 = .ok (.istore 7, 2) := dk_54 7 (dk_at dksX0_judge_2 12 rfl rfl)
theorem dX0_judge_60 : decode cX0_judge 60 = .ok (.iload 6, 2) := dk_21 6 (dk_at dksX0_judge_2 14 rfl rfl)
theorem dX0_judge_62 : decode cX0_judge 62 = .ok (.aload_n 3, 1) := dk_45 (dk_at dksX0_judge_2 16 rfl rfl)
theorem dX0_judge_63 : decode cX0_judge 63 = .ok (.invokevirtual 314, 3) := dk_182 1 58 (dk_at dksX0_judge_2 17 rfl rfl)
theorem dX0_judge_66 : decode cX0_judge 66 = .ok (.if_icmp .ge 109, 3) := dk_162 0 109 (dk_at dksX0_judge_2 20 rfl rfl)
theorem dX0_judge_69 : decode cX0_judge 69 = .ok (.aload_n 3, 1) := dk_45 (dk_at dksX0_judge_2 23 rfl rfl)
theorem dX0_judge_70 : decode cX0_judge 70 = .ok (.iload 6, 2) := dk_21 6 (dk_at dksX0_judge_3 0 rfl rfl)
theorem dX0_judge_72 : decode cX0_judge 72 = .ok (.invokevirtual 316, 3) := dk_182 1 60 (dk_at dksX0_judge_3 2 rfl rfl)
theorem dX0_judge_75 : decode cX0_judge 75 = .ok (.lstore 8, 2) := dk_55 8 (dk_at dksX0_judge_3 5 rfl rfl)
theorem dX0_judge_77 : decode cX0_judge 77 = .ok (.aload 4, 2) := dk_25 4 (dk_at dksX0_judge_3 7 rfl rfl)
theorem dX0_judge_79 : decode cX0_judge 79 = .ok (.lload 8, 2) := dk_22 8 (dk_at dksX0_judge_3 9 rfl rfl)
theorem dX0_judge_81 : decode cX0_judge 81 = .ok (.iload 5, 2) := dk_21 5 (dk_at dksX0_judge_3 11 rfl rfl)
theorem dX0_judge_83 : decode cX0_judge 83 = .ok (.invokestatic 320, 3) := dk_184 1 64 (dk_at dksX0_judge_3 13 rfl rfl)
theorem dX0_judge_86 : decode cX0_judge 86 = .ok (.istore 7, 2) := dk_54 7 (dk_at dksX0_judge_3 16 rfl rfl)
theorem dX0_judge_88 : decode cX0_judge 88 = .ok (.iload 7, 2) := dk_21 7 (dk_at dksX0_judge_3 18 rfl rfl)
theorem dX0_judge_90 : decode cX0_judge 90 = .ok (.ifCond .eq 6, 3) := dk_153 0 6 (dk_at dksX0_judge_3 20 rfl rfl)
theorem dX0_judge_93 : decode cX0_judge 93 = .ok (.goto 82, 3) := dk_167 0 82 (dk_at dksX0_judge_4 0 rfl rfl)
theorem dX0_judge_96 : decode cX0_judge 96 = .ok (.lload 8, 2) := dk_22 8 (dk_at dksX0_judge_4 3 rfl rfl)
theorem dX0_judge_98 : decode cX0_judge 98 = .ok (.invokestatic 301, 3) := dk_184 1 45 (dk_at dksX0_judge_4 5 rfl rfl)
theorem dX0_judge_101 : decode cX0_judge 101 = .ok (.istore 10, 2) := dk_54 10 (dk_at dksX0_judge_4 8 rfl rfl)
theorem dX0_judge_103 : decode cX0_judge 103 = .ok (.iload 10, 2) := dk_21 10 (dk_at dksX0_judge_4 10 rfl rfl)
theorem dX0_judge_105 : decode cX0_judge 105 = .ok (.iconst 2, 1) := dk_5 (dk_at dksX0_judge_4 12 rfl rfl)
theorem dX0_judge_106 : decode cX0_judge 106 = .ok (.if_icmp .ne 15, 3) := dk_160 0 15 (dk_at dksX0_judge_4 13 rfl rfl)
theorem dX0_judge_109 : decode cX0_judge 109 = .ok (.aload 4, 2) := dk_25 4 (dk_at dksX0_judge_4 16 rfl rfl)
theorem dX0_judge_111 : decode cX0_judge 111 = .ok (.iconst 0, 1) := dk_3 (dk_at dksX0_judge_4 18 rfl rfl)
theorem dX0_judge_112 : decode cX0_judge 112 = .ok (.putfield 324, 3) := dk_181 1 68 (dk_at dksX0_judge_4 19 rfl rfl)
theorem dX0_judge_115 : decode cX0_judge 115 = .ok (.iinc 5 1, 3) := dk_132 5 1 (dk_at dksX0_judge_5 0 rfl rfl)
theorem dX0_judge_118 : decode cX0_judge 118 = .ok (.goto 51, 3) := dk_167 0 51 (dk_at dksX0_judge_5 3 rfl rfl)
theorem dX0_judge_121 : decode cX0_judge 121 = .ok (.iload 10, 2) := dk_21 10 (dk_at dksX0_judge_5 6 rfl rfl)
theorem dX0_judge_123 : decode cX0_judge 123 = .ok (.ifCond .ne 25, 3) := dk_154 0 25 (dk_at dksX0_judge_5 8 rfl rfl)
theorem dX0_judge_126 : decode cX0_judge 126 = .ok (.aload 4, 2) := dk_25 4 (dk_at dksX0_judge_5 11 rfl rfl)
theorem dX0_judge_128 : decode cX0_judge 128 = .ok (.lload 8, 2) := dk_22 8 (dk_at dksX0_judge_5 13 rfl rfl)
theorem dX0_judge_130 : decode cX0_judge 130 = .ok (.l2i, 1) := dk_136 (dk_at dksX0_judge_5 15 rfl rfl)
theorem dX0_judge_131 : decode cX0_judge 131 = .ok (.bipush 10, 2) := dk_16 10 (dk_at dksX0_judge_5 16 rfl rfl)
theorem dX0_judge_133 : decode cX0_judge 133 = .ok (.idiv, 1) := dk_108 (dk_at dksX0_judge_5 18 rfl rfl)
theorem dX0_judge_134 : decode cX0_judge 134 = .ok (.lload 8, 2) := dk_22 8 (dk_at dksX0_judge_5 19 rfl rfl)
theorem dX0_judge_136 : decode cX0_judge 136 = .ok (.l2i, 1) := dk_136 (dk_at dksX0_judge_5 21 rfl rfl)
theorem dX0_judge_137 : decode cX0_judge 137 = .ok (.bipush 10, 2) := dk_16 10 (dk_at dksX0_judge_5 22 rfl rfl)
theorem dX0_judge_139 : decode cX0_judge 139 = .ok (.irem, 1) := dk_112 (dk_at dksX0_judge_6 0 rfl rfl)
theorem dX0_judge_140 : decode cX0_judge 140 = .ok (.iconst 1, 1) := dk_4 (dk_at dksX0_judge_6 1 rfl rfl)
theorem dX0_judge_141 : decode cX0_judge 141 = .ok (.invokevirtual 236, 3) := dk_182 0 236 (dk_at dksX0_judge_6 2 rfl rfl)
theorem dX0_judge_144 : decode cX0_judge 144 = .ok (.pop, 1) := dk_87 (dk_at dksX0_judge_6 5 rfl rfl)
theorem dX0_judge_145 : decode cX0_judge 145 = .ok (.goto 24, 3) := dk_167 0 24 (dk_at dksX0_judge_6 6 rfl rfl)
theorem dX0_judge_148 : decode cX0_judge 148 = .ok (.aload 4, 2) := dk_25 4 (dk_at dksX0_judge_6 9 rfl rfl)
theorem dX0_judge_150 : decode cX0_judge 150 = .ok (.lload 8, 2) := dk_22 8 (dk_at dksX0_judge_6 11 rfl rfl)
theorem dX0_judge_152 : decode cX0_judge 152 = .ok (.l2i, 1) := dk_136 (dk_at dksX0_judge_6 13 rfl rfl)
theorem dX0_judge_153 : decode cX0_judge 153 = .ok (.bipush 100, 2) := dk_16 100 (dk_at dksX0_judge_6 14 rfl rfl)
theorem dX0_judge_155 : decode cX0_judge 155 = .ok (.irem, 1) := dk_112 (dk_at dksX0_judge_6 16 rfl rfl)
theorem dX0_judge_156 : decode cX0_judge 156 = .ok (.bipush 10, 2) := dk_16 10 (dk_at dksX0_judge_6 17 rfl rfl)
theorem dX0_judge_158 : decode cX0_judge 158 = .ok (.idiv, 1) := dk_108 (dk_at dksX0_judge_6 19 rfl rfl)
theorem dX0_judge_159 : decode cX0_judge 159 = .ok (.lload 8, 2) := dk_22 8 (dk_at dksX0_judge_6 20 rfl rfl)
theorem dX0_judge_161 : decode cX0_judge 161 = .ok (.l2i, 1) := dk_136 (dk_at dksX0_judge_6 22 rfl rfl)
theorem dX0_judge_162 : decode cX0_judge 162 = .ok (.bipush 10, 2) := dk_16 10 (dk_at dksX0_judge_7 0 rfl rfl)
theorem dX0_judge_164 : decode cX0_judge 164 = .ok (.irem, 1) := dk_112 (dk_at dksX0_judge_7 2 rfl rfl)
theorem dX0_judge_165 : decode cX0_judge 165 = .ok (.invokevirtual 246, 3) := dk_182 0 246 (dk_at dksX0_judge_7 3 rfl rfl)
theorem dX0_judge_168 : decode cX0_judge 168 = .ok (.pop, 1) := dk_87 (dk_at dksX0_judge_7 6 rfl rfl)
theorem dX0_judge_169 : decode cX0_judge 169 = .ok (.iinc 6 1, 3) := dk_132 6 1 (dk_at dksX0_judge_7 7 rfl rfl)
theorem dX0_judge_172 : decode cX0_judge 172 = .ok (.goto (-112), 3) := dk_167 255 144 (dk_at dksX0_judge_7 10 rfl rfl)
theorem dX0_judge_175 : decode cX0_judge 175 = .ok (.iload_n 2, 1) := dk_28 (dk_at dksX0_judge_7 13 rfl rfl)
theorem dX0_judge_176 : decode cX0_judge 176 = .ok (.ifCond .ne 21, 3) := dk_154 0 21 (dk_at dksX0_judge_7 14 rfl rfl)
theorem dX0_judge_179 : decode cX0_judge 179 = .ok (.iload 6, 2) := dk_21 6 (dk_at dksX0_judge_7 17 rfl rfl)
theorem dX0_judge_181 : decode cX0_judge 181 = .ok (.aload_n 3, 1) := dk_45 (dk_at dksX0_judge_7 19 rfl rfl)
theorem dX0_judge_182 : decode cX0_judge 182 = .ok (.invokevirtual 314, 3) := dk_182 1 58 (dk_at dksX0_judge_7 20 rfl rfl)
theorem dX0_judge_185 : decode cX0_judge 185 = .ok (.if_icmp .ne 7, 3) := dk_160 0 7 (dk_at dksX0_judge_8 0 rfl rfl)
theorem dX0_judge_188 : decode cX0_judge 188 = .ok (.iconst (-1), 1) := dk_2 (dk_at dksX0_judge_8 3 rfl rfl)
theorem dX0_judge_189 : decode cX0_judge 189 = .ok (.goto 42, 3) := dk_167 0 42 (dk_at dksX0_judge_8 4 rfl rfl)
theorem dX0_judge_192 : decode cX0_judge 192 = .ok (.iload 6, 2) := dk_21 6 (dk_at dksX0_judge_8 7 rfl rfl)
theorem dX0_judge_194 : decode cX0_judge 194 = .ok (.goto 37, 3) := dk_167 0 37 (dk_at dksX0_judge_8 9 rfl rfl)
theorem dX0_judge_197 : decode cX0_judge 197 = .ok (.iload_n 2, 1) := dk_28 (dk_at dksX0_judge_8 12 rfl rfl)
theorem dX0_judge_198 : decode cX0_judge 198 = .ok (.iconst 1, 1) := dk_4 (dk_at dksX0_judge_8 13 rfl rfl)
theorem dX0_judge_199 : decode cX0_judge 199 = .ok (.if_icmp .ne 8, 3) := dk_160 0 8 (dk_at dksX0_judge_8 14 rfl rfl)
theorem dX0_judge_202 : decode cX0_judge 202 = .ok (.iload 7, 2) := dk_21 7 (dk_at dksX0_judge_8 17 rfl rfl)
theorem dX0_judge_204 : decode cX0_judge 204 = .ok (.goto 27, 3) := dk_167 0 27 (dk_at dksX0_judge_8 19 rfl rfl)
theorem dX0_judge_207 : decode cX0_judge 207 = .ok (.iload_n 2, 1) := dk_28 (dk_at dksX0_judge_8 22 rfl rfl)
theorem dX0_judge_208 : decode cX0_judge 208 = .ok (.iconst 2, 1) := dk_5 (dk_at dksX0_judge_8 23 rfl rfl)
theorem dX0_judge_209 : decode cX0_judge 209 = .ok (.if_icmp .ne 12, 3) := dk_160 0 12 (dk_at dksX0_judge_9 0 rfl rfl)
theorem dX0_judge_212 : decode cX0_judge 212 = .ok (.aload 4, 2) := dk_25 4 (dk_at dksX0_judge_9 3 rfl rfl)
theorem dX0_judge_214 : decode cX0_judge 214 = .ok (.iconst (-1), 1) := dk_2 (dk_at dksX0_judge_9 5 rfl rfl)
theorem dX0_judge_215 : decode cX0_judge 215 = .ok (.invokevirtual 292, 3) := dk_182 1 36 (dk_at dksX0_judge_9 6 rfl rfl)
theorem dX0_judge_218 : decode cX0_judge 218 = .ok (.goto 13, 3) := dk_167 0 13 (dk_at dksX0_judge_9 9 rfl rfl)
theorem dX0_judge_221 : decode cX0_judge 221 = .ok (.iload 5, 2) := dk_21 5 (dk_at dksX0_judge_9 12 rfl rfl)
theorem dX0_judge_223 : decode cX0_judge 223 = .ok (.aload_n 0, 1) := dk_42 (dk_at dksX0_judge_9 14 rfl rfl)
theorem dX0_judge_224 : decode cX0_judge 224 = .ok (.getfield 10, 3) := dk_180 0 10 (dk_at dksX0_judge_9 15 rfl rfl)
theorem dX0_judge_227 : decode cX0_judge 227 = .ok (.getfield 233, 3) := dk_180 0 233 (dk_at dksX0_judge_9 18 rfl rfl)
theorem dX0_judge_230 : decode cX0_judge 230 = .ok (.isub, 1) := dk_100 (dk_at dksX0_judge_9 21 rfl rfl)
theorem dX0_judge_231 : decode cX0_judge 231 = .ok (.ireturn, 1) := dk_172 (dk_at dksX0_judge_9 22 rfl rfl)
abbrev cX0_isNumbers : ByteArray := prog_1_method_71_code
def yX0_isNumbers : MethodName := ⟨RX0, "isNumbers", "(I)Z"⟩
def dkwX0_isNumbers_0 : List UInt8 := [26, 133, 9, 20, 1, 52, 184, 0, 106, 172]
abbrev dktX0_isNumbers_0 : List UInt8 := dkwX0_isNumbers_0 ++ []
theorem dksX0_isNumbers_0 : cX0_isNumbers.data.toList.drop 0 = dktX0_isNumbers_0 := by decide +kernel
theorem dX0_isNumbers_0 : decode cX0_isNumbers 0 = .ok (.iload_n 0, 1) := dk_26 (dk_at dksX0_isNumbers_0 0 rfl rfl)
theorem dX0_isNumbers_1 : decode cX0_isNumbers 1 = .ok (.i2l, 1) := dk_133 (dk_at dksX0_isNumbers_0 1 rfl rfl)
theorem dX0_isNumbers_2 : decode cX0_isNumbers 2 = .ok (.lconst 0, 1) := dk_9 (dk_at dksX0_isNumbers_0 2 rfl rfl)
theorem dX0_isNumbers_3 : decode cX0_isNumbers 3 = .ok (.ldc2_w 308, 3) := dk_20 1 52 (dk_at dksX0_isNumbers_0 3 rfl rfl)
theorem dX0_isNumbers_6 : decode cX0_isNumbers 6 = .ok (.invokestatic 106, 3) := dk_184 0 106 (dk_at dksX0_isNumbers_0 6 rfl rfl)
theorem dX0_isNumbers_9 : decode cX0_isNumbers 9 = .ok (.ireturn, 1) := dk_172 (dk_at dksX0_isNumbers_0 9 rfl rfl)
abbrev cX0_whyNot : ByteArray := prog_1_method_33_code
def yX0_whyNot : MethodName := ⟨RX0, "whyNot", "(LStoneYear$Stacks;JI)I"⟩
def dkwX0_whyNot_3 : List UInt8 := [182, 0, 230, 172]
abbrev dktX0_whyNot_3 : List UInt8 := dkwX0_whyNot_3 ++ []
def dkwX0_whyNot_2 : List UInt8 := [54, 6, 21, 4, 154, 0, 14, 42, 21, 5, 21, 6, 182, 0, 227, 167, 0, 11, 42, 21, 5, 21, 6]
abbrev dktX0_whyNot_2 : List UInt8 := dkwX0_whyNot_2 ++ dktX0_whyNot_3
def dkwX0_whyNot_1 : List UInt8 := [172, 21, 4, 2, 160, 0, 5, 4, 172, 31, 136, 16, 100, 112, 16, 10, 108, 54, 5, 31, 136, 16, 10, 112]
abbrev dktX0_whyNot_1 : List UInt8 := dkwX0_whyNot_1 ++ dktX0_whyNot_2
def dkwX0_whyNot_0 : List UInt8 := [31, 184, 1, 45, 54, 4, 21, 4, 5, 160, 0, 16, 29, 17, 3, 231, 160, 0, 7, 4, 167, 0, 4, 3]
abbrev dktX0_whyNot_0 : List UInt8 := dkwX0_whyNot_0 ++ dktX0_whyNot_1
theorem dksX0_whyNot_0 : cX0_whyNot.data.toList.drop 0 = dktX0_whyNot_0 := by decide +kernel
theorem dksX0_whyNot_1 : cX0_whyNot.data.toList.drop 24 = dktX0_whyNot_1 := dk_seg dksX0_whyNot_0 24 rfl rfl
theorem dksX0_whyNot_2 : cX0_whyNot.data.toList.drop 48 = dktX0_whyNot_2 := dk_seg dksX0_whyNot_1 24 rfl rfl
theorem dksX0_whyNot_3 : cX0_whyNot.data.toList.drop 71 = dktX0_whyNot_3 := dk_seg dksX0_whyNot_2 23 rfl rfl
theorem dX0_whyNot_0 : decode cX0_whyNot 0 = .ok (.lload_n 1, 1) := dk_31 (dk_at dksX0_whyNot_0 0 rfl rfl)
theorem dX0_whyNot_1 : decode cX0_whyNot 1 = .ok (.invokestatic 301, 3) := dk_184 1 45 (dk_at dksX0_whyNot_0 1 rfl rfl)
theorem dX0_whyNot_4 : decode cX0_whyNot 4 = .ok (.istore 4, 2) := dk_54 4 (dk_at dksX0_whyNot_0 4 rfl rfl)
theorem dX0_whyNot_6 : decode cX0_whyNot 6 = .ok (.iload 4, 2) := dk_21 4 (dk_at dksX0_whyNot_0 6 rfl rfl)
theorem dX0_whyNot_8 : decode cX0_whyNot 8 = .ok (.iconst 2, 1) := dk_5 (dk_at dksX0_whyNot_0 8 rfl rfl)
theorem dX0_whyNot_9 : decode cX0_whyNot 9 = .ok (.if_icmp .ne 16, 3) := dk_160 0 16 (dk_at dksX0_whyNot_0 9 rfl rfl)
theorem dX0_whyNot_12 : decode cX0_whyNot 12 = .ok (.iload_n 3, 1) := dk_29 (dk_at dksX0_whyNot_0 12 rfl rfl)
theorem dX0_whyNot_13 : decode cX0_whyNot 13 = .ok (.sipush 999, 3) := dk_17 3 231 (dk_at dksX0_whyNot_0 13 rfl rfl)
theorem dX0_whyNot_16 : decode cX0_whyNot 16 = .ok (.if_icmp .ne 7, 3) := dk_160 0 7 (dk_at dksX0_whyNot_0 16 rfl rfl)
theorem dX0_whyNot_19 : decode cX0_whyNot 19 = .ok (.iconst 1, 1) := dk_4 (dk_at dksX0_whyNot_0 19 rfl rfl)
theorem dX0_whyNot_20 : decode cX0_whyNot 20 = .ok (.goto 4, 3) := dk_167 0 4 (dk_at dksX0_whyNot_0 20 rfl rfl)
theorem dX0_whyNot_23 : decode cX0_whyNot 23 = .ok (.iconst 0, 1) := dk_3 (dk_at dksX0_whyNot_0 23 rfl rfl)
theorem dX0_whyNot_24 : decode cX0_whyNot 24 = .ok (.ireturn, 1) := dk_172 (dk_at dksX0_whyNot_1 0 rfl rfl)
theorem dX0_whyNot_25 : decode cX0_whyNot 25 = .ok (.iload 4, 2) := dk_21 4 (dk_at dksX0_whyNot_1 1 rfl rfl)
theorem dX0_whyNot_27 : decode cX0_whyNot 27 = .ok (.iconst (-1), 1) := dk_2 (dk_at dksX0_whyNot_1 3 rfl rfl)
theorem dX0_whyNot_28 : decode cX0_whyNot 28 = .ok (.if_icmp .ne 5, 3) := dk_160 0 5 (dk_at dksX0_whyNot_1 4 rfl rfl)
theorem dX0_whyNot_31 : decode cX0_whyNot 31 = .ok (.iconst 1, 1) := dk_4 (dk_at dksX0_whyNot_1 7 rfl rfl)
theorem dX0_whyNot_32 : decode cX0_whyNot 32 = .ok (.ireturn, 1) := dk_172 (dk_at dksX0_whyNot_1 8 rfl rfl)
theorem dX0_whyNot_33 : decode cX0_whyNot 33 = .ok (.lload_n 1, 1) := dk_31 (dk_at dksX0_whyNot_1 9 rfl rfl)
theorem dX0_whyNot_34 : decode cX0_whyNot 34 = .ok (.l2i, 1) := dk_136 (dk_at dksX0_whyNot_1 10 rfl rfl)
theorem dX0_whyNot_35 : decode cX0_whyNot 35 = .ok (.bipush 100, 2) := dk_16 100 (dk_at dksX0_whyNot_1 11 rfl rfl)
theorem dX0_whyNot_37 : decode cX0_whyNot 37 = .ok (.irem, 1) := dk_112 (dk_at dksX0_whyNot_1 13 rfl rfl)
theorem dX0_whyNot_38 : decode cX0_whyNot 38 = .ok (.bipush 10, 2) := dk_16 10 (dk_at dksX0_whyNot_1 14 rfl rfl)
theorem dX0_whyNot_40 : decode cX0_whyNot 40 = .ok (.idiv, 1) := dk_108 (dk_at dksX0_whyNot_1 16 rfl rfl)
theorem dX0_whyNot_41 : decode cX0_whyNot 41 = .ok (.istore 5, 2) := dk_54 5 (dk_at dksX0_whyNot_1 17 rfl rfl)
theorem dX0_whyNot_43 : decode cX0_whyNot 43 = .ok (.lload_n 1, 1) := dk_31 (dk_at dksX0_whyNot_1 19 rfl rfl)
theorem dX0_whyNot_44 : decode cX0_whyNot 44 = .ok (.l2i, 1) := dk_136 (dk_at dksX0_whyNot_1 20 rfl rfl)
theorem dX0_whyNot_45 : decode cX0_whyNot 45 = .ok (.bipush 10, 2) := dk_16 10 (dk_at dksX0_whyNot_1 21 rfl rfl)
theorem dX0_whyNot_47 : decode cX0_whyNot 47 = .ok (.irem, 1) := dk_112 (dk_at dksX0_whyNot_1 23 rfl rfl)
theorem dX0_whyNot_48 : decode cX0_whyNot 48 = .ok (.istore 6, 2) := dk_54 6 (dk_at dksX0_whyNot_2 0 rfl rfl)
theorem dX0_whyNot_50 : decode cX0_whyNot 50 = .ok (.iload 4, 2) := dk_21 4 (dk_at dksX0_whyNot_2 2 rfl rfl)
theorem dX0_whyNot_52 : decode cX0_whyNot 52 = .ok (.ifCond .ne 14, 3) := dk_154 0 14 (dk_at dksX0_whyNot_2 4 rfl rfl)
theorem dX0_whyNot_55 : decode cX0_whyNot 55 = .ok (.aload_n 0, 1) := dk_42 (dk_at dksX0_whyNot_2 7 rfl rfl)
theorem dX0_whyNot_56 : decode cX0_whyNot 56 = .ok (.iload 5, 2) := dk_21 5 (dk_at dksX0_whyNot_2 8 rfl rfl)
theorem dX0_whyNot_58 : decode cX0_whyNot 58 = .ok (.iload 6, 2) := dk_21 6 (dk_at dksX0_whyNot_2 10 rfl rfl)
theorem dX0_whyNot_60 : decode cX0_whyNot 60 = .ok (.invokevirtual 227, 3) := dk_182 0 227 (dk_at dksX0_whyNot_2 12 rfl rfl)
theorem dX0_whyNot_63 : decode cX0_whyNot 63 = .ok (.goto 11, 3) := dk_167 0 11 (dk_at dksX0_whyNot_2 15 rfl rfl)
theorem dX0_whyNot_66 : decode cX0_whyNot 66 = .ok (.aload_n 0, 1) := dk_42 (dk_at dksX0_whyNot_2 18 rfl rfl)
theorem dX0_whyNot_67 : decode cX0_whyNot 67 = .ok (.iload 5, 2) := dk_21 5 (dk_at dksX0_whyNot_2 19 rfl rfl)
theorem dX0_whyNot_69 : decode cX0_whyNot 69 = .ok (.iload 6, 2) := dk_21 6 (dk_at dksX0_whyNot_2 21 rfl rfl)
theorem dX0_whyNot_71 : decode cX0_whyNot 71 = .ok (.invokevirtual 230, 3) := dk_182 0 230 (dk_at dksX0_whyNot_3 0 rfl rfl)
theorem dX0_whyNot_74 : decode cX0_whyNot 74 = .ok (.ireturn, 1) := dk_172 (dk_at dksX0_whyNot_3 3 rfl rfl)
abbrev cX0_kindOf : ByteArray := prog_1_method_32_code
def yX0_kindOf : MethodName := ⟨RX0, "kindOf", "(J)I"⟩
def dkwX0_kindOf_1 : List UInt8 := [167, 0, 21, 30, 20, 1, 41, 20, 1, 43, 184, 0, 106, 153, 0, 7, 4, 167, 0, 4, 2, 172]
abbrev dktX0_kindOf_1 : List UInt8 := dkwX0_kindOf_1 ++ []
def dkwX0_kindOf_0 : List UInt8 := [30, 20, 0, 166, 148, 154, 0, 7, 5, 167, 0, 36, 30, 9, 20, 1, 39, 184, 0, 106, 153, 0, 7, 3]
abbrev dktX0_kindOf_0 : List UInt8 := dkwX0_kindOf_0 ++ dktX0_kindOf_1
theorem dksX0_kindOf_0 : cX0_kindOf.data.toList.drop 0 = dktX0_kindOf_0 := by decide +kernel
theorem dksX0_kindOf_1 : cX0_kindOf.data.toList.drop 24 = dktX0_kindOf_1 := dk_seg dksX0_kindOf_0 24 rfl rfl
theorem dX0_kindOf_0 : decode cX0_kindOf 0 = .ok (.lload_n 0, 1) := dk_30 (dk_at dksX0_kindOf_0 0 rfl rfl)
theorem dX0_kindOf_1 : decode cX0_kindOf 1 = .ok (.ldc2_w 166, 3) := dk_20 0 166 (dk_at dksX0_kindOf_0 1 rfl rfl)
theorem dX0_kindOf_4 : decode cX0_kindOf 4 = .ok (.lcmp, 1) := dk_148 (dk_at dksX0_kindOf_0 4 rfl rfl)
theorem dX0_kindOf_5 : decode cX0_kindOf 5 = .ok (.ifCond .ne 7, 3) := dk_154 0 7 (dk_at dksX0_kindOf_0 5 rfl rfl)
theorem dX0_kindOf_8 : decode cX0_kindOf 8 = .ok (.iconst 2, 1) := dk_5 (dk_at dksX0_kindOf_0 8 rfl rfl)
theorem dX0_kindOf_9 : decode cX0_kindOf 9 = .ok (.goto 36, 3) := dk_167 0 36 (dk_at dksX0_kindOf_0 9 rfl rfl)
theorem dX0_kindOf_12 : decode cX0_kindOf 12 = .ok (.lload_n 0, 1) := dk_30 (dk_at dksX0_kindOf_0 12 rfl rfl)
theorem dX0_kindOf_13 : decode cX0_kindOf 13 = .ok (.lconst 0, 1) := dk_9 (dk_at dksX0_kindOf_0 13 rfl rfl)
theorem dX0_kindOf_14 : decode cX0_kindOf 14 = .ok (.ldc2_w 295, 3) := dk_20 1 39 (dk_at dksX0_kindOf_0 14 rfl rfl)
theorem dX0_kindOf_17 : decode cX0_kindOf 17 = .ok (.invokestatic 106, 3) := dk_184 0 106 (dk_at dksX0_kindOf_0 17 rfl rfl)
theorem dX0_kindOf_20 : decode cX0_kindOf 20 = .ok (.ifCond .eq 7, 3) := dk_153 0 7 (dk_at dksX0_kindOf_0 20 rfl rfl)
theorem dX0_kindOf_23 : decode cX0_kindOf 23 = .ok (.iconst 0, 1) := dk_3 (dk_at dksX0_kindOf_0 23 rfl rfl)
theorem dX0_kindOf_24 : decode cX0_kindOf 24 = .ok (.goto 21, 3) := dk_167 0 21 (dk_at dksX0_kindOf_1 0 rfl rfl)
theorem dX0_kindOf_27 : decode cX0_kindOf 27 = .ok (.lload_n 0, 1) := dk_30 (dk_at dksX0_kindOf_1 3 rfl rfl)
theorem dX0_kindOf_28 : decode cX0_kindOf 28 = .ok (.ldc2_w 297, 3) := dk_20 1 41 (dk_at dksX0_kindOf_1 4 rfl rfl)
theorem dX0_kindOf_31 : decode cX0_kindOf 31 = .ok (.ldc2_w 299, 3) := dk_20 1 43 (dk_at dksX0_kindOf_1 7 rfl rfl)
theorem dX0_kindOf_34 : decode cX0_kindOf 34 = .ok (.invokestatic 106, 3) := dk_184 0 106 (dk_at dksX0_kindOf_1 10 rfl rfl)
theorem dX0_kindOf_37 : decode cX0_kindOf 37 = .ok (.ifCond .eq 7, 3) := dk_153 0 7 (dk_at dksX0_kindOf_1 13 rfl rfl)
theorem dX0_kindOf_40 : decode cX0_kindOf 40 = .ok (.iconst 1, 1) := dk_4 (dk_at dksX0_kindOf_1 16 rfl rfl)
theorem dX0_kindOf_41 : decode cX0_kindOf 41 = .ok (.goto 4, 3) := dk_167 0 4 (dk_at dksX0_kindOf_1 17 rfl rfl)
theorem dX0_kindOf_44 : decode cX0_kindOf 44 = .ok (.iconst (-1), 1) := dk_2 (dk_at dksX0_kindOf_1 20 rfl rfl)
theorem dX0_kindOf_45 : decode cX0_kindOf 45 = .ok (.ireturn, 1) := dk_172 (dk_at dksX0_kindOf_1 21 rfl rfl)
abbrev cX0_perform : ByteArray := prog_1_method_35_code
def yX0_perform : MethodName := ⟨RX0, "perform", "(I)I"⟩
def dkwX0_perform_6 : List UInt8 := [62, 167, 255, 141, 29, 172]
abbrev dktX0_perform_6 : List UInt8 := dkwX0_perform_6 ++ []
def dkwX0_perform_5 : List UInt8 := [108, 22, 4, 136, 16, 10, 112, 182, 1, 76, 54, 7, 29, 21, 7, 155, 0, 7, 4, 167, 0, 4, 3, 96]
abbrev dktX0_perform_5 : List UInt8 := dkwX0_perform_5 ++ dktX0_perform_6
def dkwX0_perform_4 : List UInt8 := [16, 10, 108, 22, 4, 136, 16, 10, 112, 182, 1, 73, 167, 0, 22, 42, 22, 4, 136, 16, 100, 112, 16, 10]
abbrev dktX0_perform_4 : List UInt8 := dkwX0_perform_4 ++ dktX0_perform_5
def dkwX0_perform_3 : List UInt8 := [54, 6, 21, 6, 5, 160, 0, 10, 42, 182, 1, 71, 167, 0, 46, 21, 6, 154, 0, 22, 42, 22, 4, 136]
abbrev dktX0_perform_3 : List UInt8 := dkwX0_perform_3 ++ dktX0_perform_4
def dkwX0_perform_2 : List UInt8 := [180, 0, 10, 180, 0, 233, 184, 1, 64, 154, 0, 91, 44, 29, 182, 1, 60, 55, 4, 22, 4, 184, 1, 45]
abbrev dktX0_perform_2 : List UInt8 := dkwX0_perform_2 ++ dktX0_perform_3
def dkwX0_perform_1 : List UInt8 := [16, 250, 172, 3, 62, 29, 44, 182, 1, 58, 162, 0, 113, 42, 182, 0, 195, 44, 29, 182, 1, 60, 42]
abbrev dktX0_perform_1 : List UInt8 := dkwX0_perform_1 ++ dktX0_perform_2
def dkwX0_perform_0 : List UInt8 := [27, 184, 1, 49, 154, 0, 6, 16, 254, 172, 42, 180, 0, 87, 27, 50, 77, 44, 180, 1, 54, 199, 0, 6]
abbrev dktX0_perform_0 : List UInt8 := dkwX0_perform_0 ++ dktX0_perform_1
theorem dksX0_perform_0 : cX0_perform.data.toList.drop 0 = dktX0_perform_0 := by decide +kernel
theorem dksX0_perform_1 : cX0_perform.data.toList.drop 24 = dktX0_perform_1 := dk_seg dksX0_perform_0 24 rfl rfl
theorem dksX0_perform_2 : cX0_perform.data.toList.drop 47 = dktX0_perform_2 := dk_seg dksX0_perform_1 23 rfl rfl
theorem dksX0_perform_3 : cX0_perform.data.toList.drop 71 = dktX0_perform_3 := dk_seg dksX0_perform_2 24 rfl rfl
theorem dksX0_perform_4 : cX0_perform.data.toList.drop 95 = dktX0_perform_4 := dk_seg dksX0_perform_3 24 rfl rfl
theorem dksX0_perform_5 : cX0_perform.data.toList.drop 119 = dktX0_perform_5 := dk_seg dksX0_perform_4 24 rfl rfl
theorem dksX0_perform_6 : cX0_perform.data.toList.drop 143 = dktX0_perform_6 := dk_seg dksX0_perform_5 24 rfl rfl
theorem dX0_perform_0 : decode cX0_perform 0 = .ok (.iload_n 1, 1) := dk_27 (dk_at dksX0_perform_0 0 rfl rfl)
theorem dX0_perform_1 : decode cX0_perform 1 = .ok (.invokestatic 305, 3) := dk_184 1 49 (dk_at dksX0_perform_0 1 rfl rfl)
theorem dX0_perform_4 : decode cX0_perform 4 = .ok (.ifCond .ne 6, 3) := dk_154 0 6 (dk_at dksX0_perform_0 4 rfl rfl)
theorem dX0_perform_7 : decode cX0_perform 7 = .ok (.bipush (-2), 2) := dk_16 254 (dk_at dksX0_perform_0 7 rfl rfl)
theorem dX0_perform_9 : decode cX0_perform 9 = .ok (.ireturn, 1) := dk_172 (dk_at dksX0_perform_0 9 rfl rfl)
theorem dX0_perform_10 : decode cX0_perform 10 = .ok (.aload_n 0, 1) := dk_42 (dk_at dksX0_perform_0 10 rfl rfl)
theorem dX0_perform_11 : decode cX0_perform 11 = .ok (.getfield 87, 3) := dk_180 0 87 (dk_at dksX0_perform_0 11 rfl rfl)
theorem dX0_perform_14 : decode cX0_perform 14 = .ok (.iload_n 1, 1) := dk_27 (dk_at dksX0_perform_0 14 rfl rfl)
theorem dX0_perform_15 : decode cX0_perform 15 = .ok (.aaload, 1) := dk_50 (dk_at dksX0_perform_0 15 rfl rfl)
theorem dX0_perform_16 : decode cX0_perform 16 = .ok (.astore_n 2, 1) := dk_77 (dk_at dksX0_perform_0 16 rfl rfl)
theorem dX0_perform_17 : decode cX0_perform 17 = .ok (.aload_n 2, 1) := dk_44 (dk_at dksX0_perform_0 17 rfl rfl)
theorem dX0_perform_18 : decode cX0_perform 18 = .ok (.getfield 310, 3) := dk_180 1 54 (dk_at dksX0_perform_0 18 rfl rfl)
theorem dX0_perform_21 : decode cX0_perform 21 = .ok (.ifnonnull 6, 3) := dk_199 0 6 (dk_at dksX0_perform_0 21 rfl rfl)
theorem dX0_perform_24 : decode cX0_perform 24 = .ok (.bipush (-6), 2) := dk_16 250 (dk_at dksX0_perform_1 0 rfl rfl)
theorem dX0_perform_26 : decode cX0_perform 26 = .ok (.ireturn, 1) := dk_172 (dk_at dksX0_perform_1 2 rfl rfl)
theorem dX0_perform_27 : decode cX0_perform 27 = .ok (.iconst 0, 1) := dk_3 (dk_at dksX0_perform_1 3 rfl rfl)
theorem dX0_perform_28 : decode cX0_perform 28 = .ok (.istore_n 3, 1) := dk_62 (dk_at dksX0_perform_1 4 rfl rfl)
theorem dX0_perform_29 : decode cX0_perform 29 = .ok (.iload_n 3, 1) := dk_29 (dk_at dksX0_perform_1 5 rfl rfl)
theorem dX0_perform_30 : decode cX0_perform 30 = .ok (.aload_n 2, 1) := dk_44 (dk_at dksX0_perform_1 6 rfl rfl)
theorem dX0_perform_31 : decode cX0_perform 31 = .ok (.invokevirtual 314, 3) := dk_182 1 58 (dk_at dksX0_perform_1 7 rfl rfl)
theorem dX0_perform_34 : decode cX0_perform 34 = .ok (.if_icmp .ge 113, 3) := dk_162 0 113 (dk_at dksX0_perform_1 10 rfl rfl)
theorem dX0_perform_37 : decode cX0_perform 37 = .ok (.aload_n 0, 1) := dk_42 (dk_at dksX0_perform_1 13 rfl rfl)
theorem dX0_perform_38 : decode cX0_perform 38 = .ok (.invokevirtual 195, 3) := dk_182 0 195 (dk_at dksX0_perform_1 14 rfl rfl)
theorem dX0_perform_41 : decode cX0_perform 41 = .ok (.aload_n 2, 1) := dk_44 (dk_at dksX0_perform_1 17 rfl rfl)
theorem dX0_perform_42 : decode cX0_perform 42 = .ok (.iload_n 3, 1) := dk_29 (dk_at dksX0_perform_1 18 rfl rfl)
theorem dX0_perform_43 : decode cX0_perform 43 = .ok (.invokevirtual 316, 3) := dk_182 1 60 (dk_at dksX0_perform_1 19 rfl rfl)
theorem dX0_perform_46 : decode cX0_perform 46 = .ok (.aload_n 0, 1) := dk_42 (dk_at dksX0_perform_1 22 rfl rfl)
theorem dX0_perform_47 : decode cX0_perform 47 = .ok (.getfield 10, 3) := dk_180 0 10 (dk_at dksX0_perform_2 0 rfl rfl)
theorem dX0_perform_50 : decode cX0_perform 50 = .ok (.getfield 233, 3) := dk_180 0 233 (dk_at dksX0_perform_2 3 rfl rfl)
theorem dX0_perform_53 : decode cX0_perform 53 = .ok (.invokestatic 320, 3) := dk_184 1 64 (dk_at dksX0_perform_2 6 rfl rfl)
theorem dX0_perform_56 : decode cX0_perform 56 = .ok (.ifCond .ne 91, 3) := dk_154 0 91 (dk_at dksX0_perform_2 9 rfl rfl)
theorem dX0_perform_59 : decode cX0_perform 59 = .ok (.aload_n 2, 1) := dk_44 (dk_at dksX0_perform_2 12 rfl rfl)
theorem dX0_perform_60 : decode cX0_perform 60 = .ok (.iload_n 3, 1) := dk_29 (dk_at dksX0_perform_2 13 rfl rfl)
theorem dX0_perform_61 : decode cX0_perform 61 = .ok (.invokevirtual 316, 3) := dk_182 1 60 (dk_at dksX0_perform_2 14 rfl rfl)
theorem dX0_perform_64 : decode cX0_perform 64 = .ok (.lstore 4, 2) := dk_55 4 (dk_at dksX0_perform_2 17 rfl rfl)
theorem dX0_perform_66 : decode cX0_perform 66 = .ok (.lload 4, 2) := dk_22 4 (dk_at dksX0_perform_2 19 rfl rfl)
theorem dX0_perform_68 : decode cX0_perform 68 = .ok (.invokestatic 301, 3) := dk_184 1 45 (dk_at dksX0_perform_2 21 rfl rfl)
theorem dX0_perform_71 : decode cX0_perform 71 = .ok (.istore 6, 2) := dk_54 6 (dk_at dksX0_perform_3 0 rfl rfl)
theorem dX0_perform_73 : decode cX0_perform 73 = .ok (.iload 6, 2) := dk_21 6 (dk_at dksX0_perform_3 2 rfl rfl)
theorem dX0_perform_75 : decode cX0_perform 75 = .ok (.iconst 2, 1) := dk_5 (dk_at dksX0_perform_3 4 rfl rfl)
theorem dX0_perform_76 : decode cX0_perform 76 = .ok (.if_icmp .ne 10, 3) := dk_160 0 10 (dk_at dksX0_perform_3 5 rfl rfl)
theorem dX0_perform_79 : decode cX0_perform 79 = .ok (.aload_n 0, 1) := dk_42 (dk_at dksX0_perform_3 8 rfl rfl)
theorem dX0_perform_80 : decode cX0_perform 80 = .ok (.invokevirtual 327, 3) := dk_182 1 71 (dk_at dksX0_perform_3 9 rfl rfl)
theorem dX0_perform_83 : decode cX0_perform 83 = .ok (.goto 46, 3) := dk_167 0 46 (dk_at dksX0_perform_3 12 rfl rfl)
theorem dX0_perform_86 : decode cX0_perform 86 = .ok (.iload 6, 2) := dk_21 6 (dk_at dksX0_perform_3 15 rfl rfl)
theorem dX0_perform_88 : decode cX0_perform 88 = .ok (.ifCond .ne 22, 3) := dk_154 0 22 (dk_at dksX0_perform_3 17 rfl rfl)
theorem dX0_perform_91 : decode cX0_perform 91 = .ok (.aload_n 0, 1) := dk_42 (dk_at dksX0_perform_3 20 rfl rfl)
theorem dX0_perform_92 : decode cX0_perform 92 = .ok (.lload 4, 2) := dk_22 4 (dk_at dksX0_perform_3 21 rfl rfl)
theorem dX0_perform_94 : decode cX0_perform 94 = .ok (.l2i, 1) := dk_136 (dk_at dksX0_perform_3 23 rfl rfl)
theorem dX0_perform_95 : decode cX0_perform 95 = .ok (.bipush 10, 2) := dk_16 10 (dk_at dksX0_perform_4 0 rfl rfl)
theorem dX0_perform_97 : decode cX0_perform 97 = .ok (.idiv, 1) := dk_108 (dk_at dksX0_perform_4 2 rfl rfl)
theorem dX0_perform_98 : decode cX0_perform 98 = .ok (.lload 4, 2) := dk_22 4 (dk_at dksX0_perform_4 3 rfl rfl)
theorem dX0_perform_100 : decode cX0_perform 100 = .ok (.l2i, 1) := dk_136 (dk_at dksX0_perform_4 5 rfl rfl)
theorem dX0_perform_101 : decode cX0_perform 101 = .ok (.bipush 10, 2) := dk_16 10 (dk_at dksX0_perform_4 6 rfl rfl)
theorem dX0_perform_103 : decode cX0_perform 103 = .ok (.irem, 1) := dk_112 (dk_at dksX0_perform_4 8 rfl rfl)
theorem dX0_perform_104 : decode cX0_perform 104 = .ok (.invokevirtual 329, 3) := dk_182 1 73 (dk_at dksX0_perform_4 9 rfl rfl)
theorem dX0_perform_107 : decode cX0_perform 107 = .ok (.goto 22, 3) := dk_167 0 22 (dk_at dksX0_perform_4 12 rfl rfl)
theorem dX0_perform_110 : decode cX0_perform 110 = .ok (.aload_n 0, 1) := dk_42 (dk_at dksX0_perform_4 15 rfl rfl)
theorem dX0_perform_111 : decode cX0_perform 111 = .ok (.lload 4, 2) := dk_22 4 (dk_at dksX0_perform_4 16 rfl rfl)
theorem dX0_perform_113 : decode cX0_perform 113 = .ok (.l2i, 1) := dk_136 (dk_at dksX0_perform_4 18 rfl rfl)
theorem dX0_perform_114 : decode cX0_perform 114 = .ok (.bipush 100, 2) := dk_16 100 (dk_at dksX0_perform_4 19 rfl rfl)
theorem dX0_perform_116 : decode cX0_perform 116 = .ok (.irem, 1) := dk_112 (dk_at dksX0_perform_4 21 rfl rfl)
theorem dX0_perform_117 : decode cX0_perform 117 = .ok (.bipush 10, 2) := dk_16 10 (dk_at dksX0_perform_4 22 rfl rfl)
theorem dX0_perform_119 : decode cX0_perform 119 = .ok (.idiv, 1) := dk_108 (dk_at dksX0_perform_5 0 rfl rfl)
theorem dX0_perform_120 : decode cX0_perform 120 = .ok (.lload 4, 2) := dk_22 4 (dk_at dksX0_perform_5 1 rfl rfl)
theorem dX0_perform_122 : decode cX0_perform 122 = .ok (.l2i, 1) := dk_136 (dk_at dksX0_perform_5 3 rfl rfl)
theorem dX0_perform_123 : decode cX0_perform 123 = .ok (.bipush 10, 2) := dk_16 10 (dk_at dksX0_perform_5 4 rfl rfl)
theorem dX0_perform_125 : decode cX0_perform 125 = .ok (.irem, 1) := dk_112 (dk_at dksX0_perform_5 6 rfl rfl)
theorem dX0_perform_126 : decode cX0_perform 126 = .ok (.invokevirtual 332, 3) := dk_182 1 76 (dk_at dksX0_perform_5 7 rfl rfl)
theorem dX0_perform_129 : decode cX0_perform 129 = .ok (.istore 7, 2) := dk_54 7 (dk_at dksX0_perform_5 10 rfl rfl)
theorem dX0_perform_131 : decode cX0_perform 131 = .ok (.iload_n 3, 1) := dk_29 (dk_at dksX0_perform_5 12 rfl rfl)
theorem dX0_perform_132 : decode cX0_perform 132 = .ok (.iload 7, 2) := dk_21 7 (dk_at dksX0_perform_5 13 rfl rfl)
theorem dX0_perform_134 : decode cX0_perform 134 = .ok (.ifCond .lt 7, 3) := dk_155 0 7 (dk_at dksX0_perform_5 15 rfl rfl)
theorem dX0_perform_137 : decode cX0_perform 137 = .ok (.iconst 1, 1) := dk_4 (dk_at dksX0_perform_5 18 rfl rfl)
theorem dX0_perform_138 : decode cX0_perform 138 = .ok (.goto 4, 3) := dk_167 0 4 (dk_at dksX0_perform_5 19 rfl rfl)
theorem dX0_perform_141 : decode cX0_perform 141 = .ok (.iconst 0, 1) := dk_3 (dk_at dksX0_perform_5 22 rfl rfl)
theorem dX0_perform_142 : decode cX0_perform 142 = .ok (.iadd, 1) := dk_96 (dk_at dksX0_perform_5 23 rfl rfl)
theorem dX0_perform_143 : decode cX0_perform 143 = .ok (.istore_n 3, 1) := dk_62 (dk_at dksX0_perform_6 0 rfl rfl)
theorem dX0_perform_144 : decode cX0_perform 144 = .ok (.goto (-115), 3) := dk_167 255 141 (dk_at dksX0_perform_6 1 rfl rfl)
theorem dX0_perform_147 : decode cX0_perform 147 = .ok (.iload_n 3, 1) := dk_29 (dk_at dksX0_perform_6 4 rfl rfl)
theorem dX0_perform_148 : decode cX0_perform 148 = .ok (.ireturn, 1) := dk_172 (dk_at dksX0_perform_6 5 rfl rfl)
abbrev cX0_match : ByteArray := prog_1_method_36_code
def yX0_match : MethodName := ⟨RX0, "match", "(I)I"⟩
def dkwX0_match_2 : List UInt8 := [172]
abbrev dktX0_match_2 : List UInt8 := dkwX0_match_2 ++ []
def dkwX0_match_1 : List UInt8 := [27, 2, 160, 0, 13, 42, 180, 0, 50, 180, 1, 83, 167, 0, 12, 42, 180, 0, 50, 180, 1, 86, 27, 46]
abbrev dktX0_match_1 : List UInt8 := dkwX0_match_1 ++ dktX0_match_2
def dkwX0_match_0 : List UInt8 := [27, 2, 159, 0, 14, 42, 27, 182, 0, 158, 154, 0, 6, 16, 254, 172, 42, 180, 0, 50, 182, 1, 79, 87]
abbrev dktX0_match_0 : List UInt8 := dkwX0_match_0 ++ dktX0_match_1
theorem dksX0_match_0 : cX0_match.data.toList.drop 0 = dktX0_match_0 := by decide +kernel
theorem dksX0_match_1 : cX0_match.data.toList.drop 24 = dktX0_match_1 := dk_seg dksX0_match_0 24 rfl rfl
theorem dksX0_match_2 : cX0_match.data.toList.drop 48 = dktX0_match_2 := dk_seg dksX0_match_1 24 rfl rfl
theorem dX0_match_0 : decode cX0_match 0 = .ok (.iload_n 1, 1) := dk_27 (dk_at dksX0_match_0 0 rfl rfl)
theorem dX0_match_1 : decode cX0_match 1 = .ok (.iconst (-1), 1) := dk_2 (dk_at dksX0_match_0 1 rfl rfl)
theorem dX0_match_2 : decode cX0_match 2 = .ok (.if_icmp .eq 14, 3) := dk_159 0 14 (dk_at dksX0_match_0 2 rfl rfl)
theorem dX0_match_5 : decode cX0_match 5 = .ok (.aload_n 0, 1) := dk_42 (dk_at dksX0_match_0 5 rfl rfl)
theorem dX0_match_6 : decode cX0_match 6 = .ok (.iload_n 1, 1) := dk_27 (dk_at dksX0_match_0 6 rfl rfl)
theorem dX0_match_7 : decode cX0_match 7 = .ok (.invokevirtual 158, 3) := dk_182 0 158 (dk_at dksX0_match_0 7 rfl rfl)
theorem dX0_match_10 : decode cX0_match 10 = .ok (.ifCond .ne 6, 3) := dk_154 0 6 (dk_at dksX0_match_0 10 rfl rfl)
theorem dX0_match_13 : decode cX0_match 13 = .ok (.bipush (-2), 2) := dk_16 254 (dk_at dksX0_match_0 13 rfl rfl)
theorem dX0_match_15 : decode cX0_match 15 = .ok (.ireturn, 1) := dk_172 (dk_at dksX0_match_0 15 rfl rfl)
theorem dX0_match_16 : decode cX0_match 16 = .ok (.aload_n 0, 1) := dk_42 (dk_at dksX0_match_0 16 rfl rfl)
theorem dX0_match_17 : decode cX0_match 17 = .ok (.getfield 50, 3) := dk_180 0 50 (dk_at dksX0_match_0 17 rfl rfl)
theorem dX0_match_20 : decode cX0_match 20 = .ok (.invokevirtual 335, 3) := dk_182 1 79 (dk_at dksX0_match_0 20 rfl rfl)
theorem dX0_match_23 : decode cX0_match 23 = .ok (.pop, 1) := dk_87 (dk_at dksX0_match_0 23 rfl rfl)
theorem dX0_match_24 : decode cX0_match 24 = .ok (.iload_n 1, 1) := dk_27 (dk_at dksX0_match_1 0 rfl rfl)
theorem dX0_match_25 : decode cX0_match 25 = .ok (.iconst (-1), 1) := dk_2 (dk_at dksX0_match_1 1 rfl rfl)
theorem dX0_match_26 : decode cX0_match 26 = .ok (.if_icmp .ne 13, 3) := dk_160 0 13 (dk_at dksX0_match_1 2 rfl rfl)
theorem dX0_match_29 : decode cX0_match 29 = .ok (.aload_n 0, 1) := dk_42 (dk_at dksX0_match_1 5 rfl rfl)
theorem dX0_match_30 : decode cX0_match 30 = .ok (.getfield 50, 3) := dk_180 0 50 (dk_at dksX0_match_1 6 rfl rfl)
theorem dX0_match_33 : decode cX0_match 33 = .ok (.getfield 339, 3) := dk_180 1 83 (dk_at dksX0_match_1 9 rfl rfl)
theorem dX0_match_36 : decode cX0_match 36 = .ok (.goto 12, 3) := dk_167 0 12 (dk_at dksX0_match_1 12 rfl rfl)
theorem dX0_match_39 : decode cX0_match 39 = .ok (.aload_n 0, 1) := dk_42 (dk_at dksX0_match_1 15 rfl rfl)
theorem dX0_match_40 : decode cX0_match 40 = .ok (.getfield 50, 3) := dk_180 0 50 (dk_at dksX0_match_1 16 rfl rfl)
theorem dX0_match_43 : decode cX0_match 43 = .ok (.getfield 342, 3) := dk_180 1 86 (dk_at dksX0_match_1 19 rfl rfl)
theorem dX0_match_46 : decode cX0_match 46 = .ok (.iload_n 1, 1) := dk_27 (dk_at dksX0_match_1 22 rfl rfl)
theorem dX0_match_47 : decode cX0_match 47 = .ok (.iaload, 1) := dk_46 (dk_at dksX0_match_1 23 rfl rfl)
theorem dX0_match_48 : decode cX0_match 48 = .ok (.ireturn, 1) := dk_172 (dk_at dksX0_match_2 0 rfl rfl)
abbrev cX0_once : ByteArray := prog_1_method_38_code
def yX0_once : MethodName := ⟨RX0, "once", "(I)I"⟩
def dkwX0_once_5 : List UInt8 := [180, 0, 54, 27, 46, 167, 0, 4, 2, 172]
abbrev dktX0_once_5 : List UInt8 := dkwX0_once_5 ++ []
def dkwX0_once_4 : List UInt8 := [180, 1, 110, 167, 0, 29, 27, 133, 9, 42, 180, 1, 110, 4, 100, 133, 184, 0, 106, 153, 0, 12, 42]
abbrev dktX0_once_4 : List UInt8 := dkwX0_once_4 ++ dktX0_once_5
def dkwX0_once_3 : List UInt8 := [184, 1, 105, 181, 1, 110, 42, 28, 3, 3, 182, 1, 93, 154, 0, 5, 2, 172, 27, 2, 160, 0, 10, 42]
abbrev dktX0_once_3 : List UInt8 := dkwX0_once_3 ++ dktX0_once_4
def dkwX0_once_2 : List UInt8 := [180, 0, 10, 180, 0, 91, 42, 180, 0, 10, 180, 0, 147, 184, 0, 255, 182, 0, 151, 87, 42, 28]
abbrev dktX0_once_2 : List UInt8 := dkwX0_once_2 ++ dktX0_once_3
def dkwX0_once_1 : List UInt8 := [29, 3, 84, 132, 3, 1, 167, 255, 239, 42, 180, 0, 44, 2, 181, 1, 102, 42, 180, 0, 44, 42]
abbrev dktX0_once_1 : List UInt8 := dkwX0_once_1 ++ dktX0_once_2
def dkwX0_once_0 : List UInt8 := [42, 180, 0, 50, 182, 1, 79, 182, 1, 100, 61, 3, 62, 29, 17, 1, 0, 162, 0, 16, 42, 180, 0, 58]
abbrev dktX0_once_0 : List UInt8 := dkwX0_once_0 ++ dktX0_once_1
theorem dksX0_once_0 : cX0_once.data.toList.drop 0 = dktX0_once_0 := by decide +kernel
theorem dksX0_once_1 : cX0_once.data.toList.drop 24 = dktX0_once_1 := dk_seg dksX0_once_0 24 rfl rfl
theorem dksX0_once_2 : cX0_once.data.toList.drop 46 = dktX0_once_2 := dk_seg dksX0_once_1 22 rfl rfl
theorem dksX0_once_3 : cX0_once.data.toList.drop 68 = dktX0_once_3 := dk_seg dksX0_once_2 22 rfl rfl
theorem dksX0_once_4 : cX0_once.data.toList.drop 92 = dktX0_once_4 := dk_seg dksX0_once_3 24 rfl rfl
theorem dksX0_once_5 : cX0_once.data.toList.drop 115 = dktX0_once_5 := dk_seg dksX0_once_4 23 rfl rfl
theorem dX0_once_0 : decode cX0_once 0 = .ok (.aload_n 0, 1) := dk_42 (dk_at dksX0_once_0 0 rfl rfl)
theorem dX0_once_1 : decode cX0_once 1 = .ok (.getfield 50, 3) := dk_180 0 50 (dk_at dksX0_once_0 1 rfl rfl)
theorem dX0_once_4 : decode cX0_once 4 = .ok (.invokevirtual 335, 3) := dk_182 1 79 (dk_at dksX0_once_0 4 rfl rfl)
theorem dX0_once_7 : decode cX0_once 7 = .ok (.invokevirtual 356, 3) := dk_182 1 100 (dk_at dksX0_once_0 7 rfl rfl)
theorem dX0_once_10 : decode cX0_once 10 = .ok (.istore_n 2, 1) := dk_61 (dk_at dksX0_once_0 10 rfl rfl)
theorem dX0_once_11 : decode cX0_once 11 = .ok (.iconst 0, 1) := dk_3 (dk_at dksX0_once_0 11 rfl rfl)
theorem dX0_once_12 : decode cX0_once 12 = .ok (.istore_n 3, 1) := dk_62 (dk_at dksX0_once_0 12 rfl rfl)
theorem dX0_once_13 : decode cX0_once 13 = .ok (.iload_n 3, 1) := dk_29 (dk_at dksX0_once_0 13 rfl rfl)
theorem dX0_once_14 : decode cX0_once 14 = .ok (.sipush 256, 3) := dk_17 1 0 (dk_at dksX0_once_0 14 rfl rfl)
theorem dX0_once_17 : decode cX0_once 17 = .ok (.if_icmp .ge 16, 3) := dk_162 0 16 (dk_at dksX0_once_0 17 rfl rfl)
theorem dX0_once_20 : decode cX0_once 20 = .ok (.aload_n 0, 1) := dk_42 (dk_at dksX0_once_0 20 rfl rfl)
theorem dX0_once_21 : decode cX0_once 21 = .ok (.getfield 58, 3) := dk_180 0 58 (dk_at dksX0_once_0 21 rfl rfl)
theorem dX0_once_24 : decode cX0_once 24 = .ok (.iload_n 3, 1) := dk_29 (dk_at dksX0_once_1 0 rfl rfl)
theorem dX0_once_25 : decode cX0_once 25 = .ok (.iconst 0, 1) := dk_3 (dk_at dksX0_once_1 1 rfl rfl)
theorem dX0_once_26 : decode cX0_once 26 = .ok (.bastore, 1) := dk_84 (dk_at dksX0_once_1 2 rfl rfl)
theorem dX0_once_27 : decode cX0_once 27 = .ok (.iinc 3 1, 3) := dk_132 3 1 (dk_at dksX0_once_1 3 rfl rfl)
theorem dX0_once_30 : decode cX0_once 30 = .ok (.goto (-17), 3) := dk_167 255 239 (dk_at dksX0_once_1 6 rfl rfl)
theorem dX0_once_33 : decode cX0_once 33 = .ok (.aload_n 0, 1) := dk_42 (dk_at dksX0_once_1 9 rfl rfl)
theorem dX0_once_34 : decode cX0_once 34 = .ok (.getfield 44, 3) := dk_180 0 44 (dk_at dksX0_once_1 10 rfl rfl)
theorem dX0_once_37 : decode cX0_once 37 = .ok (.iconst (-1), 1) := dk_2 (dk_at dksX0_once_1 13 rfl rfl)
theorem dX0_once_38 : decode cX0_once 38 = .ok (.putfield 358, 3) := dk_181 1 102 (dk_at dksX0_once_1 14 rfl rfl)
theorem dX0_once_41 : decode cX0_once 41 = .ok (.aload_n 0, 1) := dk_42 (dk_at dksX0_once_1 17 rfl rfl)
theorem dX0_once_42 : decode cX0_once 42 = .ok (.getfield 44, 3) := dk_180 0 44 (dk_at dksX0_once_1 18 rfl rfl)
theorem dX0_once_45 : decode cX0_once 45 = .ok (.aload_n 0, 1) := dk_42 (dk_at dksX0_once_1 21 rfl rfl)
theorem dX0_once_46 : decode cX0_once 46 = .ok (.getfield 10, 3) := dk_180 0 10 (dk_at dksX0_once_2 0 rfl rfl)
theorem dX0_once_49 : decode cX0_once 49 = .ok (.getfield 91, 3) := dk_180 0 91 (dk_at dksX0_once_2 3 rfl rfl)
theorem dX0_once_52 : decode cX0_once 52 = .ok (.aload_n 0, 1) := dk_42 (dk_at dksX0_once_2 6 rfl rfl)
theorem dX0_once_53 : decode cX0_once 53 = .ok (.getfield 10, 3) := dk_180 0 10 (dk_at dksX0_once_2 7 rfl rfl)
theorem dX0_once_56 : decode cX0_once 56 = .ok (.getfield 147, 3) := dk_180 0 147 (dk_at dksX0_once_2 10 rfl rfl)
theorem dX0_once_59 : decode cX0_once 59 = .ok (.invokestatic 255, 3) := dk_184 0 255 (dk_at dksX0_once_2 13 rfl rfl)
theorem dX0_once_62 : decode cX0_once 62 = .ok (.invokevirtual 151, 3) := dk_182 0 151 (dk_at dksX0_once_2 16 rfl rfl)
theorem dX0_once_65 : decode cX0_once 65 = .ok (.pop, 1) := dk_87 (dk_at dksX0_once_2 19 rfl rfl)
theorem dX0_once_66 : decode cX0_once 66 = .ok (.aload_n 0, 1) := dk_42 (dk_at dksX0_once_2 20 rfl rfl)
theorem dX0_once_67 : decode cX0_once 67 = .ok (.iload_n 2, 1) := dk_28 (dk_at dksX0_once_2 21 rfl rfl)
theorem dX0_once_68 : decode cX0_once 68 = .ok (.invokestatic 361, 3) := dk_184 1 105 (dk_at dksX0_once_3 0 rfl rfl)
theorem dX0_once_71 : decode cX0_once 71 = .ok (.putfield 366, 3) := dk_181 1 110 (dk_at dksX0_once_3 3 rfl rfl)
theorem dX0_once_74 : decode cX0_once 74 = .ok (.aload_n 0, 1) := dk_42 (dk_at dksX0_once_3 6 rfl rfl)
theorem dX0_once_75 : decode cX0_once 75 = .ok (.iload_n 2, 1) := dk_28 (dk_at dksX0_once_3 7 rfl rfl)
theorem dX0_once_76 : decode cX0_once 76 = .ok (.iconst 0, 1) := dk_3 (dk_at dksX0_once_3 8 rfl rfl)
theorem dX0_once_77 : decode cX0_once 77 = .ok (.iconst 0, 1) := dk_3 (dk_at dksX0_once_3 9 rfl rfl)
theorem dX0_once_78 : decode cX0_once 78 = .ok (.invokevirtual 349, 3) := dk_182 1 93 (dk_at dksX0_once_3 10 rfl rfl)
theorem dX0_once_81 : decode cX0_once 81 = .ok (.ifCond .ne 5, 3) := dk_154 0 5 (dk_at dksX0_once_3 13 rfl rfl)
theorem dX0_once_84 : decode cX0_once 84 = .ok (.iconst (-1), 1) := dk_2 (dk_at dksX0_once_3 16 rfl rfl)
theorem dX0_once_85 : decode cX0_once 85 = .ok (.ireturn, 1) := dk_172 (dk_at dksX0_once_3 17 rfl rfl)
theorem dX0_once_86 : decode cX0_once 86 = .ok (.iload_n 1, 1) := dk_27 (dk_at dksX0_once_3 18 rfl rfl)
theorem dX0_once_87 : decode cX0_once 87 = .ok (.iconst (-1), 1) := dk_2 (dk_at dksX0_once_3 19 rfl rfl)
theorem dX0_once_88 : decode cX0_once 88 = .ok (.if_icmp .ne 10, 3) := dk_160 0 10 (dk_at dksX0_once_3 20 rfl rfl)
theorem dX0_once_91 : decode cX0_once 91 = .ok (.aload_n 0, 1) := dk_42 (dk_at dksX0_once_3 23 rfl rfl)
theorem dX0_once_92 : decode cX0_once 92 = .ok (.getfield 366, 3) := dk_180 1 110 (dk_at dksX0_once_4 0 rfl rfl)
theorem dX0_once_95 : decode cX0_once 95 = .ok (.goto 29, 3) := dk_167 0 29 (dk_at dksX0_once_4 3 rfl rfl)
theorem dX0_once_98 : decode cX0_once 98 = .ok (.iload_n 1, 1) := dk_27 (dk_at dksX0_once_4 6 rfl rfl)
theorem dX0_once_99 : decode cX0_once 99 = .ok (.i2l, 1) := dk_133 (dk_at dksX0_once_4 7 rfl rfl)
theorem dX0_once_100 : decode cX0_once 100 = .ok (.lconst 0, 1) := dk_9 (dk_at dksX0_once_4 8 rfl rfl)
theorem dX0_once_101 : decode cX0_once 101 = .ok (.aload_n 0, 1) := dk_42 (dk_at dksX0_once_4 9 rfl rfl)
theorem dX0_once_102 : decode cX0_once 102 = .ok (.getfield 366, 3) := dk_180 1 110 (dk_at dksX0_once_4 10 rfl rfl)
theorem dX0_once_105 : decode cX0_once 105 = .ok (.iconst 1, 1) := dk_4 (dk_at dksX0_once_4 13 rfl rfl)
theorem dX0_once_106 : decode cX0_once 106 = .ok (.isub, 1) := dk_100 (dk_at dksX0_once_4 14 rfl rfl)
theorem dX0_once_107 : decode cX0_once 107 = .ok (.i2l, 1) := dk_133 (dk_at dksX0_once_4 15 rfl rfl)
theorem dX0_once_108 : decode cX0_once 108 = .ok (.invokestatic 106, 3) := dk_184 0 106 (dk_at dksX0_once_4 16 rfl rfl)
theorem dX0_once_111 : decode cX0_once 111 = .ok (.ifCond .eq 12, 3) := dk_153 0 12 (dk_at dksX0_once_4 19 rfl rfl)
theorem dX0_once_114 : decode cX0_once 114 = .ok (.aload_n 0, 1) := dk_42 (dk_at dksX0_once_4 22 rfl rfl)
theorem dX0_once_115 : decode cX0_once 115 = .ok (.getfield 54, 3) := dk_180 0 54 (dk_at dksX0_once_5 0 rfl rfl)
theorem dX0_once_118 : decode cX0_once 118 = .ok (.iload_n 1, 1) := dk_27 (dk_at dksX0_once_5 3 rfl rfl)
theorem dX0_once_119 : decode cX0_once 119 = .ok (.iaload, 1) := dk_46 (dk_at dksX0_once_5 4 rfl rfl)
theorem dX0_once_120 : decode cX0_once 120 = .ok (.goto 4, 3) := dk_167 0 4 (dk_at dksX0_once_5 5 rfl rfl)
theorem dX0_once_123 : decode cX0_once 123 = .ok (.iconst (-1), 1) := dk_2 (dk_at dksX0_once_5 8 rfl rfl)
theorem dX0_once_124 : decode cX0_once 124 = .ok (.ireturn, 1) := dk_172 (dk_at dksX0_once_5 9 rfl rfl)
abbrev cX0_orders : ByteArray := prog_1_method_37_code
def yX0_orders : MethodName := ⟨RX0, "orders", "(III)Z"⟩
def dkwX0_orders_9 : List UInt8 := [84, 3, 172]
abbrev dktX0_orders_9 : List UInt8 := dkwX0_orders_9 ++ []
def dkwX0_orders_8 : List UInt8 := [180, 0, 44, 21, 5, 21, 6, 21, 7, 182, 1, 96, 132, 4, 1, 167, 255, 77, 42, 180, 0, 58, 28, 4]
abbrev dktX0_orders_8 : List UInt8 := dkwX0_orders_8 ++ dktX0_orders_9
def dkwX0_orders_7 : List UInt8 := [21, 4, 79, 42, 27, 28, 4, 21, 4, 120, 128, 29, 4, 96, 182, 1, 93, 153, 0, 5, 4, 172, 42]
abbrev dktX0_orders_7 : List UInt8 := dkwX0_orders_7 ++ dktX0_orders_8
def dkwX0_orders_6 : List UInt8 := [180, 1, 68, 54, 7, 42, 180, 0, 44, 21, 5, 21, 6, 4, 182, 0, 236, 87, 42, 180, 0, 54, 29]
abbrev dktX0_orders_6 : List UInt8 := dkwX0_orders_6 ++ dktX0_orders_7
def dkwX0_orders_5 : List UInt8 := [42, 180, 0, 50, 180, 1, 86, 21, 4, 46, 6, 112, 159, 0, 6, 167, 0, 65, 42, 180, 0, 44]
abbrev dktX0_orders_5 : List UInt8 := dkwX0_orders_5 ++ dktX0_orders_6
def dkwX0_orders_4 : List UInt8 := [42, 180, 0, 44, 21, 5, 21, 6, 182, 0, 227, 154, 0, 93, 42, 180, 0, 44, 180, 0, 208, 21, 6, 46]
abbrev dktX0_orders_4 : List UInt8 := dkwX0_orders_4 ++ dktX0_orders_5
def dkwX0_orders_3 : List UInt8 := [180, 1, 86, 21, 4, 46, 6, 108, 54, 6, 42, 180, 0, 44, 21, 5, 182, 0, 249, 21, 4, 160, 0, 107]
abbrev dktX0_orders_3 : List UInt8 := dkwX0_orders_3 ++ dktX0_orders_4
def dkwX0_orders_2 : List UInt8 := [167, 0, 151, 42, 180, 0, 10, 180, 0, 147, 21, 4, 184, 0, 162, 6, 108, 54, 5, 42, 180, 0, 50]
abbrev dktX0_orders_2 : List UInt8 := dkwX0_orders_2 ++ dktX0_orders_3
def dkwX0_orders_1 : List UInt8 := [16, 8, 162, 0, 178, 27, 21, 4, 184, 1, 89, 153, 0, 163, 28, 21, 4, 184, 1, 89, 153, 0, 6]
abbrev dktX0_orders_1 : List UInt8 := dkwX0_orders_1 ++ dktX0_orders_2
def dkwX0_orders_0 : List UInt8 := [28, 27, 160, 0, 5, 4, 172, 42, 180, 0, 58, 28, 51, 153, 0, 5, 3, 172, 3, 54, 4, 21, 4]
abbrev dktX0_orders_0 : List UInt8 := dkwX0_orders_0 ++ dktX0_orders_1
theorem dksX0_orders_0 : cX0_orders.data.toList.drop 0 = dktX0_orders_0 := by decide +kernel
theorem dksX0_orders_1 : cX0_orders.data.toList.drop 23 = dktX0_orders_1 := dk_seg dksX0_orders_0 23 rfl rfl
theorem dksX0_orders_2 : cX0_orders.data.toList.drop 46 = dktX0_orders_2 := dk_seg dksX0_orders_1 23 rfl rfl
theorem dksX0_orders_3 : cX0_orders.data.toList.drop 69 = dktX0_orders_3 := dk_seg dksX0_orders_2 23 rfl rfl
theorem dksX0_orders_4 : cX0_orders.data.toList.drop 93 = dktX0_orders_4 := dk_seg dksX0_orders_3 24 rfl rfl
theorem dksX0_orders_5 : cX0_orders.data.toList.drop 117 = dktX0_orders_5 := dk_seg dksX0_orders_4 24 rfl rfl
theorem dksX0_orders_6 : cX0_orders.data.toList.drop 139 = dktX0_orders_6 := dk_seg dksX0_orders_5 22 rfl rfl
theorem dksX0_orders_7 : cX0_orders.data.toList.drop 162 = dktX0_orders_7 := dk_seg dksX0_orders_6 23 rfl rfl
theorem dksX0_orders_8 : cX0_orders.data.toList.drop 185 = dktX0_orders_8 := dk_seg dksX0_orders_7 23 rfl rfl
theorem dksX0_orders_9 : cX0_orders.data.toList.drop 209 = dktX0_orders_9 := dk_seg dksX0_orders_8 24 rfl rfl
theorem dX0_orders_0 : decode cX0_orders 0 = .ok (.iload_n 2, 1) := dk_28 (dk_at dksX0_orders_0 0 rfl rfl)
theorem dX0_orders_1 : decode cX0_orders 1 = .ok (.iload_n 1, 1) := dk_27 (dk_at dksX0_orders_0 1 rfl rfl)
theorem dX0_orders_2 : decode cX0_orders 2 = .ok (.if_icmp .ne 5, 3) := dk_160 0 5 (dk_at dksX0_orders_0 2 rfl rfl)
theorem dX0_orders_5 : decode cX0_orders 5 = .ok (.iconst 1, 1) := dk_4 (dk_at dksX0_orders_0 5 rfl rfl)
theorem dX0_orders_6 : decode cX0_orders 6 = .ok (.ireturn, 1) := dk_172 (dk_at dksX0_orders_0 6 rfl rfl)
theorem dX0_orders_7 : decode cX0_orders 7 = .ok (.aload_n 0, 1) := dk_42 (dk_at dksX0_orders_0 7 rfl rfl)
theorem dX0_orders_8 : decode cX0_orders 8 = .ok (.getfield 58, 3) := dk_180 0 58 (dk_at dksX0_orders_0 8 rfl rfl)
theorem dX0_orders_11 : decode cX0_orders 11 = .ok (.iload_n 2, 1) := dk_28 (dk_at dksX0_orders_0 11 rfl rfl)
theorem dX0_orders_12 : decode cX0_orders 12 = .ok (.baload, 1) := dk_51 (dk_at dksX0_orders_0 12 rfl rfl)
theorem dX0_orders_13 : decode cX0_orders 13 = .ok (.ifCond .eq 5, 3) := dk_153 0 5 (dk_at dksX0_orders_0 13 rfl rfl)
theorem dX0_orders_16 : decode cX0_orders 16 = .ok (.iconst 0, 1) := dk_3 (dk_at dksX0_orders_0 16 rfl rfl)
theorem dX0_orders_17 : decode cX0_orders 17 = .ok (.ireturn, 1) := dk_172 (dk_at dksX0_orders_0 17 rfl rfl)
theorem dX0_orders_18 : decode cX0_orders 18 = .ok (.iconst 0, 1) := dk_3 (dk_at dksX0_orders_0 18 rfl rfl)
theorem dX0_orders_19 : decode cX0_orders 19 = .ok (.istore 4, 2) := dk_54 4 (dk_at dksX0_orders_0 19 rfl rfl)
theorem dX0_orders_21 : decode cX0_orders 21 = .ok (.iload 4, 2) := dk_21 4 (dk_at dksX0_orders_0 21 rfl rfl)
theorem dX0_orders_23 : decode cX0_orders 23 = .ok (.bipush 8, 2) := dk_16 8 (dk_at dksX0_orders_1 0 rfl rfl)
theorem dX0_orders_25 : decode cX0_orders 25 = .ok (.if_icmp .ge 178, 3) := dk_162 0 178 (dk_at dksX0_orders_1 2 rfl rfl)
theorem dX0_orders_28 : decode cX0_orders 28 = .ok (.iload_n 1, 1) := dk_27 (dk_at dksX0_orders_1 5 rfl rfl)
theorem dX0_orders_29 : decode cX0_orders 29 = .ok (.iload 4, 2) := dk_21 4 (dk_at dksX0_orders_1 6 rfl rfl)
theorem dX0_orders_31 : decode cX0_orders 31 = .ok (.invokestatic 345, 3) := dk_184 1 89 (dk_at dksX0_orders_1 8 rfl rfl)
theorem dX0_orders_34 : decode cX0_orders 34 = .ok (.ifCond .eq 163, 3) := dk_153 0 163 (dk_at dksX0_orders_1 11 rfl rfl)
theorem dX0_orders_37 : decode cX0_orders 37 = .ok (.iload_n 2, 1) := dk_28 (dk_at dksX0_orders_1 14 rfl rfl)
theorem dX0_orders_38 : decode cX0_orders 38 = .ok (.iload 4, 2) := dk_21 4 (dk_at dksX0_orders_1 15 rfl rfl)
theorem dX0_orders_40 : decode cX0_orders 40 = .ok (.invokestatic 345, 3) := dk_184 1 89 (dk_at dksX0_orders_1 17 rfl rfl)
theorem dX0_orders_43 : decode cX0_orders 43 = .ok (.ifCond .eq 6, 3) := dk_153 0 6 (dk_at dksX0_orders_1 20 rfl rfl)
theorem dX0_orders_46 : decode cX0_orders 46 = .ok (.goto 151, 3) := dk_167 0 151 (dk_at dksX0_orders_2 0 rfl rfl)
theorem dX0_orders_49 : decode cX0_orders 49 = .ok (.aload_n 0, 1) := dk_42 (dk_at dksX0_orders_2 3 rfl rfl)
theorem dX0_orders_50 : decode cX0_orders 50 = .ok (.getfield 10, 3) := dk_180 0 10 (dk_at dksX0_orders_2 4 rfl rfl)
theorem dX0_orders_53 : decode cX0_orders 53 = .ok (.getfield 147, 3) := dk_180 0 147 (dk_at dksX0_orders_2 7 rfl rfl)
theorem dX0_orders_56 : decode cX0_orders 56 = .ok (.iload 4, 2) := dk_21 4 (dk_at dksX0_orders_2 10 rfl rfl)
theorem dX0_orders_58 : decode cX0_orders 58 = .ok (.invokestatic 162, 3) := dk_184 0 162 (dk_at dksX0_orders_2 12 rfl rfl)
theorem dX0_orders_61 : decode cX0_orders 61 = .ok (.iconst 3, 1) := dk_6 (dk_at dksX0_orders_2 15 rfl rfl)
theorem dX0_orders_62 : decode cX0_orders 62 = .ok (.idiv, 1) := dk_108 (dk_at dksX0_orders_2 16 rfl rfl)
theorem dX0_orders_63 : decode cX0_orders 63 = .ok (.istore 5, 2) := dk_54 5 (dk_at dksX0_orders_2 17 rfl rfl)
theorem dX0_orders_65 : decode cX0_orders 65 = .ok (.aload_n 0, 1) := dk_42 (dk_at dksX0_orders_2 19 rfl rfl)
theorem dX0_orders_66 : decode cX0_orders 66 = .ok (.getfield 50, 3) := dk_180 0 50 (dk_at dksX0_orders_2 20 rfl rfl)
theorem dX0_orders_69 : decode cX0_orders 69 = .ok (.getfield 342, 3) := dk_180 1 86 (dk_at dksX0_orders_3 0 rfl rfl)
theorem dX0_orders_72 : decode cX0_orders 72 = .ok (.iload 4, 2) := dk_21 4 (dk_at dksX0_orders_3 3 rfl rfl)
theorem dX0_orders_74 : decode cX0_orders 74 = .ok (.iaload, 1) := dk_46 (dk_at dksX0_orders_3 5 rfl rfl)
theorem dX0_orders_75 : decode cX0_orders 75 = .ok (.iconst 3, 1) := dk_6 (dk_at dksX0_orders_3 6 rfl rfl)
theorem dX0_orders_76 : decode cX0_orders 76 = .ok (.idiv, 1) := dk_108 (dk_at dksX0_orders_3 7 rfl rfl)
theorem dX0_orders_77 : decode cX0_orders 77 = .ok (.istore 6, 2) := dk_54 6 (dk_at dksX0_orders_3 8 rfl rfl)
theorem dX0_orders_79 : decode cX0_orders 79 = .ok (.aload_n 0, 1) := dk_42 (dk_at dksX0_orders_3 10 rfl rfl)
theorem dX0_orders_80 : decode cX0_orders 80 = .ok (.getfield 44, 3) := dk_180 0 44 (dk_at dksX0_orders_3 11 rfl rfl)
theorem dX0_orders_83 : decode cX0_orders 83 = .ok (.iload 5, 2) := dk_21 5 (dk_at dksX0_orders_3 14 rfl rfl)
theorem dX0_orders_85 : decode cX0_orders 85 = .ok (.invokevirtual 249, 3) := dk_182 0 249 (dk_at dksX0_orders_3 16 rfl rfl)
theorem dX0_orders_88 : decode cX0_orders 88 = .ok (.iload 4, 2) := dk_21 4 (dk_at dksX0_orders_3 19 rfl rfl)
theorem dX0_orders_90 : decode cX0_orders 90 = .ok (.if_icmp .ne 107, 3) := dk_160 0 107 (dk_at dksX0_orders_3 21 rfl rfl)
theorem dX0_orders_93 : decode cX0_orders 93 = .ok (.aload_n 0, 1) := dk_42 (dk_at dksX0_orders_4 0 rfl rfl)
theorem dX0_orders_94 : decode cX0_orders 94 = .ok (.getfield 44, 3) := dk_180 0 44 (dk_at dksX0_orders_4 1 rfl rfl)
theorem dX0_orders_97 : decode cX0_orders 97 = .ok (.iload 5, 2) := dk_21 5 (dk_at dksX0_orders_4 4 rfl rfl)
theorem dX0_orders_99 : decode cX0_orders 99 = .ok (.iload 6, 2) := dk_21 6 (dk_at dksX0_orders_4 6 rfl rfl)
theorem dX0_orders_101 : decode cX0_orders 101 = .ok (.invokevirtual 227, 3) := dk_182 0 227 (dk_at dksX0_orders_4 8 rfl rfl)
theorem dX0_orders_104 : decode cX0_orders 104 = .ok (.ifCond .ne 93, 3) := dk_154 0 93 (dk_at dksX0_orders_4 11 rfl rfl)
theorem dX0_orders_107 : decode cX0_orders 107 = .ok (.aload_n 0, 1) := dk_42 (dk_at dksX0_orders_4 14 rfl rfl)
theorem dX0_orders_108 : decode cX0_orders 108 = .ok (.getfield 44, 3) := dk_180 0 44 (dk_at dksX0_orders_4 15 rfl rfl)
theorem dX0_orders_111 : decode cX0_orders 111 = .ok (.getfield 208, 3) := dk_180 0 208 (dk_at dksX0_orders_4 18 rfl rfl)
theorem dX0_orders_114 : decode cX0_orders 114 = .ok (.iload 6, 2) := dk_21 6 (dk_at dksX0_orders_4 21 rfl rfl)
theorem dX0_orders_116 : decode cX0_orders 116 = .ok (.iaload, 1) := dk_46 (dk_at dksX0_orders_4 23 rfl rfl)
theorem dX0_orders_117 : decode cX0_orders 117 = .ok (.aload_n 0, 1) := dk_42 (dk_at dksX0_orders_5 0 rfl rfl)
theorem dX0_orders_118 : decode cX0_orders 118 = .ok (.getfield 50, 3) := dk_180 0 50 (dk_at dksX0_orders_5 1 rfl rfl)
theorem dX0_orders_121 : decode cX0_orders 121 = .ok (.getfield 342, 3) := dk_180 1 86 (dk_at dksX0_orders_5 4 rfl rfl)
theorem dX0_orders_124 : decode cX0_orders 124 = .ok (.iload 4, 2) := dk_21 4 (dk_at dksX0_orders_5 7 rfl rfl)
theorem dX0_orders_126 : decode cX0_orders 126 = .ok (.iaload, 1) := dk_46 (dk_at dksX0_orders_5 9 rfl rfl)
theorem dX0_orders_127 : decode cX0_orders 127 = .ok (.iconst 3, 1) := dk_6 (dk_at dksX0_orders_5 10 rfl rfl)
theorem dX0_orders_128 : decode cX0_orders 128 = .ok (.irem, 1) := dk_112 (dk_at dksX0_orders_5 11 rfl rfl)
theorem dX0_orders_129 : decode cX0_orders 129 = .ok (.if_icmp .eq 6, 3) := dk_159 0 6 (dk_at dksX0_orders_5 12 rfl rfl)
theorem dX0_orders_132 : decode cX0_orders 132 = .ok (.goto 65, 3) := dk_167 0 65 (dk_at dksX0_orders_5 15 rfl rfl)
theorem dX0_orders_135 : decode cX0_orders 135 = .ok (.aload_n 0, 1) := dk_42 (dk_at dksX0_orders_5 18 rfl rfl)
theorem dX0_orders_136 : decode cX0_orders 136 = .ok (.getfield 44, 3) := dk_180 0 44 (dk_at dksX0_orders_5 19 rfl rfl)
theorem dX0_orders_139 : decode cX0_orders 139 = .ok (.getfield 324, 3) := dk_180 1 68 (dk_at dksX0_orders_6 0 rfl rfl)
theorem dX0_orders_142 : decode cX0_orders 142 = .ok (.istore 7, 2) := dk_54 7 (dk_at dksX0_orders_6 3 rfl rfl)
theorem dX0_orders_144 : decode cX0_orders 144 = .ok (.aload_n 0, 1) := dk_42 (dk_at dksX0_orders_6 5 rfl rfl)
theorem dX0_orders_145 : decode cX0_orders 145 = .ok (.getfield 44, 3) := dk_180 0 44 (dk_at dksX0_orders_6 6 rfl rfl)
theorem dX0_orders_148 : decode cX0_orders 148 = .ok (.iload 5, 2) := dk_21 5 (dk_at dksX0_orders_6 9 rfl rfl)
theorem dX0_orders_150 : decode cX0_orders 150 = .ok (.iload 6, 2) := dk_21 6 (dk_at dksX0_orders_6 11 rfl rfl)
theorem dX0_orders_152 : decode cX0_orders 152 = .ok (.iconst 1, 1) := dk_4 (dk_at dksX0_orders_6 13 rfl rfl)
theorem dX0_orders_153 : decode cX0_orders 153 = .ok (.invokevirtual 236, 3) := dk_182 0 236 (dk_at dksX0_orders_6 14 rfl rfl)
theorem dX0_orders_156 : decode cX0_orders 156 = .ok (.pop, 1) := dk_87 (dk_at dksX0_orders_6 17 rfl rfl)
theorem dX0_orders_157 : decode cX0_orders 157 = .ok (.aload_n 0, 1) := dk_42 (dk_at dksX0_orders_6 18 rfl rfl)
theorem dX0_orders_158 : decode cX0_orders 158 = .ok (.getfield 54, 3) := dk_180 0 54 (dk_at dksX0_orders_6 19 rfl rfl)
theorem dX0_orders_161 : decode cX0_orders 161 = .ok (.iload_n 3, 1) := dk_29 (dk_at dksX0_orders_6 22 rfl rfl)
theorem dX0_orders_162 : decode cX0_orders 162 = .ok (.iload 4, 2) := dk_21 4 (dk_at dksX0_orders_7 0 rfl rfl)
theorem dX0_orders_164 : decode cX0_orders 164 = .ok (.iastore, 1) := dk_79 (dk_at dksX0_orders_7 2 rfl rfl)
theorem dX0_orders_165 : decode cX0_orders 165 = .ok (.aload_n 0, 1) := dk_42 (dk_at dksX0_orders_7 3 rfl rfl)
theorem dX0_orders_166 : decode cX0_orders 166 = .ok (.iload_n 1, 1) := dk_27 (dk_at dksX0_orders_7 4 rfl rfl)
theorem dX0_orders_167 : decode cX0_orders 167 = .ok (.iload_n 2, 1) := dk_28 (dk_at dksX0_orders_7 5 rfl rfl)
theorem dX0_orders_168 : decode cX0_orders 168 = .ok (.iconst 1, 1) := dk_4 (dk_at dksX0_orders_7 6 rfl rfl)
theorem dX0_orders_169 : decode cX0_orders 169 = .ok (.iload 4, 2) := dk_21 4 (dk_at dksX0_orders_7 7 rfl rfl)
theorem dX0_orders_171 : decode cX0_orders 171 = .ok (.ishl, 1) := dk_120 (dk_at dksX0_orders_7 9 rfl rfl)
theorem dX0_orders_172 : decode cX0_orders 172 = .ok (.ior, 1) := dk_128 (dk_at dksX0_orders_7 10 rfl rfl)
theorem dX0_orders_173 : decode cX0_orders 173 = .ok (.iload_n 3, 1) := dk_29 (dk_at dksX0_orders_7 11 rfl rfl)
theorem dX0_orders_174 : decode cX0_orders 174 = .ok (.iconst 1, 1) := dk_4 (dk_at dksX0_orders_7 12 rfl rfl)
theorem dX0_orders_175 : decode cX0_orders 175 = .ok (.iadd, 1) := dk_96 (dk_at dksX0_orders_7 13 rfl rfl)
theorem dX0_orders_176 : decode cX0_orders 176 = .ok (.invokevirtual 349, 3) := dk_182 1 93 (dk_at dksX0_orders_7 14 rfl rfl)
theorem dX0_orders_179 : decode cX0_orders 179 = .ok (.ifCond .eq 5, 3) := dk_153 0 5 (dk_at dksX0_orders_7 17 rfl rfl)
theorem dX0_orders_182 : decode cX0_orders 182 = .ok (.iconst 1, 1) := dk_4 (dk_at dksX0_orders_7 20 rfl rfl)
theorem dX0_orders_183 : decode cX0_orders 183 = .ok (.ireturn, 1) := dk_172 (dk_at dksX0_orders_7 21 rfl rfl)
theorem dX0_orders_184 : decode cX0_orders 184 = .ok (.aload_n 0, 1) := dk_42 (dk_at dksX0_orders_7 22 rfl rfl)
theorem dX0_orders_185 : decode cX0_orders 185 = .ok (.getfield 44, 3) := dk_180 0 44 (dk_at dksX0_orders_8 0 rfl rfl)
theorem dX0_orders_188 : decode cX0_orders 188 = .ok (.iload 5, 2) := dk_21 5 (dk_at dksX0_orders_8 3 rfl rfl)
theorem dX0_orders_190 : decode cX0_orders 190 = .ok (.iload 6, 2) := dk_21 6 (dk_at dksX0_orders_8 5 rfl rfl)
theorem dX0_orders_192 : decode cX0_orders 192 = .ok (.iload 7, 2) := dk_21 7 (dk_at dksX0_orders_8 7 rfl rfl)
theorem dX0_orders_194 : decode cX0_orders 194 = .ok (.invokevirtual 352, 3) := dk_182 1 96 (dk_at dksX0_orders_8 9 rfl rfl)
theorem dX0_orders_197 : decode cX0_orders 197 = .ok (.iinc 4 1, 3) := dk_132 4 1 (dk_at dksX0_orders_8 12 rfl rfl)
theorem dX0_orders_200 : decode cX0_orders 200 = .ok (.goto (-179), 3) := dk_167 255 77 (dk_at dksX0_orders_8 15 rfl rfl)
theorem dX0_orders_203 : decode cX0_orders 203 = .ok (.aload_n 0, 1) := dk_42 (dk_at dksX0_orders_8 18 rfl rfl)
theorem dX0_orders_204 : decode cX0_orders 204 = .ok (.getfield 58, 3) := dk_180 0 58 (dk_at dksX0_orders_8 19 rfl rfl)
theorem dX0_orders_207 : decode cX0_orders 207 = .ok (.iload_n 2, 1) := dk_28 (dk_at dksX0_orders_8 22 rfl rfl)
theorem dX0_orders_208 : decode cX0_orders 208 = .ok (.iconst 1, 1) := dk_4 (dk_at dksX0_orders_8 23 rfl rfl)
theorem dX0_orders_209 : decode cX0_orders 209 = .ok (.bastore, 1) := dk_84 (dk_at dksX0_orders_9 0 rfl rfl)
theorem dX0_orders_210 : decode cX0_orders 210 = .ok (.iconst 0, 1) := dk_3 (dk_at dksX0_orders_9 1 rfl rfl)
theorem dX0_orders_211 : decode cX0_orders 211 = .ok (.ireturn, 1) := dk_172 (dk_at dksX0_orders_9 2 rfl rfl)
abbrev cX0_ahead : ByteArray := prog_1_method_40_code
def yX0_ahead : MethodName := ⟨RX0, "ahead", "(II)I"⟩
def dkwX0_ahead_1 : List UInt8 := [182, 1, 79, 87, 42, 27, 28, 182, 1, 116, 153, 0, 7, 4, 167, 0, 4, 3, 172]
abbrev dktX0_ahead_1 : List UInt8 := dkwX0_ahead_1 ++ []
def dkwX0_ahead_0 : List UInt8 := [42, 27, 182, 0, 158, 153, 0, 11, 42, 28, 182, 0, 158, 154, 0, 6, 16, 254, 172, 42, 180, 0, 50]
abbrev dktX0_ahead_0 : List UInt8 := dkwX0_ahead_0 ++ dktX0_ahead_1
theorem dksX0_ahead_0 : cX0_ahead.data.toList.drop 0 = dktX0_ahead_0 := by decide +kernel
theorem dksX0_ahead_1 : cX0_ahead.data.toList.drop 23 = dktX0_ahead_1 := dk_seg dksX0_ahead_0 23 rfl rfl
theorem dX0_ahead_0 : decode cX0_ahead 0 = .ok (.aload_n 0, 1) := dk_42 (dk_at dksX0_ahead_0 0 rfl rfl)
theorem dX0_ahead_1 : decode cX0_ahead 1 = .ok (.iload_n 1, 1) := dk_27 (dk_at dksX0_ahead_0 1 rfl rfl)
theorem dX0_ahead_2 : decode cX0_ahead 2 = .ok (.invokevirtual 158, 3) := dk_182 0 158 (dk_at dksX0_ahead_0 2 rfl rfl)
theorem dX0_ahead_5 : decode cX0_ahead 5 = .ok (.ifCond .eq 11, 3) := dk_153 0 11 (dk_at dksX0_ahead_0 5 rfl rfl)
theorem dX0_ahead_8 : decode cX0_ahead 8 = .ok (.aload_n 0, 1) := dk_42 (dk_at dksX0_ahead_0 8 rfl rfl)
theorem dX0_ahead_9 : decode cX0_ahead 9 = .ok (.iload_n 2, 1) := dk_28 (dk_at dksX0_ahead_0 9 rfl rfl)
theorem dX0_ahead_10 : decode cX0_ahead 10 = .ok (.invokevirtual 158, 3) := dk_182 0 158 (dk_at dksX0_ahead_0 10 rfl rfl)
theorem dX0_ahead_13 : decode cX0_ahead 13 = .ok (.ifCond .ne 6, 3) := dk_154 0 6 (dk_at dksX0_ahead_0 13 rfl rfl)
theorem dX0_ahead_16 : decode cX0_ahead 16 = .ok (.bipush (-2), 2) := dk_16 254 (dk_at dksX0_ahead_0 16 rfl rfl)
theorem dX0_ahead_18 : decode cX0_ahead 18 = .ok (.ireturn, 1) := dk_172 (dk_at dksX0_ahead_0 18 rfl rfl)
theorem dX0_ahead_19 : decode cX0_ahead 19 = .ok (.aload_n 0, 1) := dk_42 (dk_at dksX0_ahead_0 19 rfl rfl)
theorem dX0_ahead_20 : decode cX0_ahead 20 = .ok (.getfield 50, 3) := dk_180 0 50 (dk_at dksX0_ahead_0 20 rfl rfl)
theorem dX0_ahead_23 : decode cX0_ahead 23 = .ok (.invokevirtual 335, 3) := dk_182 1 79 (dk_at dksX0_ahead_1 0 rfl rfl)
theorem dX0_ahead_26 : decode cX0_ahead 26 = .ok (.pop, 1) := dk_87 (dk_at dksX0_ahead_1 3 rfl rfl)
theorem dX0_ahead_27 : decode cX0_ahead 27 = .ok (.aload_n 0, 1) := dk_42 (dk_at dksX0_ahead_1 4 rfl rfl)
theorem dX0_ahead_28 : decode cX0_ahead 28 = .ok (.iload_n 1, 1) := dk_27 (dk_at dksX0_ahead_1 5 rfl rfl)
theorem dX0_ahead_29 : decode cX0_ahead 29 = .ok (.iload_n 2, 1) := dk_28 (dk_at dksX0_ahead_1 6 rfl rfl)
theorem dX0_ahead_30 : decode cX0_ahead 30 = .ok (.invokevirtual 372, 3) := dk_182 1 116 (dk_at dksX0_ahead_1 7 rfl rfl)
theorem dX0_ahead_33 : decode cX0_ahead 33 = .ok (.ifCond .eq 7, 3) := dk_153 0 7 (dk_at dksX0_ahead_1 10 rfl rfl)
theorem dX0_ahead_36 : decode cX0_ahead 36 = .ok (.iconst 1, 1) := dk_4 (dk_at dksX0_ahead_1 13 rfl rfl)
theorem dX0_ahead_37 : decode cX0_ahead 37 = .ok (.goto 4, 3) := dk_167 0 4 (dk_at dksX0_ahead_1 14 rfl rfl)
theorem dX0_ahead_40 : decode cX0_ahead 40 = .ok (.iconst 0, 1) := dk_3 (dk_at dksX0_ahead_1 17 rfl rfl)
theorem dX0_ahead_41 : decode cX0_ahead 41 = .ok (.ireturn, 1) := dk_172 (dk_at dksX0_ahead_1 18 rfl rfl)
abbrev cX0_isAhead : ByteArray := prog_1_method_39_code
def yX0_isAhead : MethodName := ⟨RX0, "isAhead", "(II)Z"⟩
def dkwX0_isAhead_5 : List UInt8 := [21, 5, 21, 6, 161, 0, 13, 29, 6, 108, 21, 6, 6, 108, 160, 0, 7, 4, 167, 0, 4, 3, 172]
abbrev dktX0_isAhead_5 : List UInt8 := dkwX0_isAhead_5 ++ []
def dkwX0_isAhead_4 : List UInt8 := [21, 4, 6, 108, 160, 0, 9, 29, 21, 4, 163, 0, 31, 21, 5, 6, 108, 21, 6, 6, 108, 160, 0, 10]
abbrev dktX0_isAhead_4 : List UInt8 := dkwX0_isAhead_4 ++ dktX0_isAhead_5
def dkwX0_isAhead_3 : List UInt8 := [27, 28, 160, 0, 19, 29, 6, 108, 21, 5, 6, 108, 160, 0, 7, 4, 167, 0, 4, 3, 172, 29, 6, 108]
abbrev dktX0_isAhead_3 : List UInt8 := dkwX0_isAhead_3 ++ dktX0_isAhead_4
def dkwX0_isAhead_2 : List UInt8 := [54, 4, 42, 180, 0, 50, 180, 1, 86, 27, 46, 54, 5, 42, 180, 0, 50, 180, 1, 86, 28, 46, 54, 6]
abbrev dktX0_isAhead_2 : List UInt8 := dkwX0_isAhead_2 ++ dktX0_isAhead_3
def dkwX0_isAhead_1 : List UInt8 := [42, 180, 0, 10, 180, 0, 147, 27, 184, 0, 162, 62, 42, 180, 0, 10, 180, 0, 147, 28, 184, 0, 162]
abbrev dktX0_isAhead_1 : List UInt8 := dkwX0_isAhead_1 ++ dktX0_isAhead_2
def dkwX0_isAhead_0 : List UInt8 := [42, 180, 0, 50, 27, 182, 1, 113, 153, 0, 14, 42, 180, 0, 50, 28, 182, 1, 113, 154, 0, 5, 3, 172]
abbrev dktX0_isAhead_0 : List UInt8 := dkwX0_isAhead_0 ++ dktX0_isAhead_1
theorem dksX0_isAhead_0 : cX0_isAhead.data.toList.drop 0 = dktX0_isAhead_0 := by decide +kernel
theorem dksX0_isAhead_1 : cX0_isAhead.data.toList.drop 24 = dktX0_isAhead_1 := dk_seg dksX0_isAhead_0 24 rfl rfl
theorem dksX0_isAhead_2 : cX0_isAhead.data.toList.drop 47 = dktX0_isAhead_2 := dk_seg dksX0_isAhead_1 23 rfl rfl
theorem dksX0_isAhead_3 : cX0_isAhead.data.toList.drop 71 = dktX0_isAhead_3 := dk_seg dksX0_isAhead_2 24 rfl rfl
theorem dksX0_isAhead_4 : cX0_isAhead.data.toList.drop 95 = dktX0_isAhead_4 := dk_seg dksX0_isAhead_3 24 rfl rfl
theorem dksX0_isAhead_5 : cX0_isAhead.data.toList.drop 119 = dktX0_isAhead_5 := dk_seg dksX0_isAhead_4 24 rfl rfl
theorem dX0_isAhead_0 : decode cX0_isAhead 0 = .ok (.aload_n 0, 1) := dk_42 (dk_at dksX0_isAhead_0 0 rfl rfl)
theorem dX0_isAhead_1 : decode cX0_isAhead 1 = .ok (.getfield 50, 3) := dk_180 0 50 (dk_at dksX0_isAhead_0 1 rfl rfl)
theorem dX0_isAhead_4 : decode cX0_isAhead 4 = .ok (.iload_n 1, 1) := dk_27 (dk_at dksX0_isAhead_0 4 rfl rfl)
theorem dX0_isAhead_5 : decode cX0_isAhead 5 = .ok (.invokevirtual 369, 3) := dk_182 1 113 (dk_at dksX0_isAhead_0 5 rfl rfl)
theorem dX0_isAhead_8 : decode cX0_isAhead 8 = .ok (.ifCond .eq 14, 3) := dk_153 0 14 (dk_at dksX0_isAhead_0 8 rfl rfl)
theorem dX0_isAhead_11 : decode cX0_isAhead 11 = .ok (.aload_n 0, 1) := dk_42 (dk_at dksX0_isAhead_0 11 rfl rfl)
theorem dX0_isAhead_12 : decode cX0_isAhead 12 = .ok (.getfield 50, 3) := dk_180 0 50 (dk_at dksX0_isAhead_0 12 rfl rfl)
theorem dX0_isAhead_15 : decode cX0_isAhead 15 = .ok (.iload_n 2, 1) := dk_28 (dk_at dksX0_isAhead_0 15 rfl rfl)
theorem dX0_isAhead_16 : decode cX0_isAhead 16 = .ok (.invokevirtual 369, 3) := dk_182 1 113 (dk_at dksX0_isAhead_0 16 rfl rfl)
theorem dX0_isAhead_19 : decode cX0_isAhead 19 = .ok (.ifCond .ne 5, 3) := dk_154 0 5 (dk_at dksX0_isAhead_0 19 rfl rfl)
theorem dX0_isAhead_22 : decode cX0_isAhead 22 = .ok (.iconst 0, 1) := dk_3 (dk_at dksX0_isAhead_0 22 rfl rfl)
theorem dX0_isAhead_23 : decode cX0_isAhead 23 = .ok (.ireturn, 1) := dk_172 (dk_at dksX0_isAhead_0 23 rfl rfl)
theorem dX0_isAhead_24 : decode cX0_isAhead 24 = .ok (.aload_n 0, 1) := dk_42 (dk_at dksX0_isAhead_1 0 rfl rfl)
theorem dX0_isAhead_25 : decode cX0_isAhead 25 = .ok (.getfield 10, 3) := dk_180 0 10 (dk_at dksX0_isAhead_1 1 rfl rfl)
theorem dX0_isAhead_28 : decode cX0_isAhead 28 = .ok (.getfield 147, 3) := dk_180 0 147 (dk_at dksX0_isAhead_1 4 rfl rfl)
theorem dX0_isAhead_31 : decode cX0_isAhead 31 = .ok (.iload_n 1, 1) := dk_27 (dk_at dksX0_isAhead_1 7 rfl rfl)
theorem dX0_isAhead_32 : decode cX0_isAhead 32 = .ok (.invokestatic 162, 3) := dk_184 0 162 (dk_at dksX0_isAhead_1 8 rfl rfl)
theorem dX0_isAhead_35 : decode cX0_isAhead 35 = .ok (.istore_n 3, 1) := dk_62 (dk_at dksX0_isAhead_1 11 rfl rfl)
theorem dX0_isAhead_36 : decode cX0_isAhead 36 = .ok (.aload_n 0, 1) := dk_42 (dk_at dksX0_isAhead_1 12 rfl rfl)
theorem dX0_isAhead_37 : decode cX0_isAhead 37 = .ok (.getfield 10, 3) := dk_180 0 10 (dk_at dksX0_isAhead_1 13 rfl rfl)
theorem dX0_isAhead_40 : decode cX0_isAhead 40 = .ok (.getfield 147, 3) := dk_180 0 147 (dk_at dksX0_isAhead_1 16 rfl rfl)
theorem dX0_isAhead_43 : decode cX0_isAhead 43 = .ok (.iload_n 2, 1) := dk_28 (dk_at dksX0_isAhead_1 19 rfl rfl)
theorem dX0_isAhead_44 : decode cX0_isAhead 44 = .ok (.invokestatic 162, 3) := dk_184 0 162 (dk_at dksX0_isAhead_1 20 rfl rfl)
theorem dX0_isAhead_47 : decode cX0_isAhead 47 = .ok (.istore 4, 2) := dk_54 4 (dk_at dksX0_isAhead_2 0 rfl rfl)
theorem dX0_isAhead_49 : decode cX0_isAhead 49 = .ok (.aload_n 0, 1) := dk_42 (dk_at dksX0_isAhead_2 2 rfl rfl)
theorem dX0_isAhead_50 : decode cX0_isAhead 50 = .ok (.getfield 50, 3) := dk_180 0 50 (dk_at dksX0_isAhead_2 3 rfl rfl)
theorem dX0_isAhead_53 : decode cX0_isAhead 53 = .ok (.getfield 342, 3) := dk_180 1 86 (dk_at dksX0_isAhead_2 6 rfl rfl)
theorem dX0_isAhead_56 : decode cX0_isAhead 56 = .ok (.iload_n 1, 1) := dk_27 (dk_at dksX0_isAhead_2 9 rfl rfl)
theorem dX0_isAhead_57 : decode cX0_isAhead 57 = .ok (.iaload, 1) := dk_46 (dk_at dksX0_isAhead_2 10 rfl rfl)
theorem dX0_isAhead_58 : decode cX0_isAhead 58 = .ok (.istore 5, 2) := dk_54 5 (dk_at dksX0_isAhead_2 11 rfl rfl)
theorem dX0_isAhead_60 : decode cX0_isAhead 60 = .ok (.aload_n 0, 1) := dk_42 (dk_at dksX0_isAhead_2 13 rfl rfl)
theorem dX0_isAhead_61 : decode cX0_isAhead 61 = .ok (.getfield 50, 3) := dk_180 0 50 (dk_at dksX0_isAhead_2 14 rfl rfl)
theorem dX0_isAhead_64 : decode cX0_isAhead 64 = .ok (.getfield 342, 3) := dk_180 1 86 (dk_at dksX0_isAhead_2 17 rfl rfl)
theorem dX0_isAhead_67 : decode cX0_isAhead 67 = .ok (.iload_n 2, 1) := dk_28 (dk_at dksX0_isAhead_2 20 rfl rfl)
theorem dX0_isAhead_68 : decode cX0_isAhead 68 = .ok (.iaload, 1) := dk_46 (dk_at dksX0_isAhead_2 21 rfl rfl)
theorem dX0_isAhead_69 : decode cX0_isAhead 69 = .ok (.istore 6, 2) := dk_54 6 (dk_at dksX0_isAhead_2 22 rfl rfl)
theorem dX0_isAhead_71 : decode cX0_isAhead 71 = .ok (.iload_n 1, 1) := dk_27 (dk_at dksX0_isAhead_3 0 rfl rfl)
theorem dX0_isAhead_72 : decode cX0_isAhead 72 = .ok (.iload_n 2, 1) := dk_28 (dk_at dksX0_isAhead_3 1 rfl rfl)
theorem dX0_isAhead_73 : decode cX0_isAhead 73 = .ok (.if_icmp .ne 19, 3) := dk_160 0 19 (dk_at dksX0_isAhead_3 2 rfl rfl)
theorem dX0_isAhead_76 : decode cX0_isAhead 76 = .ok (.iload_n 3, 1) := dk_29 (dk_at dksX0_isAhead_3 5 rfl rfl)
theorem dX0_isAhead_77 : decode cX0_isAhead 77 = .ok (.iconst 3, 1) := dk_6 (dk_at dksX0_isAhead_3 6 rfl rfl)
theorem dX0_isAhead_78 : decode cX0_isAhead 78 = .ok (.idiv, 1) := dk_108 (dk_at dksX0_isAhead_3 7 rfl rfl)
theorem dX0_isAhead_79 : decode cX0_isAhead 79 = .ok (.iload 5, 2) := dk_21 5 (dk_at dksX0_isAhead_3 8 rfl rfl)
theorem dX0_isAhead_81 : decode cX0_isAhead 81 = .ok (.iconst 3, 1) := dk_6 (dk_at dksX0_isAhead_3 10 rfl rfl)
theorem dX0_isAhead_82 : decode cX0_isAhead 82 = .ok (.idiv, 1) := dk_108 (dk_at dksX0_isAhead_3 11 rfl rfl)
theorem dX0_isAhead_83 : decode cX0_isAhead 83 = .ok (.if_icmp .ne 7, 3) := dk_160 0 7 (dk_at dksX0_isAhead_3 12 rfl rfl)
theorem dX0_isAhead_86 : decode cX0_isAhead 86 = .ok (.iconst 1, 1) := dk_4 (dk_at dksX0_isAhead_3 15 rfl rfl)
theorem dX0_isAhead_87 : decode cX0_isAhead 87 = .ok (.goto 4, 3) := dk_167 0 4 (dk_at dksX0_isAhead_3 16 rfl rfl)
theorem dX0_isAhead_90 : decode cX0_isAhead 90 = .ok (.iconst 0, 1) := dk_3 (dk_at dksX0_isAhead_3 19 rfl rfl)
theorem dX0_isAhead_91 : decode cX0_isAhead 91 = .ok (.ireturn, 1) := dk_172 (dk_at dksX0_isAhead_3 20 rfl rfl)
theorem dX0_isAhead_92 : decode cX0_isAhead 92 = .ok (.iload_n 3, 1) := dk_29 (dk_at dksX0_isAhead_3 21 rfl rfl)
theorem dX0_isAhead_93 : decode cX0_isAhead 93 = .ok (.iconst 3, 1) := dk_6 (dk_at dksX0_isAhead_3 22 rfl rfl)
theorem dX0_isAhead_94 : decode cX0_isAhead 94 = .ok (.idiv, 1) := dk_108 (dk_at dksX0_isAhead_3 23 rfl rfl)
theorem dX0_isAhead_95 : decode cX0_isAhead 95 = .ok (.iload 4, 2) := dk_21 4 (dk_at dksX0_isAhead_4 0 rfl rfl)
theorem dX0_isAhead_97 : decode cX0_isAhead 97 = .ok (.iconst 3, 1) := dk_6 (dk_at dksX0_isAhead_4 2 rfl rfl)
theorem dX0_isAhead_98 : decode cX0_isAhead 98 = .ok (.idiv, 1) := dk_108 (dk_at dksX0_isAhead_4 3 rfl rfl)
theorem dX0_isAhead_99 : decode cX0_isAhead 99 = .ok (.if_icmp .ne 9, 3) := dk_160 0 9 (dk_at dksX0_isAhead_4 4 rfl rfl)
theorem dX0_isAhead_102 : decode cX0_isAhead 102 = .ok (.iload_n 3, 1) := dk_29 (dk_at dksX0_isAhead_4 7 rfl rfl)
theorem dX0_isAhead_103 : decode cX0_isAhead 103 = .ok (.iload 4, 2) := dk_21 4 (dk_at dksX0_isAhead_4 8 rfl rfl)
theorem dX0_isAhead_105 : decode cX0_isAhead 105 = .ok (.if_icmp .gt 31, 3) := dk_163 0 31 (dk_at dksX0_isAhead_4 10 rfl rfl)
theorem dX0_isAhead_108 : decode cX0_isAhead 108 = .ok (.iload 5, 2) := dk_21 5 (dk_at dksX0_isAhead_4 13 rfl rfl)
theorem dX0_isAhead_110 : decode cX0_isAhead 110 = .ok (.iconst 3, 1) := dk_6 (dk_at dksX0_isAhead_4 15 rfl rfl)
theorem dX0_isAhead_111 : decode cX0_isAhead 111 = .ok (.idiv, 1) := dk_108 (dk_at dksX0_isAhead_4 16 rfl rfl)
theorem dX0_isAhead_112 : decode cX0_isAhead 112 = .ok (.iload 6, 2) := dk_21 6 (dk_at dksX0_isAhead_4 17 rfl rfl)
theorem dX0_isAhead_114 : decode cX0_isAhead 114 = .ok (.iconst 3, 1) := dk_6 (dk_at dksX0_isAhead_4 19 rfl rfl)
theorem dX0_isAhead_115 : decode cX0_isAhead 115 = .ok (.idiv, 1) := dk_108 (dk_at dksX0_isAhead_4 20 rfl rfl)
theorem dX0_isAhead_116 : decode cX0_isAhead 116 = .ok (.if_icmp .ne 10, 3) := dk_160 0 10 (dk_at dksX0_isAhead_4 21 rfl rfl)
theorem dX0_isAhead_119 : decode cX0_isAhead 119 = .ok (.iload 5, 2) := dk_21 5 (dk_at dksX0_isAhead_5 0 rfl rfl)
theorem dX0_isAhead_121 : decode cX0_isAhead 121 = .ok (.iload 6, 2) := dk_21 6 (dk_at dksX0_isAhead_5 2 rfl rfl)
theorem dX0_isAhead_123 : decode cX0_isAhead 123 = .ok (.if_icmp .lt 13, 3) := dk_161 0 13 (dk_at dksX0_isAhead_5 4 rfl rfl)
theorem dX0_isAhead_126 : decode cX0_isAhead 126 = .ok (.iload_n 3, 1) := dk_29 (dk_at dksX0_isAhead_5 7 rfl rfl)
theorem dX0_isAhead_127 : decode cX0_isAhead 127 = .ok (.iconst 3, 1) := dk_6 (dk_at dksX0_isAhead_5 8 rfl rfl)
theorem dX0_isAhead_128 : decode cX0_isAhead 128 = .ok (.idiv, 1) := dk_108 (dk_at dksX0_isAhead_5 9 rfl rfl)
theorem dX0_isAhead_129 : decode cX0_isAhead 129 = .ok (.iload 6, 2) := dk_21 6 (dk_at dksX0_isAhead_5 10 rfl rfl)
theorem dX0_isAhead_131 : decode cX0_isAhead 131 = .ok (.iconst 3, 1) := dk_6 (dk_at dksX0_isAhead_5 12 rfl rfl)
theorem dX0_isAhead_132 : decode cX0_isAhead 132 = .ok (.idiv, 1) := dk_108 (dk_at dksX0_isAhead_5 13 rfl rfl)
theorem dX0_isAhead_133 : decode cX0_isAhead 133 = .ok (.if_icmp .ne 7, 3) := dk_160 0 7 (dk_at dksX0_isAhead_5 14 rfl rfl)
theorem dX0_isAhead_136 : decode cX0_isAhead 136 = .ok (.iconst 1, 1) := dk_4 (dk_at dksX0_isAhead_5 17 rfl rfl)
theorem dX0_isAhead_137 : decode cX0_isAhead 137 = .ok (.goto 4, 3) := dk_167 0 4 (dk_at dksX0_isAhead_5 18 rfl rfl)
theorem dX0_isAhead_140 : decode cX0_isAhead 140 = .ok (.iconst 0, 1) := dk_3 (dk_at dksX0_isAhead_5 21 rfl rfl)
theorem dX0_isAhead_141 : decode cX0_isAhead 141 = .ok (.ireturn, 1) := dk_172 (dk_at dksX0_isAhead_5 22 rfl rfl)
abbrev cX0_aside : ByteArray := prog_1_method_42_code
def yX0_aside : MethodName := ⟨RX0, "aside", "(I)I"⟩
def dkwX0_aside_3 : List UInt8 := [21, 4, 62, 132, 4, 1, 167, 255, 208, 27, 154, 0, 10, 29, 184, 1, 105, 167, 0, 4, 29, 172]
abbrev dktX0_aside_3 : List UInt8 := dkwX0_aside_3 ++ []
def dkwX0_aside_2 : List UInt8 := [184, 1, 105, 29, 184, 1, 105, 162, 0, 19, 42, 28, 21, 4, 2, 130, 126, 182, 1, 119, 153, 0, 6]
abbrev dktX0_aside_2 : List UInt8 := dkwX0_aside_2 ++ dktX0_aside_3
def dkwX0_aside_1 : List UInt8 := [28, 62, 3, 54, 4, 21, 4, 17, 1, 0, 162, 0, 46, 21, 4, 28, 2, 130, 126, 154, 0, 31, 21, 4]
abbrev dktX0_aside_1 : List UInt8 := dkwX0_aside_1 ++ dktX0_aside_2
def dkwX0_aside_0 : List UInt8 := [27, 133, 9, 10, 184, 0, 106, 154, 0, 6, 16, 254, 172, 42, 180, 0, 50, 182, 1, 79, 182, 1, 100, 61]
abbrev dktX0_aside_0 : List UInt8 := dkwX0_aside_0 ++ dktX0_aside_1
theorem dksX0_aside_0 : cX0_aside.data.toList.drop 0 = dktX0_aside_0 := by decide +kernel
theorem dksX0_aside_1 : cX0_aside.data.toList.drop 24 = dktX0_aside_1 := dk_seg dksX0_aside_0 24 rfl rfl
theorem dksX0_aside_2 : cX0_aside.data.toList.drop 48 = dktX0_aside_2 := dk_seg dksX0_aside_1 24 rfl rfl
theorem dksX0_aside_3 : cX0_aside.data.toList.drop 71 = dktX0_aside_3 := dk_seg dksX0_aside_2 23 rfl rfl
theorem dX0_aside_0 : decode cX0_aside 0 = .ok (.iload_n 1, 1) := dk_27 (dk_at dksX0_aside_0 0 rfl rfl)
theorem dX0_aside_1 : decode cX0_aside 1 = .ok (.i2l, 1) := dk_133 (dk_at dksX0_aside_0 1 rfl rfl)
theorem dX0_aside_2 : decode cX0_aside 2 = .ok (.lconst 0, 1) := dk_9 (dk_at dksX0_aside_0 2 rfl rfl)
theorem dX0_aside_3 : decode cX0_aside 3 = .ok (.lconst 1, 1) := dk_10 (dk_at dksX0_aside_0 3 rfl rfl)
theorem dX0_aside_4 : decode cX0_aside 4 = .ok (.invokestatic 106, 3) := dk_184 0 106 (dk_at dksX0_aside_0 4 rfl rfl)
theorem dX0_aside_7 : decode cX0_aside 7 = .ok (.ifCond .ne 6, 3) := dk_154 0 6 (dk_at dksX0_aside_0 7 rfl rfl)
theorem dX0_aside_10 : decode cX0_aside 10 = .ok (.bipush (-2), 2) := dk_16 254 (dk_at dksX0_aside_0 10 rfl rfl)
theorem dX0_aside_12 : decode cX0_aside 12 = .ok (.ireturn, 1) := dk_172 (dk_at dksX0_aside_0 12 rfl rfl)
theorem dX0_aside_13 : decode cX0_aside 13 = .ok (.aload_n 0, 1) := dk_42 (dk_at dksX0_aside_0 13 rfl rfl)
theorem dX0_aside_14 : decode cX0_aside 14 = .ok (.getfield 50, 3) := dk_180 0 50 (dk_at dksX0_aside_0 14 rfl rfl)
theorem dX0_aside_17 : decode cX0_aside 17 = .ok (.invokevirtual 335, 3) := dk_182 1 79 (dk_at dksX0_aside_0 17 rfl rfl)
theorem dX0_aside_20 : decode cX0_aside 20 = .ok (.invokevirtual 356, 3) := dk_182 1 100 (dk_at dksX0_aside_0 20 rfl rfl)
theorem dX0_aside_23 : decode cX0_aside 23 = .ok (.istore_n 2, 1) := dk_61 (dk_at dksX0_aside_0 23 rfl rfl)
theorem dX0_aside_24 : decode cX0_aside 24 = .ok (.iload_n 2, 1) := dk_28 (dk_at dksX0_aside_1 0 rfl rfl)
theorem dX0_aside_25 : decode cX0_aside 25 = .ok (.istore_n 3, 1) := dk_62 (dk_at dksX0_aside_1 1 rfl rfl)
theorem dX0_aside_26 : decode cX0_aside 26 = .ok (.iconst 0, 1) := dk_3 (dk_at dksX0_aside_1 2 rfl rfl)
theorem dX0_aside_27 : decode cX0_aside 27 = .ok (.istore 4, 2) := dk_54 4 (dk_at dksX0_aside_1 3 rfl rfl)
theorem dX0_aside_29 : decode cX0_aside 29 = .ok (.iload 4, 2) := dk_21 4 (dk_at dksX0_aside_1 5 rfl rfl)
theorem dX0_aside_31 : decode cX0_aside 31 = .ok (.sipush 256, 3) := dk_17 1 0 (dk_at dksX0_aside_1 7 rfl rfl)
theorem dX0_aside_34 : decode cX0_aside 34 = .ok (.if_icmp .ge 46, 3) := dk_162 0 46 (dk_at dksX0_aside_1 10 rfl rfl)
theorem dX0_aside_37 : decode cX0_aside 37 = .ok (.iload 4, 2) := dk_21 4 (dk_at dksX0_aside_1 13 rfl rfl)
theorem dX0_aside_39 : decode cX0_aside 39 = .ok (.iload_n 2, 1) := dk_28 (dk_at dksX0_aside_1 15 rfl rfl)
theorem dX0_aside_40 : decode cX0_aside 40 = .ok (.iconst (-1), 1) := dk_2 (dk_at dksX0_aside_1 16 rfl rfl)
theorem dX0_aside_41 : decode cX0_aside 41 = .ok (.ixor, 1) := dk_130 (dk_at dksX0_aside_1 17 rfl rfl)
theorem dX0_aside_42 : decode cX0_aside 42 = .ok (.iand, 1) := dk_126 (dk_at dksX0_aside_1 18 rfl rfl)
theorem dX0_aside_43 : decode cX0_aside 43 = .ok (.ifCond .ne 31, 3) := dk_154 0 31 (dk_at dksX0_aside_1 19 rfl rfl)
theorem dX0_aside_46 : decode cX0_aside 46 = .ok (.iload 4, 2) := dk_21 4 (dk_at dksX0_aside_1 22 rfl rfl)
theorem dX0_aside_48 : decode cX0_aside 48 = .ok (.invokestatic 361, 3) := dk_184 1 105 (dk_at dksX0_aside_2 0 rfl rfl)
theorem dX0_aside_51 : decode cX0_aside 51 = .ok (.iload_n 3, 1) := dk_29 (dk_at dksX0_aside_2 3 rfl rfl)
theorem dX0_aside_52 : decode cX0_aside 52 = .ok (.invokestatic 361, 3) := dk_184 1 105 (dk_at dksX0_aside_2 4 rfl rfl)
theorem dX0_aside_55 : decode cX0_aside 55 = .ok (.if_icmp .ge 19, 3) := dk_162 0 19 (dk_at dksX0_aside_2 7 rfl rfl)
theorem dX0_aside_58 : decode cX0_aside 58 = .ok (.aload_n 0, 1) := dk_42 (dk_at dksX0_aside_2 10 rfl rfl)
theorem dX0_aside_59 : decode cX0_aside 59 = .ok (.iload_n 2, 1) := dk_28 (dk_at dksX0_aside_2 11 rfl rfl)
theorem dX0_aside_60 : decode cX0_aside 60 = .ok (.iload 4, 2) := dk_21 4 (dk_at dksX0_aside_2 12 rfl rfl)
theorem dX0_aside_62 : decode cX0_aside 62 = .ok (.iconst (-1), 1) := dk_2 (dk_at dksX0_aside_2 14 rfl rfl)
theorem dX0_aside_63 : decode cX0_aside 63 = .ok (.ixor, 1) := dk_130 (dk_at dksX0_aside_2 15 rfl rfl)
theorem dX0_aside_64 : decode cX0_aside 64 = .ok (.iand, 1) := dk_126 (dk_at dksX0_aside_2 16 rfl rfl)
theorem dX0_aside_65 : decode cX0_aside 65 = .ok (.invokevirtual 375, 3) := dk_182 1 119 (dk_at dksX0_aside_2 17 rfl rfl)
theorem dX0_aside_68 : decode cX0_aside 68 = .ok (.ifCond .eq 6, 3) := dk_153 0 6 (dk_at dksX0_aside_2 20 rfl rfl)
theorem dX0_aside_71 : decode cX0_aside 71 = .ok (.iload 4, 2) := dk_21 4 (dk_at dksX0_aside_3 0 rfl rfl)
theorem dX0_aside_73 : decode cX0_aside 73 = .ok (.istore_n 3, 1) := dk_62 (dk_at dksX0_aside_3 2 rfl rfl)
theorem dX0_aside_74 : decode cX0_aside 74 = .ok (.iinc 4 1, 3) := dk_132 4 1 (dk_at dksX0_aside_3 3 rfl rfl)
theorem dX0_aside_77 : decode cX0_aside 77 = .ok (.goto (-48), 3) := dk_167 255 208 (dk_at dksX0_aside_3 6 rfl rfl)
theorem dX0_aside_80 : decode cX0_aside 80 = .ok (.iload_n 1, 1) := dk_27 (dk_at dksX0_aside_3 9 rfl rfl)
theorem dX0_aside_81 : decode cX0_aside 81 = .ok (.ifCond .ne 10, 3) := dk_154 0 10 (dk_at dksX0_aside_3 10 rfl rfl)
theorem dX0_aside_84 : decode cX0_aside 84 = .ok (.iload_n 3, 1) := dk_29 (dk_at dksX0_aside_3 13 rfl rfl)
theorem dX0_aside_85 : decode cX0_aside 85 = .ok (.invokestatic 361, 3) := dk_184 1 105 (dk_at dksX0_aside_3 14 rfl rfl)
theorem dX0_aside_88 : decode cX0_aside 88 = .ok (.goto 4, 3) := dk_167 0 4 (dk_at dksX0_aside_3 17 rfl rfl)
theorem dX0_aside_91 : decode cX0_aside 91 = .ok (.iload_n 3, 1) := dk_29 (dk_at dksX0_aside_3 20 rfl rfl)
theorem dX0_aside_92 : decode cX0_aside 92 = .ok (.ireturn, 1) := dk_172 (dk_at dksX0_aside_3 21 rfl rfl)
abbrev cX0_isLoose : ByteArray := prog_1_method_41_code
def yX0_isLoose : MethodName := ⟨RX0, "isLoose", "(I)Z"⟩
def dkwX0_isLoose_5 : List UInt8 := [154, 0, 7, 4, 167, 0, 4, 3, 172]
abbrev dktX0_isLoose_5 : List UInt8 := dkwX0_isLoose_5 ++ []
def dkwX0_isLoose_4 : List UInt8 := [167, 0, 14, 28, 4, 21, 4, 120, 2, 130, 126, 61, 4, 62, 132, 4, 1, 167, 255, 164, 167, 255, 148, 28]
abbrev dktX0_isLoose_4 : List UInt8 := dkwX0_isLoose_4 ++ dktX0_isLoose_5
def dkwX0_isLoose_3 : List UInt8 := [182, 1, 116, 153, 0, 7, 4, 167, 0, 4, 3, 54, 5, 132, 6, 1, 167, 255, 214, 21, 5, 153, 0, 6]
abbrev dktX0_isLoose_3 : List UInt8 := dkwX0_isLoose_3 ++ dktX0_isLoose_4
def dkwX0_isLoose_2 : List UInt8 := [162, 0, 41, 21, 5, 154, 0, 23, 28, 21, 6, 184, 1, 89, 153, 0, 18, 42, 21, 6, 21, 4]
abbrev dktX0_isLoose_2 : List UInt8 := dkwX0_isLoose_2 ++ dktX0_isLoose_3
def dkwX0_isLoose_1 : List UInt8 := [28, 21, 4, 184, 1, 89, 154, 0, 6, 167, 0, 73, 3, 54, 5, 3, 54, 6, 21, 6, 16, 8]
abbrev dktX0_isLoose_1 : List UInt8 := dkwX0_isLoose_1 ++ dktX0_isLoose_2
def dkwX0_isLoose_0 : List UInt8 := [27, 61, 4, 62, 28, 153, 0, 110, 29, 153, 0, 106, 3, 62, 3, 54, 4, 21, 4, 16, 8, 162, 0, 91]
abbrev dktX0_isLoose_0 : List UInt8 := dkwX0_isLoose_0 ++ dktX0_isLoose_1
theorem dksX0_isLoose_0 : cX0_isLoose.data.toList.drop 0 = dktX0_isLoose_0 := by decide +kernel
theorem dksX0_isLoose_1 : cX0_isLoose.data.toList.drop 24 = dktX0_isLoose_1 := dk_seg dksX0_isLoose_0 24 rfl rfl
theorem dksX0_isLoose_2 : cX0_isLoose.data.toList.drop 46 = dktX0_isLoose_2 := dk_seg dksX0_isLoose_1 22 rfl rfl
theorem dksX0_isLoose_3 : cX0_isLoose.data.toList.drop 68 = dktX0_isLoose_3 := dk_seg dksX0_isLoose_2 22 rfl rfl
theorem dksX0_isLoose_4 : cX0_isLoose.data.toList.drop 92 = dktX0_isLoose_4 := dk_seg dksX0_isLoose_3 24 rfl rfl
theorem dksX0_isLoose_5 : cX0_isLoose.data.toList.drop 116 = dktX0_isLoose_5 := dk_seg dksX0_isLoose_4 24 rfl rfl
theorem dX0_isLoose_0 : decode cX0_isLoose 0 = .ok (.iload_n 1, 1) := dk_27 (dk_at dksX0_isLoose_0 0 rfl rfl)
theorem dX0_isLoose_1 : decode cX0_isLoose 1 = .ok (.istore_n 2, 1) := dk_61 (dk_at dksX0_isLoose_0 1 rfl rfl)
theorem dX0_isLoose_2 : decode cX0_isLoose 2 = .ok (.iconst 1, 1) := dk_4 (dk_at dksX0_isLoose_0 2 rfl rfl)
theorem dX0_isLoose_3 : decode cX0_isLoose 3 = .ok (.istore_n 3, 1) := dk_62 (dk_at dksX0_isLoose_0 3 rfl rfl)
theorem dX0_isLoose_4 : decode cX0_isLoose 4 = .ok (.iload_n 2, 1) := dk_28 (dk_at dksX0_isLoose_0 4 rfl rfl)
theorem dX0_isLoose_5 : decode cX0_isLoose 5 = .ok (.ifCond .eq 110, 3) := dk_153 0 110 (dk_at dksX0_isLoose_0 5 rfl rfl)
theorem dX0_isLoose_8 : decode cX0_isLoose 8 = .ok (.iload_n 3, 1) := dk_29 (dk_at dksX0_isLoose_0 8 rfl rfl)
theorem dX0_isLoose_9 : decode cX0_isLoose 9 = .ok (.ifCond .eq 106, 3) := dk_153 0 106 (dk_at dksX0_isLoose_0 9 rfl rfl)
theorem dX0_isLoose_12 : decode cX0_isLoose 12 = .ok (.iconst 0, 1) := dk_3 (dk_at dksX0_isLoose_0 12 rfl rfl)
theorem dX0_isLoose_13 : decode cX0_isLoose 13 = .ok (.istore_n 3, 1) := dk_62 (dk_at dksX0_isLoose_0 13 rfl rfl)
theorem dX0_isLoose_14 : decode cX0_isLoose 14 = .ok (.iconst 0, 1) := dk_3 (dk_at dksX0_isLoose_0 14 rfl rfl)
theorem dX0_isLoose_15 : decode cX0_isLoose 15 = .ok (.istore 4, 2) := dk_54 4 (dk_at dksX0_isLoose_0 15 rfl rfl)
theorem dX0_isLoose_17 : decode cX0_isLoose 17 = .ok (.iload 4, 2) := dk_21 4 (dk_at dksX0_isLoose_0 17 rfl rfl)
theorem dX0_isLoose_19 : decode cX0_isLoose 19 = .ok (.bipush 8, 2) := dk_16 8 (dk_at dksX0_isLoose_0 19 rfl rfl)
theorem dX0_isLoose_21 : decode cX0_isLoose 21 = .ok (.if_icmp .ge 91, 3) := dk_162 0 91 (dk_at dksX0_isLoose_0 21 rfl rfl)
theorem dX0_isLoose_24 : decode cX0_isLoose 24 = .ok (.iload_n 2, 1) := dk_28 (dk_at dksX0_isLoose_1 0 rfl rfl)
theorem dX0_isLoose_25 : decode cX0_isLoose 25 = .ok (.iload 4, 2) := dk_21 4 (dk_at dksX0_isLoose_1 1 rfl rfl)
theorem dX0_isLoose_27 : decode cX0_isLoose 27 = .ok (.invokestatic 345, 3) := dk_184 1 89 (dk_at dksX0_isLoose_1 3 rfl rfl)
theorem dX0_isLoose_30 : decode cX0_isLoose 30 = .ok (.ifCond .ne 6, 3) := dk_154 0 6 (dk_at dksX0_isLoose_1 6 rfl rfl)
theorem dX0_isLoose_33 : decode cX0_isLoose 33 = .ok (.goto 73, 3) := dk_167 0 73 (dk_at dksX0_isLoose_1 9 rfl rfl)
theorem dX0_isLoose_36 : decode cX0_isLoose 36 = .ok (.iconst 0, 1) := dk_3 (dk_at dksX0_isLoose_1 12 rfl rfl)
theorem dX0_isLoose_37 : decode cX0_isLoose 37 = .ok (.istore 5, 2) := dk_54 5 (dk_at dksX0_isLoose_1 13 rfl rfl)
theorem dX0_isLoose_39 : decode cX0_isLoose 39 = .ok (.iconst 0, 1) := dk_3 (dk_at dksX0_isLoose_1 15 rfl rfl)
theorem dX0_isLoose_40 : decode cX0_isLoose 40 = .ok (.istore 6, 2) := dk_54 6 (dk_at dksX0_isLoose_1 16 rfl rfl)
theorem dX0_isLoose_42 : decode cX0_isLoose 42 = .ok (.iload 6, 2) := dk_21 6 (dk_at dksX0_isLoose_1 18 rfl rfl)
theorem dX0_isLoose_44 : decode cX0_isLoose 44 = .ok (.bipush 8, 2) := dk_16 8 (dk_at dksX0_isLoose_1 20 rfl rfl)
theorem dX0_isLoose_46 : decode cX0_isLoose 46 = .ok (.if_icmp .ge 41, 3) := dk_162 0 41 (dk_at dksX0_isLoose_2 0 rfl rfl)
theorem dX0_isLoose_49 : decode cX0_isLoose 49 = .ok (.iload 5, 2) := dk_21 5 (dk_at dksX0_isLoose_2 3 rfl rfl)
theorem dX0_isLoose_51 : decode cX0_isLoose 51 = .ok (.ifCond .ne 23, 3) := dk_154 0 23 (dk_at dksX0_isLoose_2 5 rfl rfl)
theorem dX0_isLoose_54 : decode cX0_isLoose 54 = .ok (.iload_n 2, 1) := dk_28 (dk_at dksX0_isLoose_2 8 rfl rfl)
theorem dX0_isLoose_55 : decode cX0_isLoose 55 = .ok (.iload 6, 2) := dk_21 6 (dk_at dksX0_isLoose_2 9 rfl rfl)
theorem dX0_isLoose_57 : decode cX0_isLoose 57 = .ok (.invokestatic 345, 3) := dk_184 1 89 (dk_at dksX0_isLoose_2 11 rfl rfl)
theorem dX0_isLoose_60 : decode cX0_isLoose 60 = .ok (.ifCond .eq 18, 3) := dk_153 0 18 (dk_at dksX0_isLoose_2 14 rfl rfl)
theorem dX0_isLoose_63 : decode cX0_isLoose 63 = .ok (.aload_n 0, 1) := dk_42 (dk_at dksX0_isLoose_2 17 rfl rfl)
theorem dX0_isLoose_64 : decode cX0_isLoose 64 = .ok (.iload 6, 2) := dk_21 6 (dk_at dksX0_isLoose_2 18 rfl rfl)
theorem dX0_isLoose_66 : decode cX0_isLoose 66 = .ok (.iload 4, 2) := dk_21 4 (dk_at dksX0_isLoose_2 20 rfl rfl)
theorem dX0_isLoose_68 : decode cX0_isLoose 68 = .ok (.invokevirtual 372, 3) := dk_182 1 116 (dk_at dksX0_isLoose_3 0 rfl rfl)
theorem dX0_isLoose_71 : decode cX0_isLoose 71 = .ok (.ifCond .eq 7, 3) := dk_153 0 7 (dk_at dksX0_isLoose_3 3 rfl rfl)
theorem dX0_isLoose_74 : decode cX0_isLoose 74 = .ok (.iconst 1, 1) := dk_4 (dk_at dksX0_isLoose_3 6 rfl rfl)
theorem dX0_isLoose_75 : decode cX0_isLoose 75 = .ok (.goto 4, 3) := dk_167 0 4 (dk_at dksX0_isLoose_3 7 rfl rfl)
theorem dX0_isLoose_78 : decode cX0_isLoose 78 = .ok (.iconst 0, 1) := dk_3 (dk_at dksX0_isLoose_3 10 rfl rfl)
theorem dX0_isLoose_79 : decode cX0_isLoose 79 = .ok (.istore 5, 2) := dk_54 5 (dk_at dksX0_isLoose_3 11 rfl rfl)
theorem dX0_isLoose_81 : decode cX0_isLoose 81 = .ok (.iinc 6 1, 3) := dk_132 6 1 (dk_at dksX0_isLoose_3 13 rfl rfl)
theorem dX0_isLoose_84 : decode cX0_isLoose 84 = .ok (.goto (-42), 3) := dk_167 255 214 (dk_at dksX0_isLoose_3 16 rfl rfl)
theorem dX0_isLoose_87 : decode cX0_isLoose 87 = .ok (.iload 5, 2) := dk_21 5 (dk_at dksX0_isLoose_3 19 rfl rfl)
theorem dX0_isLoose_89 : decode cX0_isLoose 89 = .ok (.ifCond .eq 6, 3) := dk_153 0 6 (dk_at dksX0_isLoose_3 21 rfl rfl)
theorem dX0_isLoose_92 : decode cX0_isLoose 92 = .ok (.goto 14, 3) := dk_167 0 14 (dk_at dksX0_isLoose_4 0 rfl rfl)
theorem dX0_isLoose_95 : decode cX0_isLoose 95 = .ok (.iload_n 2, 1) := dk_28 (dk_at dksX0_isLoose_4 3 rfl rfl)
theorem dX0_isLoose_96 : decode cX0_isLoose 96 = .ok (.iconst 1, 1) := dk_4 (dk_at dksX0_isLoose_4 4 rfl rfl)
theorem dX0_isLoose_97 : decode cX0_isLoose 97 = .ok (.iload 4, 2) := dk_21 4 (dk_at dksX0_isLoose_4 5 rfl rfl)
theorem dX0_isLoose_99 : decode cX0_isLoose 99 = .ok (.ishl, 1) := dk_120 (dk_at dksX0_isLoose_4 7 rfl rfl)
theorem dX0_isLoose_100 : decode cX0_isLoose 100 = .ok (.iconst (-1), 1) := dk_2 (dk_at dksX0_isLoose_4 8 rfl rfl)
theorem dX0_isLoose_101 : decode cX0_isLoose 101 = .ok (.ixor, 1) := dk_130 (dk_at dksX0_isLoose_4 9 rfl rfl)
theorem dX0_isLoose_102 : decode cX0_isLoose 102 = .ok (.iand, 1) := dk_126 (dk_at dksX0_isLoose_4 10 rfl rfl)
theorem dX0_isLoose_103 : decode cX0_isLoose 103 = .ok (.istore_n 2, 1) := dk_61 (dk_at dksX0_isLoose_4 11 rfl rfl)
theorem dX0_isLoose_104 : decode cX0_isLoose 104 = .ok (.iconst 1, 1) := dk_4 (dk_at dksX0_isLoose_4 12 rfl rfl)
theorem dX0_isLoose_105 : decode cX0_isLoose 105 = .ok (.istore_n 3, 1) := dk_62 (dk_at dksX0_isLoose_4 13 rfl rfl)
theorem dX0_isLoose_106 : decode cX0_isLoose 106 = .ok (.iinc 4 1, 3) := dk_132 4 1 (dk_at dksX0_isLoose_4 14 rfl rfl)
theorem dX0_isLoose_109 : decode cX0_isLoose 109 = .ok (.goto (-92), 3) := dk_167 255 164 (dk_at dksX0_isLoose_4 17 rfl rfl)
theorem dX0_isLoose_112 : decode cX0_isLoose 112 = .ok (.goto (-108), 3) := dk_167 255 148 (dk_at dksX0_isLoose_4 20 rfl rfl)
theorem dX0_isLoose_115 : decode cX0_isLoose 115 = .ok (.iload_n 2, 1) := dk_28 (dk_at dksX0_isLoose_4 23 rfl rfl)
theorem dX0_isLoose_116 : decode cX0_isLoose 116 = .ok (.ifCond .ne 7, 3) := dk_154 0 7 (dk_at dksX0_isLoose_5 0 rfl rfl)
theorem dX0_isLoose_119 : decode cX0_isLoose 119 = .ok (.iconst 1, 1) := dk_4 (dk_at dksX0_isLoose_5 3 rfl rfl)
theorem dX0_isLoose_120 : decode cX0_isLoose 120 = .ok (.goto 4, 3) := dk_167 0 4 (dk_at dksX0_isLoose_5 4 rfl rfl)
theorem dX0_isLoose_123 : decode cX0_isLoose 123 = .ok (.iconst 0, 1) := dk_3 (dk_at dksX0_isLoose_5 7 rfl rfl)
theorem dX0_isLoose_124 : decode cX0_isLoose 124 = .ok (.ireturn, 1) := dk_172 (dk_at dksX0_isLoose_5 8 rfl rfl)
abbrev cX0_years : ByteArray := prog_1_method_50_code
def yX0_years : MethodName := ⟨RX0, "years", "(I)I"⟩
def dkwX0_years_2 : List UInt8 := [172]
abbrev dktX0_years_2 : List UInt8 := dkwX0_years_2 ++ []
def dkwX0_years_1 : List UInt8 := [180, 0, 147, 27, 2, 182, 1, 162, 61, 28, 16, 252, 159, 0, 11, 42, 42, 180, 1, 144, 181, 1, 166, 28]
abbrev dktX0_years_1 : List UInt8 := dkwX0_years_1 ++ dktX0_years_2
def dkwX0_years_0 : List UInt8 := [27, 184, 1, 30, 154, 0, 6, 16, 254, 172, 42, 42, 180, 0, 10, 180, 0, 91, 42, 180, 0, 10]
abbrev dktX0_years_0 : List UInt8 := dkwX0_years_0 ++ dktX0_years_1
theorem dksX0_years_0 : cX0_years.data.toList.drop 0 = dktX0_years_0 := by decide +kernel
theorem dksX0_years_1 : cX0_years.data.toList.drop 22 = dktX0_years_1 := dk_seg dksX0_years_0 22 rfl rfl
theorem dksX0_years_2 : cX0_years.data.toList.drop 46 = dktX0_years_2 := dk_seg dksX0_years_1 24 rfl rfl
theorem dX0_years_0 : decode cX0_years 0 = .ok (.iload_n 1, 1) := dk_27 (dk_at dksX0_years_0 0 rfl rfl)
theorem dX0_years_1 : decode cX0_years 1 = .ok (.invokestatic 286, 3) := dk_184 1 30 (dk_at dksX0_years_0 1 rfl rfl)
theorem dX0_years_4 : decode cX0_years 4 = .ok (.ifCond .ne 6, 3) := dk_154 0 6 (dk_at dksX0_years_0 4 rfl rfl)
theorem dX0_years_7 : decode cX0_years 7 = .ok (.bipush (-2), 2) := dk_16 254 (dk_at dksX0_years_0 7 rfl rfl)
theorem dX0_years_9 : decode cX0_years 9 = .ok (.ireturn, 1) := dk_172 (dk_at dksX0_years_0 9 rfl rfl)
theorem dX0_years_10 : decode cX0_years 10 = .ok (.aload_n 0, 1) := dk_42 (dk_at dksX0_years_0 10 rfl rfl)
theorem dX0_years_11 : decode cX0_years 11 = .ok (.aload_n 0, 1) := dk_42 (dk_at dksX0_years_0 11 rfl rfl)
theorem dX0_years_12 : decode cX0_years 12 = .ok (.getfield 10, 3) := dk_180 0 10 (dk_at dksX0_years_0 12 rfl rfl)
theorem dX0_years_15 : decode cX0_years 15 = .ok (.getfield 91, 3) := dk_180 0 91 (dk_at dksX0_years_0 15 rfl rfl)
theorem dX0_years_18 : decode cX0_years 18 = .ok (.aload_n 0, 1) := dk_42 (dk_at dksX0_years_0 18 rfl rfl)
theorem dX0_years_19 : decode cX0_years 19 = .ok (.getfield 10, 3) := dk_180 0 10 (dk_at dksX0_years_0 19 rfl rfl)
theorem dX0_years_22 : decode cX0_years 22 = .ok (.getfield 147, 3) := dk_180 0 147 (dk_at dksX0_years_1 0 rfl rfl)
theorem dX0_years_25 : decode cX0_years 25 = .ok (.iload_n 1, 1) := dk_27 (dk_at dksX0_years_1 3 rfl rfl)
theorem dX0_years_26 : decode cX0_years 26 = .ok (.iconst (-1), 1) := dk_2 (dk_at dksX0_years_1 4 rfl rfl)
theorem dX0_years_27 : decode cX0_years 27 = .ok (.invokevirtual 418, 3) := dk_182 1 162 (dk_at dksX0_years_1 5 rfl rfl)
theorem dX0_years_30 : decode cX0_years 30 = .ok (.istore_n 2, 1) := dk_61 (dk_at dksX0_years_1 8 rfl rfl)
theorem dX0_years_31 : decode cX0_years 31 = .ok (.iload_n 2, 1) := dk_28 (dk_at dksX0_years_1 9 rfl rfl)
theorem dX0_years_32 : decode cX0_years 32 = .ok (.bipush (-4), 2) := dk_16 252 (dk_at dksX0_years_1 10 rfl rfl)
theorem dX0_years_34 : decode cX0_years 34 = .ok (.if_icmp .eq 11, 3) := dk_159 0 11 (dk_at dksX0_years_1 12 rfl rfl)
theorem dX0_years_37 : decode cX0_years 37 = .ok (.aload_n 0, 1) := dk_42 (dk_at dksX0_years_1 15 rfl rfl)
theorem dX0_years_38 : decode cX0_years 38 = .ok (.aload_n 0, 1) := dk_42 (dk_at dksX0_years_1 16 rfl rfl)
theorem dX0_years_39 : decode cX0_years 39 = .ok (.getfield 400, 3) := dk_180 1 144 (dk_at dksX0_years_1 17 rfl rfl)
theorem dX0_years_42 : decode cX0_years 42 = .ok (.putfield 422, 3) := dk_181 1 166 (dk_at dksX0_years_1 20 rfl rfl)
theorem dX0_years_45 : decode cX0_years 45 = .ok (.iload_n 2, 1) := dk_28 (dk_at dksX0_years_1 23 rfl rfl)
theorem dX0_years_46 : decode cX0_years 46 = .ok (.ireturn, 1) := dk_172 (dk_at dksX0_years_2 0 rfl rfl)
abbrev cX0_seeks : ByteArray := prog_1_method_49_code
def yX0_seeks : MethodName := ⟨RX0, "seeks", "(LStoneYear$Town;JII)I"⟩
def dkwX0_seeks_4 : List UInt8 := [132, 6, 1, 42, 182, 1, 159, 54, 7, 167, 255, 197, 2, 172]
abbrev dktX0_seeks_4 : List UInt8 := dkwX0_seeks_4 ++ []
def dkwX0_seeks_3 : List UInt8 := [42, 180, 0, 65, 180, 1, 122, 96, 181, 1, 144, 42, 43, 21, 4, 182, 1, 155, 153, 0, 6, 21, 6, 172]
abbrev dktX0_seeks_3 : List UInt8 := dkwX0_seeks_3 ++ dktX0_seeks_4
def dkwX0_seeks_2 : List UInt8 := [153, 0, 60, 42, 43, 42, 180, 1, 144, 3, 182, 1, 151, 154, 0, 6, 16, 252, 172, 42, 89, 180, 1, 144]
abbrev dktX0_seeks_2 : List UInt8 := dkwX0_seeks_2 ++ dktX0_seeks_3
def dkwX0_seeks_1 : List UInt8 := [21, 4, 182, 1, 33, 153, 0, 5, 3, 172, 42, 32, 182, 1, 147, 4, 54, 6, 4, 54, 7, 21, 7]
abbrev dktX0_seeks_1 : List UInt8 := dkwX0_seeks_1 ++ dktX0_seeks_2
def dkwX0_seeks_0 : List UInt8 := [42, 180, 0, 44, 21, 5, 181, 1, 102, 42, 3, 181, 1, 144, 42, 180, 0, 44, 43, 32, 182, 0, 151]
abbrev dktX0_seeks_0 : List UInt8 := dkwX0_seeks_0 ++ dktX0_seeks_1
theorem dksX0_seeks_0 : cX0_seeks.data.toList.drop 0 = dktX0_seeks_0 := by decide +kernel
theorem dksX0_seeks_1 : cX0_seeks.data.toList.drop 23 = dktX0_seeks_1 := dk_seg dksX0_seeks_0 23 rfl rfl
theorem dksX0_seeks_2 : cX0_seeks.data.toList.drop 46 = dktX0_seeks_2 := dk_seg dksX0_seeks_1 23 rfl rfl
theorem dksX0_seeks_3 : cX0_seeks.data.toList.drop 70 = dktX0_seeks_3 := dk_seg dksX0_seeks_2 24 rfl rfl
theorem dksX0_seeks_4 : cX0_seeks.data.toList.drop 94 = dktX0_seeks_4 := dk_seg dksX0_seeks_3 24 rfl rfl
theorem dX0_seeks_0 : decode cX0_seeks 0 = .ok (.aload_n 0, 1) := dk_42 (dk_at dksX0_seeks_0 0 rfl rfl)
theorem dX0_seeks_1 : decode cX0_seeks 1 = .ok (.getfield 44, 3) := dk_180 0 44 (dk_at dksX0_seeks_0 1 rfl rfl)
theorem dX0_seeks_4 : decode cX0_seeks 4 = .ok (.iload 5, 2) := dk_21 5 (dk_at dksX0_seeks_0 4 rfl rfl)
theorem dX0_seeks_6 : decode cX0_seeks 6 = .ok (.putfield 358, 3) := dk_181 1 102 (dk_at dksX0_seeks_0 6 rfl rfl)
theorem dX0_seeks_9 : decode cX0_seeks 9 = .ok (.aload_n 0, 1) := dk_42 (dk_at dksX0_seeks_0 9 rfl rfl)
theorem dX0_seeks_10 : decode cX0_seeks 10 = .ok (.iconst 0, 1) := dk_3 (dk_at dksX0_seeks_0 10 rfl rfl)
theorem dX0_seeks_11 : decode cX0_seeks 11 = .ok (.putfield 400, 3) := dk_181 1 144 (dk_at dksX0_seeks_0 11 rfl rfl)
theorem dX0_seeks_14 : decode cX0_seeks 14 = .ok (.aload_n 0, 1) := dk_42 (dk_at dksX0_seeks_0 14 rfl rfl)
theorem dX0_seeks_15 : decode cX0_seeks 15 = .ok (.getfield 44, 3) := dk_180 0 44 (dk_at dksX0_seeks_0 15 rfl rfl)
theorem dX0_seeks_18 : decode cX0_seeks 18 = .ok (.aload_n 1, 1) := dk_43 (dk_at dksX0_seeks_0 18 rfl rfl)
theorem dX0_seeks_19 : decode cX0_seeks 19 = .ok (.lload_n 2, 1) := dk_32 (dk_at dksX0_seeks_0 19 rfl rfl)
theorem dX0_seeks_20 : decode cX0_seeks 20 = .ok (.invokevirtual 151, 3) := dk_182 0 151 (dk_at dksX0_seeks_0 20 rfl rfl)
theorem dX0_seeks_23 : decode cX0_seeks 23 = .ok (.iload 4, 2) := dk_21 4 (dk_at dksX0_seeks_1 0 rfl rfl)
theorem dX0_seeks_25 : decode cX0_seeks 25 = .ok (.invokevirtual 289, 3) := dk_182 1 33 (dk_at dksX0_seeks_1 2 rfl rfl)
theorem dX0_seeks_28 : decode cX0_seeks 28 = .ok (.ifCond .eq 5, 3) := dk_153 0 5 (dk_at dksX0_seeks_1 5 rfl rfl)
theorem dX0_seeks_31 : decode cX0_seeks 31 = .ok (.iconst 0, 1) := dk_3 (dk_at dksX0_seeks_1 8 rfl rfl)
theorem dX0_seeks_32 : decode cX0_seeks 32 = .ok (.ireturn, 1) := dk_172 (dk_at dksX0_seeks_1 9 rfl rfl)
theorem dX0_seeks_33 : decode cX0_seeks 33 = .ok (.aload_n 0, 1) := dk_42 (dk_at dksX0_seeks_1 10 rfl rfl)
theorem dX0_seeks_34 : decode cX0_seeks 34 = .ok (.lload_n 2, 1) := dk_32 (dk_at dksX0_seeks_1 11 rfl rfl)
theorem dX0_seeks_35 : decode cX0_seeks 35 = .ok (.invokevirtual 403, 3) := dk_182 1 147 (dk_at dksX0_seeks_1 12 rfl rfl)
theorem dX0_seeks_38 : decode cX0_seeks 38 = .ok (.iconst 1, 1) := dk_4 (dk_at dksX0_seeks_1 15 rfl rfl)
theorem dX0_seeks_39 : decode cX0_seeks 39 = .ok (.istore 6, 2) := dk_54 6 (dk_at dksX0_seeks_1 16 rfl rfl)
theorem dX0_seeks_41 : decode cX0_seeks 41 = .ok (.iconst 1, 1) := dk_4 (dk_at dksX0_seeks_1 18 rfl rfl)
theorem dX0_seeks_42 : decode cX0_seeks 42 = .ok (.istore 7, 2) := dk_54 7 (dk_at dksX0_seeks_1 19 rfl rfl)
theorem dX0_seeks_44 : decode cX0_seeks 44 = .ok (.iload 7, 2) := dk_21 7 (dk_at dksX0_seeks_1 21 rfl rfl)
theorem dX0_seeks_46 : decode cX0_seeks 46 = .ok (.ifCond .eq 60, 3) := dk_153 0 60 (dk_at dksX0_seeks_2 0 rfl rfl)
theorem dX0_seeks_49 : decode cX0_seeks 49 = .ok (.aload_n 0, 1) := dk_42 (dk_at dksX0_seeks_2 3 rfl rfl)
theorem dX0_seeks_50 : decode cX0_seeks 50 = .ok (.aload_n 1, 1) := dk_43 (dk_at dksX0_seeks_2 4 rfl rfl)
theorem dX0_seeks_51 : decode cX0_seeks 51 = .ok (.aload_n 0, 1) := dk_42 (dk_at dksX0_seeks_2 5 rfl rfl)
theorem dX0_seeks_52 : decode cX0_seeks 52 = .ok (.getfield 400, 3) := dk_180 1 144 (dk_at dksX0_seeks_2 6 rfl rfl)
theorem dX0_seeks_55 : decode cX0_seeks 55 = .ok (.iconst 0, 1) := dk_3 (dk_at dksX0_seeks_2 9 rfl rfl)
theorem dX0_seeks_56 : decode cX0_seeks 56 = .ok (.invokevirtual 407, 3) := dk_182 1 151 (dk_at dksX0_seeks_2 10 rfl rfl)
theorem dX0_seeks_59 : decode cX0_seeks 59 = .ok (.ifCond .ne 6, 3) := dk_154 0 6 (dk_at dksX0_seeks_2 13 rfl rfl)
theorem dX0_seeks_62 : decode cX0_seeks 62 = .ok (.bipush (-4), 2) := dk_16 252 (dk_at dksX0_seeks_2 16 rfl rfl)
theorem dX0_seeks_64 : decode cX0_seeks 64 = .ok (.ireturn, 1) := dk_172 (dk_at dksX0_seeks_2 18 rfl rfl)
theorem dX0_seeks_65 : decode cX0_seeks 65 = .ok (.aload_n 0, 1) := dk_42 (dk_at dksX0_seeks_2 19 rfl rfl)
theorem dX0_seeks_66 : decode cX0_seeks 66 = .ok (.dup, 1) := dk_89 (dk_at dksX0_seeks_2 20 rfl rfl)
theorem dX0_seeks_67 : decode cX0_seeks 67 = .ok (.getfield 400, 3) := dk_180 1 144 (dk_at dksX0_seeks_2 21 rfl rfl)
theorem dX0_seeks_70 : decode cX0_seeks 70 = .ok (.aload_n 0, 1) := dk_42 (dk_at dksX0_seeks_3 0 rfl rfl)
theorem dX0_seeks_71 : decode cX0_seeks 71 = .ok (.getfield 65, 3) := dk_180 0 65 (dk_at dksX0_seeks_3 1 rfl rfl)
theorem dX0_seeks_74 : decode cX0_seeks 74 = .ok (.getfield 378, 3) := dk_180 1 122 (dk_at dksX0_seeks_3 4 rfl rfl)
theorem dX0_seeks_77 : decode cX0_seeks 77 = .ok (.iadd, 1) := dk_96 (dk_at dksX0_seeks_3 7 rfl rfl)
theorem dX0_seeks_78 : decode cX0_seeks 78 = .ok (.putfield 400, 3) := dk_181 1 144 (dk_at dksX0_seeks_3 8 rfl rfl)
theorem dX0_seeks_81 : decode cX0_seeks 81 = .ok (.aload_n 0, 1) := dk_42 (dk_at dksX0_seeks_3 11 rfl rfl)
theorem dX0_seeks_82 : decode cX0_seeks 82 = .ok (.aload_n 1, 1) := dk_43 (dk_at dksX0_seeks_3 12 rfl rfl)
theorem dX0_seeks_83 : decode cX0_seeks 83 = .ok (.iload 4, 2) := dk_21 4 (dk_at dksX0_seeks_3 13 rfl rfl)
theorem dX0_seeks_85 : decode cX0_seeks 85 = .ok (.invokevirtual 411, 3) := dk_182 1 155 (dk_at dksX0_seeks_3 15 rfl rfl)
theorem dX0_seeks_88 : decode cX0_seeks 88 = .ok (.ifCond .eq 6, 3) := dk_153 0 6 (dk_at dksX0_seeks_3 18 rfl rfl)
theorem dX0_seeks_91 : decode cX0_seeks 91 = .ok (.iload 6, 2) := dk_21 6 (dk_at dksX0_seeks_3 21 rfl rfl)
theorem dX0_seeks_93 : decode cX0_seeks 93 = .ok (.ireturn, 1) := dk_172 (dk_at dksX0_seeks_3 23 rfl rfl)
theorem dX0_seeks_94 : decode cX0_seeks 94 = .ok (.iinc 6 1, 3) := dk_132 6 1 (dk_at dksX0_seeks_4 0 rfl rfl)
theorem dX0_seeks_97 : decode cX0_seeks 97 = .ok (.aload_n 0, 1) := dk_42 (dk_at dksX0_seeks_4 3 rfl rfl)
theorem dX0_seeks_98 : decode cX0_seeks 98 = .ok (.invokevirtual 415, 3) := dk_182 1 159 (dk_at dksX0_seeks_4 4 rfl rfl)
theorem dX0_seeks_101 : decode cX0_seeks 101 = .ok (.istore 7, 2) := dk_54 7 (dk_at dksX0_seeks_4 7 rfl rfl)
theorem dX0_seeks_103 : decode cX0_seeks 103 = .ok (.goto (-59), 3) := dk_167 255 197 (dk_at dksX0_seeks_4 9 rfl rfl)
theorem dX0_seeks_106 : decode cX0_seeks 106 = .ok (.iconst (-1), 1) := dk_2 (dk_at dksX0_seeks_4 12 rfl rfl)
theorem dX0_seeks_107 : decode cX0_seeks 107 = .ok (.ireturn, 1) := dk_172 (dk_at dksX0_seeks_4 13 rfl rfl)
abbrev cX0_opens : ByteArray := prog_1_method_48_code
def yX0_opens : MethodName := ⟨RX0, "opens", "(J)V"⟩
def dkwX0_opens_1 : List UInt8 := [184, 0, 255, 31, 148, 154, 0, 12, 42, 180, 0, 69, 31, 182, 1, 135, 87, 42, 3, 181, 1, 144, 177]
abbrev dktX0_opens_1 : List UInt8 := dkwX0_opens_1 ++ []
def dkwX0_opens_0 : List UInt8 := [42, 180, 0, 65, 182, 1, 141, 42, 180, 0, 69, 182, 1, 141, 42, 180, 0, 65, 31, 182, 1, 135, 87, 31]
abbrev dktX0_opens_0 : List UInt8 := dkwX0_opens_0 ++ dktX0_opens_1
theorem dksX0_opens_0 : cX0_opens.data.toList.drop 0 = dktX0_opens_0 := by decide +kernel
theorem dksX0_opens_1 : cX0_opens.data.toList.drop 24 = dktX0_opens_1 := dk_seg dksX0_opens_0 24 rfl rfl
theorem dX0_opens_0 : decode cX0_opens 0 = .ok (.aload_n 0, 1) := dk_42 (dk_at dksX0_opens_0 0 rfl rfl)
theorem dX0_opens_1 : decode cX0_opens 1 = .ok (.getfield 65, 3) := dk_180 0 65 (dk_at dksX0_opens_0 1 rfl rfl)
theorem dX0_opens_4 : decode cX0_opens 4 = .ok (.invokevirtual 397, 3) := dk_182 1 141 (dk_at dksX0_opens_0 4 rfl rfl)
theorem dX0_opens_7 : decode cX0_opens 7 = .ok (.aload_n 0, 1) := dk_42 (dk_at dksX0_opens_0 7 rfl rfl)
theorem dX0_opens_8 : decode cX0_opens 8 = .ok (.getfield 69, 3) := dk_180 0 69 (dk_at dksX0_opens_0 8 rfl rfl)
theorem dX0_opens_11 : decode cX0_opens 11 = .ok (.invokevirtual 397, 3) := dk_182 1 141 (dk_at dksX0_opens_0 11 rfl rfl)
theorem dX0_opens_14 : decode cX0_opens 14 = .ok (.aload_n 0, 1) := dk_42 (dk_at dksX0_opens_0 14 rfl rfl)
theorem dX0_opens_15 : decode cX0_opens 15 = .ok (.getfield 65, 3) := dk_180 0 65 (dk_at dksX0_opens_0 15 rfl rfl)
theorem dX0_opens_18 : decode cX0_opens 18 = .ok (.lload_n 1, 1) := dk_31 (dk_at dksX0_opens_0 18 rfl rfl)
theorem dX0_opens_19 : decode cX0_opens 19 = .ok (.invokevirtual 391, 3) := dk_182 1 135 (dk_at dksX0_opens_0 19 rfl rfl)
theorem dX0_opens_22 : decode cX0_opens 22 = .ok (.pop, 1) := dk_87 (dk_at dksX0_opens_0 22 rfl rfl)
theorem dX0_opens_23 : decode cX0_opens 23 = .ok (.lload_n 1, 1) := dk_31 (dk_at dksX0_opens_0 23 rfl rfl)
theorem dX0_opens_24 : decode cX0_opens 24 = .ok (.invokestatic 255, 3) := dk_184 0 255 (dk_at dksX0_opens_1 0 rfl rfl)
theorem dX0_opens_27 : decode cX0_opens 27 = .ok (.lload_n 1, 1) := dk_31 (dk_at dksX0_opens_1 3 rfl rfl)
theorem dX0_opens_28 : decode cX0_opens 28 = .ok (.lcmp, 1) := dk_148 (dk_at dksX0_opens_1 4 rfl rfl)
theorem dX0_opens_29 : decode cX0_opens 29 = .ok (.ifCond .ne 12, 3) := dk_154 0 12 (dk_at dksX0_opens_1 5 rfl rfl)
theorem dX0_opens_32 : decode cX0_opens 32 = .ok (.aload_n 0, 1) := dk_42 (dk_at dksX0_opens_1 8 rfl rfl)
theorem dX0_opens_33 : decode cX0_opens 33 = .ok (.getfield 69, 3) := dk_180 0 69 (dk_at dksX0_opens_1 9 rfl rfl)
theorem dX0_opens_36 : decode cX0_opens 36 = .ok (.lload_n 1, 1) := dk_31 (dk_at dksX0_opens_1 12 rfl rfl)
theorem dX0_opens_37 : decode cX0_opens 37 = .ok (.invokevirtual 391, 3) := dk_182 1 135 (dk_at dksX0_opens_1 13 rfl rfl)
theorem dX0_opens_40 : decode cX0_opens 40 = .ok (.pop, 1) := dk_87 (dk_at dksX0_opens_1 16 rfl rfl)
theorem dX0_opens_41 : decode cX0_opens 41 = .ok (.aload_n 0, 1) := dk_42 (dk_at dksX0_opens_1 17 rfl rfl)
theorem dX0_opens_42 : decode cX0_opens 42 = .ok (.iconst 0, 1) := dk_3 (dk_at dksX0_opens_1 18 rfl rfl)
theorem dX0_opens_43 : decode cX0_opens 43 = .ok (.putfield 400, 3) := dk_181 1 144 (dk_at dksX0_opens_1 19 rfl rfl)
theorem dX0_opens_46 : decode cX0_opens 46 = .ok (.return_, 1) := dk_177 (dk_at dksX0_opens_1 22 rfl rfl)
abbrev cX0_closes : ByteArray := prog_1_method_43_code
def yX0_closes : MethodName := ⟨RX0, "closes", "(LStoneYear$Town;IZ)Z"⟩
def dkwX0_closes_10 : List UInt8 := [132, 4, 1, 167, 255, 25, 4, 172]
abbrev dktX0_closes_10 : List UInt8 := dkwX0_closes_10 ++ []
def dkwX0_closes_9 : List UInt8 := [180, 1, 122, 96, 17, 23, 112, 164, 0, 5, 3, 172, 132, 8, 1, 167, 255, 90, 132, 7, 1, 167, 255, 69]
abbrev dktX0_closes_9 : List UInt8 := dkwX0_closes_9 ++ dktX0_closes_10
def dkwX0_closes_8 : List UInt8 := [180, 0, 44, 180, 0, 208, 21, 7, 46, 96, 4, 100, 184, 1, 128, 29, 182, 1, 131, 28, 42, 180, 0, 65]
abbrev dktX0_closes_8 : List UInt8 := dkwX0_closes_8 ++ dktX0_closes_9
def dkwX0_closes_7 : List UInt8 := [21, 8, 46, 96, 4, 100, 184, 1, 128, 42, 180, 0, 44, 21, 8, 182, 0, 249, 6, 21, 7, 104, 42]
abbrev dktX0_closes_7 : List UInt8 := dkwX0_closes_7 ++ dktX0_closes_8
def dkwX0_closes_6 : List UInt8 := [42, 22, 5, 42, 180, 0, 44, 21, 7, 182, 0, 249, 6, 21, 8, 104, 42, 180, 0, 44, 180, 0, 208]
abbrev dktX0_closes_6 : List UInt8 := dkwX0_closes_6 ++ dktX0_closes_7
def dkwX0_closes_5 : List UInt8 := [182, 1, 131, 21, 7, 21, 8, 162, 0, 82, 42, 180, 0, 44, 21, 7, 21, 8, 182, 0, 230, 154, 0, 68]
abbrev dktX0_closes_5 : List UInt8 := dkwX0_closes_5 ++ dktX0_closes_6
def dkwX0_closes_4 : List UInt8 := [182, 0, 249, 6, 21, 8, 104, 42, 180, 0, 44, 180, 0, 208, 21, 8, 46, 96, 184, 1, 128, 29]
abbrev dktX0_closes_4 : List UInt8 := dkwX0_closes_4 ++ dktX0_closes_5
def dkwX0_closes_3 : List UInt8 := [180, 0, 44, 21, 7, 21, 8, 182, 0, 227, 154, 0, 37, 42, 22, 5, 42, 180, 0, 44, 21, 7]
abbrev dktX0_closes_3 : List UInt8 := dkwX0_closes_3 ++ dktX0_closes_4
def dkwX0_closes_2 : List UInt8 := [182, 0, 133, 162, 0, 181, 3, 54, 8, 21, 8, 43, 180, 0, 201, 182, 0, 133, 162, 0, 160, 42]
abbrev dktX0_closes_2 : List UInt8 := dkwX0_closes_2 ++ dktX0_closes_3
def dkwX0_closes_1 : List UInt8 := [47, 55, 5, 42, 180, 0, 44, 43, 22, 5, 182, 0, 151, 87, 3, 54, 7, 21, 7, 43, 180, 0, 201]
abbrev dktX0_closes_1 : List UInt8 := dkwX0_closes_1 ++ dktX0_closes_2
def dkwX0_closes_0 : List UInt8 := [3, 54, 4, 21, 4, 42, 180, 0, 65, 180, 1, 122, 162, 0, 225, 42, 180, 0, 65, 180, 1, 124, 21, 4]
abbrev dktX0_closes_0 : List UInt8 := dkwX0_closes_0 ++ dktX0_closes_1
theorem dksX0_closes_0 : cX0_closes.data.toList.drop 0 = dktX0_closes_0 := by decide +kernel
theorem dksX0_closes_1 : cX0_closes.data.toList.drop 24 = dktX0_closes_1 := dk_seg dksX0_closes_0 24 rfl rfl
theorem dksX0_closes_2 : cX0_closes.data.toList.drop 47 = dktX0_closes_2 := dk_seg dksX0_closes_1 23 rfl rfl
theorem dksX0_closes_3 : cX0_closes.data.toList.drop 69 = dktX0_closes_3 := dk_seg dksX0_closes_2 22 rfl rfl
theorem dksX0_closes_4 : cX0_closes.data.toList.drop 91 = dktX0_closes_4 := dk_seg dksX0_closes_3 22 rfl rfl
theorem dksX0_closes_5 : cX0_closes.data.toList.drop 113 = dktX0_closes_5 := dk_seg dksX0_closes_4 22 rfl rfl
theorem dksX0_closes_6 : cX0_closes.data.toList.drop 137 = dktX0_closes_6 := dk_seg dksX0_closes_5 24 rfl rfl
theorem dksX0_closes_7 : cX0_closes.data.toList.drop 160 = dktX0_closes_7 := dk_seg dksX0_closes_6 23 rfl rfl
theorem dksX0_closes_8 : cX0_closes.data.toList.drop 183 = dktX0_closes_8 := dk_seg dksX0_closes_7 23 rfl rfl
theorem dksX0_closes_9 : cX0_closes.data.toList.drop 207 = dktX0_closes_9 := dk_seg dksX0_closes_8 24 rfl rfl
theorem dksX0_closes_10 : cX0_closes.data.toList.drop 231 = dktX0_closes_10 := dk_seg dksX0_closes_9 24 rfl rfl
theorem dX0_closes_0 : decode cX0_closes 0 = .ok (.iconst 0, 1) := dk_3 (dk_at dksX0_closes_0 0 rfl rfl)
theorem dX0_closes_1 : decode cX0_closes 1 = .ok (.istore 4, 2) := dk_54 4 (dk_at dksX0_closes_0 1 rfl rfl)
theorem dX0_closes_3 : decode cX0_closes 3 = .ok (.iload 4, 2) := dk_21 4 (dk_at dksX0_closes_0 3 rfl rfl)
theorem dX0_closes_5 : decode cX0_closes 5 = .ok (.aload_n 0, 1) := dk_42 (dk_at dksX0_closes_0 5 rfl rfl)
theorem dX0_closes_6 : decode cX0_closes 6 = .ok (.getfield 65, 3) := dk_180 0 65 (dk_at dksX0_closes_0 6 rfl rfl)
theorem dX0_closes_9 : decode cX0_closes 9 = .ok (.getfield 378, 3) := dk_180 1 122 (dk_at dksX0_closes_0 9 rfl rfl)
theorem dX0_closes_12 : decode cX0_closes 12 = .ok (.if_icmp .ge 225, 3) := dk_162 0 225 (dk_at dksX0_closes_0 12 rfl rfl)
theorem dX0_closes_15 : decode cX0_closes 15 = .ok (.aload_n 0, 1) := dk_42 (dk_at dksX0_closes_0 15 rfl rfl)
theorem dX0_closes_16 : decode cX0_closes 16 = .ok (.getfield 65, 3) := dk_180 0 65 (dk_at dksX0_closes_0 16 rfl rfl)
theorem dX0_closes_19 : decode cX0_closes 19 = .ok (.getfield 380, 3) := dk_180 1 124 (dk_at dksX0_closes_0 19 rfl rfl)
theorem dX0_closes_22 : decode cX0_closes 22 = .ok (.iload 4, 2) := dk_21 4 (dk_at dksX0_closes_0 22 rfl rfl)
theorem dX0_closes_24 : decode cX0_closes 24 = .ok (.laload, 1) := dk_47 (dk_at dksX0_closes_1 0 rfl rfl)
theorem dX0_closes_25 : decode cX0_closes 25 = .ok (.lstore 5, 2) := dk_55 5 (dk_at dksX0_closes_1 1 rfl rfl)
theorem dX0_closes_27 : decode cX0_closes 27 = .ok (.aload_n 0, 1) := dk_42 (dk_at dksX0_closes_1 3 rfl rfl)
theorem dX0_closes_28 : decode cX0_closes 28 = .ok (.getfield 44, 3) := dk_180 0 44 (dk_at dksX0_closes_1 4 rfl rfl)
theorem dX0_closes_31 : decode cX0_closes 31 = .ok (.aload_n 1, 1) := dk_43 (dk_at dksX0_closes_1 7 rfl rfl)
theorem dX0_closes_32 : decode cX0_closes 32 = .ok (.lload 5, 2) := dk_22 5 (dk_at dksX0_closes_1 8 rfl rfl)
theorem dX0_closes_34 : decode cX0_closes 34 = .ok (.invokevirtual 151, 3) := dk_182 0 151 (dk_at dksX0_closes_1 10 rfl rfl)
theorem dX0_closes_37 : decode cX0_closes 37 = .ok (.pop, 1) := dk_87 (dk_at dksX0_closes_1 13 rfl rfl)
theorem dX0_closes_38 : decode cX0_closes 38 = .ok (.iconst 0, 1) := dk_3 (dk_at dksX0_closes_1 14 rfl rfl)
theorem dX0_closes_39 : decode cX0_closes 39 = .ok (.istore 7, 2) := dk_54 7 (dk_at dksX0_closes_1 15 rfl rfl)
theorem dX0_closes_41 : decode cX0_closes 41 = .ok (.iload 7, 2) := dk_21 7 (dk_at dksX0_closes_1 17 rfl rfl)
theorem dX0_closes_43 : decode cX0_closes 43 = .ok (.aload_n 1, 1) := dk_43 (dk_at dksX0_closes_1 19 rfl rfl)
theorem dX0_closes_44 : decode cX0_closes 44 = .ok (.getfield 201, 3) := dk_180 0 201 (dk_at dksX0_closes_1 20 rfl rfl)
theorem dX0_closes_47 : decode cX0_closes 47 = .ok (.invokevirtual 133, 3) := dk_182 0 133 (dk_at dksX0_closes_2 0 rfl rfl)
theorem dX0_closes_50 : decode cX0_closes 50 = .ok (.if_icmp .ge 181, 3) := dk_162 0 181 (dk_at dksX0_closes_2 3 rfl rfl)
theorem dX0_closes_53 : decode cX0_closes 53 = .ok (.iconst 0, 1) := dk_3 (dk_at dksX0_closes_2 6 rfl rfl)
theorem dX0_closes_54 : decode cX0_closes 54 = .ok (.istore 8, 2) := dk_54 8 (dk_at dksX0_closes_2 7 rfl rfl)
theorem dX0_closes_56 : decode cX0_closes 56 = .ok (.iload 8, 2) := dk_21 8 (dk_at dksX0_closes_2 9 rfl rfl)
theorem dX0_closes_58 : decode cX0_closes 58 = .ok (.aload_n 1, 1) := dk_43 (dk_at dksX0_closes_2 11 rfl rfl)
theorem dX0_closes_59 : decode cX0_closes 59 = .ok (.getfield 201, 3) := dk_180 0 201 (dk_at dksX0_closes_2 12 rfl rfl)
theorem dX0_closes_62 : decode cX0_closes 62 = .ok (.invokevirtual 133, 3) := dk_182 0 133 (dk_at dksX0_closes_2 15 rfl rfl)
theorem dX0_closes_65 : decode cX0_closes 65 = .ok (.if_icmp .ge 160, 3) := dk_162 0 160 (dk_at dksX0_closes_2 18 rfl rfl)
theorem dX0_closes_68 : decode cX0_closes 68 = .ok (.aload_n 0, 1) := dk_42 (dk_at dksX0_closes_2 21 rfl rfl)
theorem dX0_closes_69 : decode cX0_closes 69 = .ok (.getfield 44, 3) := dk_180 0 44 (dk_at dksX0_closes_3 0 rfl rfl)
theorem dX0_closes_72 : decode cX0_closes 72 = .ok (.iload 7, 2) := dk_21 7 (dk_at dksX0_closes_3 3 rfl rfl)
theorem dX0_closes_74 : decode cX0_closes 74 = .ok (.iload 8, 2) := dk_21 8 (dk_at dksX0_closes_3 5 rfl rfl)
theorem dX0_closes_76 : decode cX0_closes 76 = .ok (.invokevirtual 227, 3) := dk_182 0 227 (dk_at dksX0_closes_3 7 rfl rfl)
theorem dX0_closes_79 : decode cX0_closes 79 = .ok (.ifCond .ne 37, 3) := dk_154 0 37 (dk_at dksX0_closes_3 10 rfl rfl)
theorem dX0_closes_82 : decode cX0_closes 82 = .ok (.aload_n 0, 1) := dk_42 (dk_at dksX0_closes_3 13 rfl rfl)
theorem dX0_closes_83 : decode cX0_closes 83 = .ok (.lload 5, 2) := dk_22 5 (dk_at dksX0_closes_3 14 rfl rfl)
theorem dX0_closes_85 : decode cX0_closes 85 = .ok (.aload_n 0, 1) := dk_42 (dk_at dksX0_closes_3 16 rfl rfl)
theorem dX0_closes_86 : decode cX0_closes 86 = .ok (.getfield 44, 3) := dk_180 0 44 (dk_at dksX0_closes_3 17 rfl rfl)
theorem dX0_closes_89 : decode cX0_closes 89 = .ok (.iload 7, 2) := dk_21 7 (dk_at dksX0_closes_3 20 rfl rfl)
theorem dX0_closes_91 : decode cX0_closes 91 = .ok (.invokevirtual 249, 3) := dk_182 0 249 (dk_at dksX0_closes_4 0 rfl rfl)
theorem dX0_closes_94 : decode cX0_closes 94 = .ok (.iconst 3, 1) := dk_6 (dk_at dksX0_closes_4 3 rfl rfl)
theorem dX0_closes_95 : decode cX0_closes 95 = .ok (.iload 8, 2) := dk_21 8 (dk_at dksX0_closes_4 4 rfl rfl)
theorem dX0_closes_97 : decode cX0_closes 97 = .ok (.imul, 1) := dk_104 (dk_at dksX0_closes_4 6 rfl rfl)
theorem dX0_closes_98 : decode cX0_closes 98 = .ok (.aload_n 0, 1) := dk_42 (dk_at dksX0_closes_4 7 rfl rfl)
theorem dX0_closes_99 : decode cX0_closes 99 = .ok (.getfield 44, 3) := dk_180 0 44 (dk_at dksX0_closes_4 8 rfl rfl)
theorem dX0_closes_102 : decode cX0_closes 102 = .ok (.getfield 208, 3) := dk_180 0 208 (dk_at dksX0_closes_4 11 rfl rfl)
theorem dX0_closes_105 : decode cX0_closes 105 = .ok (.iload 8, 2) := dk_21 8 (dk_at dksX0_closes_4 14 rfl rfl)
theorem dX0_closes_107 : decode cX0_closes 107 = .ok (.iaload, 1) := dk_46 (dk_at dksX0_closes_4 16 rfl rfl)
theorem dX0_closes_108 : decode cX0_closes 108 = .ok (.iadd, 1) := dk_96 (dk_at dksX0_closes_4 17 rfl rfl)
theorem dX0_closes_109 : decode cX0_closes 109 = .ok (.invokestatic 384, 3) := dk_184 1 128 (dk_at dksX0_closes_4 18 rfl rfl)
theorem dX0_closes_112 : decode cX0_closes 112 = .ok (.iload_n 3, 1) := dk_29 (dk_at dksX0_closes_4 21 rfl rfl)
theorem dX0_closes_113 : decode cX0_closes 113 = .ok (.invokevirtual 387, 3) := dk_182 1 131 (dk_at dksX0_closes_5 0 rfl rfl)
theorem dX0_closes_116 : decode cX0_closes 116 = .ok (.iload 7, 2) := dk_21 7 (dk_at dksX0_closes_5 3 rfl rfl)
theorem dX0_closes_118 : decode cX0_closes 118 = .ok (.iload 8, 2) := dk_21 8 (dk_at dksX0_closes_5 5 rfl rfl)
theorem dX0_closes_120 : decode cX0_closes 120 = .ok (.if_icmp .ge 82, 3) := dk_162 0 82 (dk_at dksX0_closes_5 7 rfl rfl)
theorem dX0_closes_123 : decode cX0_closes 123 = .ok (.aload_n 0, 1) := dk_42 (dk_at dksX0_closes_5 10 rfl rfl)
theorem dX0_closes_124 : decode cX0_closes 124 = .ok (.getfield 44, 3) := dk_180 0 44 (dk_at dksX0_closes_5 11 rfl rfl)
theorem dX0_closes_127 : decode cX0_closes 127 = .ok (.iload 7, 2) := dk_21 7 (dk_at dksX0_closes_5 14 rfl rfl)
theorem dX0_closes_129 : decode cX0_closes 129 = .ok (.iload 8, 2) := dk_21 8 (dk_at dksX0_closes_5 16 rfl rfl)
theorem dX0_closes_131 : decode cX0_closes 131 = .ok (.invokevirtual 230, 3) := dk_182 0 230 (dk_at dksX0_closes_5 18 rfl rfl)
theorem dX0_closes_134 : decode cX0_closes 134 = .ok (.ifCond .ne 68, 3) := dk_154 0 68 (dk_at dksX0_closes_5 21 rfl rfl)
theorem dX0_closes_137 : decode cX0_closes 137 = .ok (.aload_n 0, 1) := dk_42 (dk_at dksX0_closes_6 0 rfl rfl)
theorem dX0_closes_138 : decode cX0_closes 138 = .ok (.lload 5, 2) := dk_22 5 (dk_at dksX0_closes_6 1 rfl rfl)
theorem dX0_closes_140 : decode cX0_closes 140 = .ok (.aload_n 0, 1) := dk_42 (dk_at dksX0_closes_6 3 rfl rfl)
theorem dX0_closes_141 : decode cX0_closes 141 = .ok (.getfield 44, 3) := dk_180 0 44 (dk_at dksX0_closes_6 4 rfl rfl)
theorem dX0_closes_144 : decode cX0_closes 144 = .ok (.iload 7, 2) := dk_21 7 (dk_at dksX0_closes_6 7 rfl rfl)
theorem dX0_closes_146 : decode cX0_closes 146 = .ok (.invokevirtual 249, 3) := dk_182 0 249 (dk_at dksX0_closes_6 9 rfl rfl)
theorem dX0_closes_149 : decode cX0_closes 149 = .ok (.iconst 3, 1) := dk_6 (dk_at dksX0_closes_6 12 rfl rfl)
theorem dX0_closes_150 : decode cX0_closes 150 = .ok (.iload 8, 2) := dk_21 8 (dk_at dksX0_closes_6 13 rfl rfl)
theorem dX0_closes_152 : decode cX0_closes 152 = .ok (.imul, 1) := dk_104 (dk_at dksX0_closes_6 15 rfl rfl)
theorem dX0_closes_153 : decode cX0_closes 153 = .ok (.aload_n 0, 1) := dk_42 (dk_at dksX0_closes_6 16 rfl rfl)
theorem dX0_closes_154 : decode cX0_closes 154 = .ok (.getfield 44, 3) := dk_180 0 44 (dk_at dksX0_closes_6 17 rfl rfl)
theorem dX0_closes_157 : decode cX0_closes 157 = .ok (.getfield 208, 3) := dk_180 0 208 (dk_at dksX0_closes_6 20 rfl rfl)
theorem dX0_closes_160 : decode cX0_closes 160 = .ok (.iload 8, 2) := dk_21 8 (dk_at dksX0_closes_7 0 rfl rfl)
theorem dX0_closes_162 : decode cX0_closes 162 = .ok (.iaload, 1) := dk_46 (dk_at dksX0_closes_7 2 rfl rfl)
theorem dX0_closes_163 : decode cX0_closes 163 = .ok (.iadd, 1) := dk_96 (dk_at dksX0_closes_7 3 rfl rfl)
theorem dX0_closes_164 : decode cX0_closes 164 = .ok (.iconst 1, 1) := dk_4 (dk_at dksX0_closes_7 4 rfl rfl)
theorem dX0_closes_165 : decode cX0_closes 165 = .ok (.isub, 1) := dk_100 (dk_at dksX0_closes_7 5 rfl rfl)
theorem dX0_closes_166 : decode cX0_closes 166 = .ok (.invokestatic 384, 3) := dk_184 1 128 (dk_at dksX0_closes_7 6 rfl rfl)
theorem dX0_closes_169 : decode cX0_closes 169 = .ok (.aload_n 0, 1) := dk_42 (dk_at dksX0_closes_7 9 rfl rfl)
theorem dX0_closes_170 : decode cX0_closes 170 = .ok (.getfield 44, 3) := dk_180 0 44 (dk_at dksX0_closes_7 10 rfl rfl)
theorem dX0_closes_173 : decode cX0_closes 173 = .ok (.iload 8, 2) := dk_21 8 (dk_at dksX0_closes_7 13 rfl rfl)
theorem dX0_closes_175 : decode cX0_closes 175 = .ok (.invokevirtual 249, 3) := dk_182 0 249 (dk_at dksX0_closes_7 15 rfl rfl)
theorem dX0_closes_178 : decode cX0_closes 178 = .ok (.iconst 3, 1) := dk_6 (dk_at dksX0_closes_7 18 rfl rfl)
theorem dX0_closes_179 : decode cX0_closes 179 = .ok (.iload 7, 2) := dk_21 7 (dk_at dksX0_closes_7 19 rfl rfl)
theorem dX0_closes_181 : decode cX0_closes 181 = .ok (.imul, 1) := dk_104 (dk_at dksX0_closes_7 21 rfl rfl)
theorem dX0_closes_182 : decode cX0_closes 182 = .ok (.aload_n 0, 1) := dk_42 (dk_at dksX0_closes_7 22 rfl rfl)
theorem dX0_closes_183 : decode cX0_closes 183 = .ok (.getfield 44, 3) := dk_180 0 44 (dk_at dksX0_closes_8 0 rfl rfl)
theorem dX0_closes_186 : decode cX0_closes 186 = .ok (.getfield 208, 3) := dk_180 0 208 (dk_at dksX0_closes_8 3 rfl rfl)
theorem dX0_closes_189 : decode cX0_closes 189 = .ok (.iload 7, 2) := dk_21 7 (dk_at dksX0_closes_8 6 rfl rfl)
theorem dX0_closes_191 : decode cX0_closes 191 = .ok (.iaload, 1) := dk_46 (dk_at dksX0_closes_8 8 rfl rfl)
theorem dX0_closes_192 : decode cX0_closes 192 = .ok (.iadd, 1) := dk_96 (dk_at dksX0_closes_8 9 rfl rfl)
theorem dX0_closes_193 : decode cX0_closes 193 = .ok (.iconst 1, 1) := dk_4 (dk_at dksX0_closes_8 10 rfl rfl)
theorem dX0_closes_194 : decode cX0_closes 194 = .ok (.isub, 1) := dk_100 (dk_at dksX0_closes_8 11 rfl rfl)
theorem dX0_closes_195 : decode cX0_closes 195 = .ok (.invokestatic 384, 3) := dk_184 1 128 (dk_at dksX0_closes_8 12 rfl rfl)
theorem dX0_closes_198 : decode cX0_closes 198 = .ok (.iload_n 3, 1) := dk_29 (dk_at dksX0_closes_8 15 rfl rfl)
theorem dX0_closes_199 : decode cX0_closes 199 = .ok (.invokevirtual 387, 3) := dk_182 1 131 (dk_at dksX0_closes_8 16 rfl rfl)
theorem dX0_closes_202 : decode cX0_closes 202 = .ok (.iload_n 2, 1) := dk_28 (dk_at dksX0_closes_8 19 rfl rfl)
theorem dX0_closes_203 : decode cX0_closes 203 = .ok (.aload_n 0, 1) := dk_42 (dk_at dksX0_closes_8 20 rfl rfl)
theorem dX0_closes_204 : decode cX0_closes 204 = .ok (.getfield 65, 3) := dk_180 0 65 (dk_at dksX0_closes_8 21 rfl rfl)
theorem dX0_closes_207 : decode cX0_closes 207 = .ok (.getfield 378, 3) := dk_180 1 122 (dk_at dksX0_closes_9 0 rfl rfl)
theorem dX0_closes_210 : decode cX0_closes 210 = .ok (.iadd, 1) := dk_96 (dk_at dksX0_closes_9 3 rfl rfl)
theorem dX0_closes_211 : decode cX0_closes 211 = .ok (.sipush 6000, 3) := dk_17 23 112 (dk_at dksX0_closes_9 4 rfl rfl)
theorem dX0_closes_214 : decode cX0_closes 214 = .ok (.if_icmp .le 5, 3) := dk_164 0 5 (dk_at dksX0_closes_9 7 rfl rfl)
theorem dX0_closes_217 : decode cX0_closes 217 = .ok (.iconst 0, 1) := dk_3 (dk_at dksX0_closes_9 10 rfl rfl)
theorem dX0_closes_218 : decode cX0_closes 218 = .ok (.ireturn, 1) := dk_172 (dk_at dksX0_closes_9 11 rfl rfl)
theorem dX0_closes_219 : decode cX0_closes 219 = .ok (.iinc 8 1, 3) := dk_132 8 1 (dk_at dksX0_closes_9 12 rfl rfl)
theorem dX0_closes_222 : decode cX0_closes 222 = .ok (.goto (-166), 3) := dk_167 255 90 (dk_at dksX0_closes_9 15 rfl rfl)
theorem dX0_closes_225 : decode cX0_closes 225 = .ok (.iinc 7 1, 3) := dk_132 7 1 (dk_at dksX0_closes_9 18 rfl rfl)
theorem dX0_closes_228 : decode cX0_closes 228 = .ok (.goto (-187), 3) := dk_167 255 69 (dk_at dksX0_closes_9 21 rfl rfl)
theorem dX0_closes_231 : decode cX0_closes 231 = .ok (.iinc 4 1, 3) := dk_132 4 1 (dk_at dksX0_closes_10 0 rfl rfl)
theorem dX0_closes_234 : decode cX0_closes 234 = .ok (.goto (-231), 3) := dk_167 255 25 (dk_at dksX0_closes_10 3 rfl rfl)
theorem dX0_closes_237 : decode cX0_closes 237 = .ok (.iconst 1, 1) := dk_4 (dk_at dksX0_closes_10 6 rfl rfl)
theorem dX0_closes_238 : decode cX0_closes 238 = .ok (.ireturn, 1) := dk_172 (dk_at dksX0_closes_10 7 rfl rfl)
abbrev cX0_to : ByteArray := prog_1_method_44_code
def yX0_to : MethodName := ⟨RX0, "to", "(JII)J"⟩
def dkwX0_to_1 : List UInt8 := [96, 121, 129, 173]
abbrev dktX0_to_1 : List UInt8 := dkwX0_to_1 ++ []
def dkwX0_to_0 : List UInt8 := [30, 20, 0, 145, 7, 28, 104, 121, 20, 0, 166, 131, 127, 29, 133, 7, 28, 104, 121, 129, 10, 16, 32, 28]
abbrev dktX0_to_0 : List UInt8 := dkwX0_to_0 ++ dktX0_to_1
theorem dksX0_to_0 : cX0_to.data.toList.drop 0 = dktX0_to_0 := by decide +kernel
theorem dksX0_to_1 : cX0_to.data.toList.drop 24 = dktX0_to_1 := dk_seg dksX0_to_0 24 rfl rfl
theorem dX0_to_0 : decode cX0_to 0 = .ok (.lload_n 0, 1) := dk_30 (dk_at dksX0_to_0 0 rfl rfl)
theorem dX0_to_1 : decode cX0_to 1 = .ok (.ldc2_w 145, 3) := dk_20 0 145 (dk_at dksX0_to_0 1 rfl rfl)
theorem dX0_to_4 : decode cX0_to 4 = .ok (.iconst 4, 1) := dk_7 (dk_at dksX0_to_0 4 rfl rfl)
theorem dX0_to_5 : decode cX0_to 5 = .ok (.iload_n 2, 1) := dk_28 (dk_at dksX0_to_0 5 rfl rfl)
theorem dX0_to_6 : decode cX0_to 6 = .ok (.imul, 1) := dk_104 (dk_at dksX0_to_0 6 rfl rfl)
theorem dX0_to_7 : decode cX0_to 7 = .ok (.lshl, 1) := dk_121 (dk_at dksX0_to_0 7 rfl rfl)
theorem dX0_to_8 : decode cX0_to 8 = .ok (.ldc2_w 166, 3) := dk_20 0 166 (dk_at dksX0_to_0 8 rfl rfl)
theorem dX0_to_11 : decode cX0_to 11 = .ok (.lxor, 1) := dk_131 (dk_at dksX0_to_0 11 rfl rfl)
theorem dX0_to_12 : decode cX0_to 12 = .ok (.land, 1) := dk_127 (dk_at dksX0_to_0 12 rfl rfl)
theorem dX0_to_13 : decode cX0_to 13 = .ok (.iload_n 3, 1) := dk_29 (dk_at dksX0_to_0 13 rfl rfl)
theorem dX0_to_14 : decode cX0_to 14 = .ok (.i2l, 1) := dk_133 (dk_at dksX0_to_0 14 rfl rfl)
theorem dX0_to_15 : decode cX0_to 15 = .ok (.iconst 4, 1) := dk_7 (dk_at dksX0_to_0 15 rfl rfl)
theorem dX0_to_16 : decode cX0_to 16 = .ok (.iload_n 2, 1) := dk_28 (dk_at dksX0_to_0 16 rfl rfl)
theorem dX0_to_17 : decode cX0_to 17 = .ok (.imul, 1) := dk_104 (dk_at dksX0_to_0 17 rfl rfl)
theorem dX0_to_18 : decode cX0_to 18 = .ok (.lshl, 1) := dk_121 (dk_at dksX0_to_0 18 rfl rfl)
theorem dX0_to_19 : decode cX0_to 19 = .ok (.lor, 1) := dk_129 (dk_at dksX0_to_0 19 rfl rfl)
theorem dX0_to_20 : decode cX0_to 20 = .ok (.lconst 1, 1) := dk_10 (dk_at dksX0_to_0 20 rfl rfl)
theorem dX0_to_21 : decode cX0_to 21 = .ok (.bipush 32, 2) := dk_16 32 (dk_at dksX0_to_0 21 rfl rfl)
theorem dX0_to_23 : decode cX0_to 23 = .ok (.iload_n 2, 1) := dk_28 (dk_at dksX0_to_0 23 rfl rfl)
theorem dX0_to_24 : decode cX0_to 24 = .ok (.iadd, 1) := dk_96 (dk_at dksX0_to_1 0 rfl rfl)
theorem dX0_to_25 : decode cX0_to 25 = .ok (.lshl, 1) := dk_121 (dk_at dksX0_to_1 1 rfl rfl)
theorem dX0_to_26 : decode cX0_to 26 = .ok (.lor, 1) := dk_129 (dk_at dksX0_to_1 2 rfl rfl)
theorem dX0_to_27 : decode cX0_to 27 = .ok (.lreturn, 1) := dk_173 (dk_at dksX0_to_1 3 rfl rfl)
abbrev cX0_comes : ByteArray := prog_1_method_45_code
def yX0_comes : MethodName := ⟨RX0, "comes", "(JZ)V"⟩
def dkwX0_comes_0 : List UInt8 := [42, 180, 0, 65, 29, 153, 0, 10, 31, 184, 0, 255, 167, 0, 4, 31, 182, 1, 135, 87, 177]
abbrev dktX0_comes_0 : List UInt8 := dkwX0_comes_0 ++ []
theorem dksX0_comes_0 : cX0_comes.data.toList.drop 0 = dktX0_comes_0 := by decide +kernel
theorem dX0_comes_0 : decode cX0_comes 0 = .ok (.aload_n 0, 1) := dk_42 (dk_at dksX0_comes_0 0 rfl rfl)
theorem dX0_comes_1 : decode cX0_comes 1 = .ok (.getfield 65, 3) := dk_180 0 65 (dk_at dksX0_comes_0 1 rfl rfl)
theorem dX0_comes_4 : decode cX0_comes 4 = .ok (.iload_n 3, 1) := dk_29 (dk_at dksX0_comes_0 4 rfl rfl)
theorem dX0_comes_5 : decode cX0_comes 5 = .ok (.ifCond .eq 10, 3) := dk_153 0 10 (dk_at dksX0_comes_0 5 rfl rfl)
theorem dX0_comes_8 : decode cX0_comes 8 = .ok (.lload_n 1, 1) := dk_31 (dk_at dksX0_comes_0 8 rfl rfl)
theorem dX0_comes_9 : decode cX0_comes 9 = .ok (.invokestatic 255, 3) := dk_184 0 255 (dk_at dksX0_comes_0 9 rfl rfl)
theorem dX0_comes_12 : decode cX0_comes 12 = .ok (.goto 4, 3) := dk_167 0 4 (dk_at dksX0_comes_0 12 rfl rfl)
theorem dX0_comes_15 : decode cX0_comes 15 = .ok (.lload_n 1, 1) := dk_31 (dk_at dksX0_comes_0 15 rfl rfl)
theorem dX0_comes_16 : decode cX0_comes 16 = .ok (.invokevirtual 391, 3) := dk_182 1 135 (dk_at dksX0_comes_0 16 rfl rfl)
theorem dX0_comes_19 : decode cX0_comes 19 = .ok (.pop, 1) := dk_87 (dk_at dksX0_comes_0 19 rfl rfl)
theorem dX0_comes_20 : decode cX0_comes 20 = .ok (.return_, 1) := dk_177 (dk_at dksX0_comes_0 20 rfl rfl)
abbrev cX0_isAnyDone : ByteArray := prog_1_method_46_code
def yX0_isAnyDone : MethodName := ⟨RX0, "isAnyDone", "(LStoneYear$Town;I)Z"⟩
def dkwX0_isAnyDone_2 : List UInt8 := [172]
abbrev dktX0_isAnyDone_2 : List UInt8 := dkwX0_isAnyDone_2 ++ []
def dkwX0_isAnyDone_1 : List UInt8 := [180, 1, 124, 29, 47, 182, 0, 151, 28, 182, 1, 33, 153, 0, 5, 4, 172, 132, 3, 1, 167, 255, 216, 3]
abbrev dktX0_isAnyDone_1 : List UInt8 := dkwX0_isAnyDone_1 ++ dktX0_isAnyDone_2
def dkwX0_isAnyDone_0 : List UInt8 := [3, 62, 29, 42, 180, 0, 65, 180, 1, 122, 162, 0, 35, 42, 180, 0, 44, 43, 42, 180, 0, 65]
abbrev dktX0_isAnyDone_0 : List UInt8 := dkwX0_isAnyDone_0 ++ dktX0_isAnyDone_1
theorem dksX0_isAnyDone_0 : cX0_isAnyDone.data.toList.drop 0 = dktX0_isAnyDone_0 := by decide +kernel
theorem dksX0_isAnyDone_1 : cX0_isAnyDone.data.toList.drop 22 = dktX0_isAnyDone_1 := dk_seg dksX0_isAnyDone_0 22 rfl rfl
theorem dksX0_isAnyDone_2 : cX0_isAnyDone.data.toList.drop 46 = dktX0_isAnyDone_2 := dk_seg dksX0_isAnyDone_1 24 rfl rfl
theorem dX0_isAnyDone_0 : decode cX0_isAnyDone 0 = .ok (.iconst 0, 1) := dk_3 (dk_at dksX0_isAnyDone_0 0 rfl rfl)
theorem dX0_isAnyDone_1 : decode cX0_isAnyDone 1 = .ok (.istore_n 3, 1) := dk_62 (dk_at dksX0_isAnyDone_0 1 rfl rfl)
theorem dX0_isAnyDone_2 : decode cX0_isAnyDone 2 = .ok (.iload_n 3, 1) := dk_29 (dk_at dksX0_isAnyDone_0 2 rfl rfl)
theorem dX0_isAnyDone_3 : decode cX0_isAnyDone 3 = .ok (.aload_n 0, 1) := dk_42 (dk_at dksX0_isAnyDone_0 3 rfl rfl)
theorem dX0_isAnyDone_4 : decode cX0_isAnyDone 4 = .ok (.getfield 65, 3) := dk_180 0 65 (dk_at dksX0_isAnyDone_0 4 rfl rfl)
theorem dX0_isAnyDone_7 : decode cX0_isAnyDone 7 = .ok (.getfield 378, 3) := dk_180 1 122 (dk_at dksX0_isAnyDone_0 7 rfl rfl)
theorem dX0_isAnyDone_10 : decode cX0_isAnyDone 10 = .ok (.if_icmp .ge 35, 3) := dk_162 0 35 (dk_at dksX0_isAnyDone_0 10 rfl rfl)
theorem dX0_isAnyDone_13 : decode cX0_isAnyDone 13 = .ok (.aload_n 0, 1) := dk_42 (dk_at dksX0_isAnyDone_0 13 rfl rfl)
theorem dX0_isAnyDone_14 : decode cX0_isAnyDone 14 = .ok (.getfield 44, 3) := dk_180 0 44 (dk_at dksX0_isAnyDone_0 14 rfl rfl)
theorem dX0_isAnyDone_17 : decode cX0_isAnyDone 17 = .ok (.aload_n 1, 1) := dk_43 (dk_at dksX0_isAnyDone_0 17 rfl rfl)
theorem dX0_isAnyDone_18 : decode cX0_isAnyDone 18 = .ok (.aload_n 0, 1) := dk_42 (dk_at dksX0_isAnyDone_0 18 rfl rfl)
theorem dX0_isAnyDone_19 : decode cX0_isAnyDone 19 = .ok (.getfield 65, 3) := dk_180 0 65 (dk_at dksX0_isAnyDone_0 19 rfl rfl)
theorem dX0_isAnyDone_22 : decode cX0_isAnyDone 22 = .ok (.getfield 380, 3) := dk_180 1 124 (dk_at dksX0_isAnyDone_1 0 rfl rfl)
theorem dX0_isAnyDone_25 : decode cX0_isAnyDone 25 = .ok (.iload_n 3, 1) := dk_29 (dk_at dksX0_isAnyDone_1 3 rfl rfl)
theorem dX0_isAnyDone_26 : decode cX0_isAnyDone 26 = .ok (.laload, 1) := dk_47 (dk_at dksX0_isAnyDone_1 4 rfl rfl)
theorem dX0_isAnyDone_27 : decode cX0_isAnyDone 27 = .ok (.invokevirtual 151, 3) := dk_182 0 151 (dk_at dksX0_isAnyDone_1 5 rfl rfl)
theorem dX0_isAnyDone_30 : decode cX0_isAnyDone 30 = .ok (.iload_n 2, 1) := dk_28 (dk_at dksX0_isAnyDone_1 8 rfl rfl)
theorem dX0_isAnyDone_31 : decode cX0_isAnyDone 31 = .ok (.invokevirtual 289, 3) := dk_182 1 33 (dk_at dksX0_isAnyDone_1 9 rfl rfl)
theorem dX0_isAnyDone_34 : decode cX0_isAnyDone 34 = .ok (.ifCond .eq 5, 3) := dk_153 0 5 (dk_at dksX0_isAnyDone_1 12 rfl rfl)
theorem dX0_isAnyDone_37 : decode cX0_isAnyDone 37 = .ok (.iconst 1, 1) := dk_4 (dk_at dksX0_isAnyDone_1 15 rfl rfl)
theorem dX0_isAnyDone_38 : decode cX0_isAnyDone 38 = .ok (.ireturn, 1) := dk_172 (dk_at dksX0_isAnyDone_1 16 rfl rfl)
theorem dX0_isAnyDone_39 : decode cX0_isAnyDone 39 = .ok (.iinc 3 1, 3) := dk_132 3 1 (dk_at dksX0_isAnyDone_1 17 rfl rfl)
theorem dX0_isAnyDone_42 : decode cX0_isAnyDone 42 = .ok (.goto (-40), 3) := dk_167 255 216 (dk_at dksX0_isAnyDone_1 20 rfl rfl)
theorem dX0_isAnyDone_45 : decode cX0_isAnyDone 45 = .ok (.iconst 0, 1) := dk_3 (dk_at dksX0_isAnyDone_1 23 rfl rfl)
theorem dX0_isAnyDone_46 : decode cX0_isAnyDone 46 = .ok (.ireturn, 1) := dk_172 (dk_at dksX0_isAnyDone_2 0 rfl rfl)
abbrev cX0_begins : ByteArray := prog_1_method_47_code
def yX0_begins : MethodName := ⟨RX0, "begins", "()Z"⟩
def dkwX0_begins_5 : List UInt8 := [180, 0, 69, 180, 1, 122, 27, 164, 0, 7, 4, 167, 0, 4, 3, 172]
abbrev dktX0_begins_5 : List UInt8 := dkwX0_begins_5 ++ []
def dkwX0_begins_4 : List UInt8 := [180, 0, 65, 42, 180, 0, 69, 180, 1, 124, 28, 47, 182, 1, 135, 87, 132, 2, 1, 167, 255, 225, 42]
abbrev dktX0_begins_4 : List UInt8 := dkwX0_begins_4 ++ dktX0_begins_5
def dkwX0_begins_3 : List UInt8 := [167, 255, 196, 42, 180, 0, 65, 182, 1, 141, 27, 61, 28, 42, 180, 0, 69, 180, 1, 122, 162, 0, 26, 42]
abbrev dktX0_begins_3 : List UInt8 := dkwX0_begins_3 ++ dktX0_begins_4
def dkwX0_begins_2 : List UInt8 := [66, 42, 180, 0, 69, 33, 182, 1, 139, 154, 0, 12, 42, 180, 0, 69, 33, 182, 1, 135, 87, 132, 2, 1]
abbrev dktX0_begins_2 : List UInt8 := dkwX0_begins_2 ++ dktX0_begins_3
def dkwX0_begins_1 : List UInt8 := [180, 0, 69, 180, 1, 122, 17, 23, 112, 163, 0, 42, 42, 180, 0, 65, 180, 1, 124, 28, 47, 184, 0, 255]
abbrev dktX0_begins_1 : List UInt8 := dkwX0_begins_1 ++ dktX0_begins_2
def dkwX0_begins_0 : List UInt8 := [42, 180, 0, 69, 180, 1, 122, 60, 3, 61, 28, 42, 180, 0, 65, 180, 1, 122, 162, 0, 55, 42]
abbrev dktX0_begins_0 : List UInt8 := dkwX0_begins_0 ++ dktX0_begins_1
theorem dksX0_begins_0 : cX0_begins.data.toList.drop 0 = dktX0_begins_0 := by decide +kernel
theorem dksX0_begins_1 : cX0_begins.data.toList.drop 22 = dktX0_begins_1 := dk_seg dksX0_begins_0 22 rfl rfl
theorem dksX0_begins_2 : cX0_begins.data.toList.drop 46 = dktX0_begins_2 := dk_seg dksX0_begins_1 24 rfl rfl
theorem dksX0_begins_3 : cX0_begins.data.toList.drop 70 = dktX0_begins_3 := dk_seg dksX0_begins_2 24 rfl rfl
theorem dksX0_begins_4 : cX0_begins.data.toList.drop 94 = dktX0_begins_4 := dk_seg dksX0_begins_3 24 rfl rfl
theorem dksX0_begins_5 : cX0_begins.data.toList.drop 117 = dktX0_begins_5 := dk_seg dksX0_begins_4 23 rfl rfl
theorem dX0_begins_0 : decode cX0_begins 0 = .ok (.aload_n 0, 1) := dk_42 (dk_at dksX0_begins_0 0 rfl rfl)
theorem dX0_begins_1 : decode cX0_begins 1 = .ok (.getfield 69, 3) := dk_180 0 69 (dk_at dksX0_begins_0 1 rfl rfl)
theorem dX0_begins_4 : decode cX0_begins 4 = .ok (.getfield 378, 3) := dk_180 1 122 (dk_at dksX0_begins_0 4 rfl rfl)
theorem dX0_begins_7 : decode cX0_begins 7 = .ok (.istore_n 1, 1) := dk_60 (dk_at dksX0_begins_0 7 rfl rfl)
theorem dX0_begins_8 : decode cX0_begins 8 = .ok (.iconst 0, 1) := dk_3 (dk_at dksX0_begins_0 8 rfl rfl)
theorem dX0_begins_9 : decode cX0_begins 9 = .ok (.istore_n 2, 1) := dk_61 (dk_at dksX0_begins_0 9 rfl rfl)
theorem dX0_begins_10 : decode cX0_begins 10 = .ok (.iload_n 2, 1) := dk_28 (dk_at dksX0_begins_0 10 rfl rfl)
theorem dX0_begins_11 : decode cX0_begins 11 = .ok (.aload_n 0, 1) := dk_42 (dk_at dksX0_begins_0 11 rfl rfl)
theorem dX0_begins_12 : decode cX0_begins 12 = .ok (.getfield 65, 3) := dk_180 0 65 (dk_at dksX0_begins_0 12 rfl rfl)
theorem dX0_begins_15 : decode cX0_begins 15 = .ok (.getfield 378, 3) := dk_180 1 122 (dk_at dksX0_begins_0 15 rfl rfl)
theorem dX0_begins_18 : decode cX0_begins 18 = .ok (.if_icmp .ge 55, 3) := dk_162 0 55 (dk_at dksX0_begins_0 18 rfl rfl)
theorem dX0_begins_21 : decode cX0_begins 21 = .ok (.aload_n 0, 1) := dk_42 (dk_at dksX0_begins_0 21 rfl rfl)
theorem dX0_begins_22 : decode cX0_begins 22 = .ok (.getfield 69, 3) := dk_180 0 69 (dk_at dksX0_begins_1 0 rfl rfl)
theorem dX0_begins_25 : decode cX0_begins 25 = .ok (.getfield 378, 3) := dk_180 1 122 (dk_at dksX0_begins_1 3 rfl rfl)
theorem dX0_begins_28 : decode cX0_begins 28 = .ok (.sipush 6000, 3) := dk_17 23 112 (dk_at dksX0_begins_1 6 rfl rfl)
theorem dX0_begins_31 : decode cX0_begins 31 = .ok (.if_icmp .gt 42, 3) := dk_163 0 42 (dk_at dksX0_begins_1 9 rfl rfl)
theorem dX0_begins_34 : decode cX0_begins 34 = .ok (.aload_n 0, 1) := dk_42 (dk_at dksX0_begins_1 12 rfl rfl)
theorem dX0_begins_35 : decode cX0_begins 35 = .ok (.getfield 65, 3) := dk_180 0 65 (dk_at dksX0_begins_1 13 rfl rfl)
theorem dX0_begins_38 : decode cX0_begins 38 = .ok (.getfield 380, 3) := dk_180 1 124 (dk_at dksX0_begins_1 16 rfl rfl)
theorem dX0_begins_41 : decode cX0_begins 41 = .ok (.iload_n 2, 1) := dk_28 (dk_at dksX0_begins_1 19 rfl rfl)
theorem dX0_begins_42 : decode cX0_begins 42 = .ok (.laload, 1) := dk_47 (dk_at dksX0_begins_1 20 rfl rfl)
theorem dX0_begins_43 : decode cX0_begins 43 = .ok (.invokestatic 255, 3) := dk_184 0 255 (dk_at dksX0_begins_1 21 rfl rfl)
theorem dX0_begins_46 : decode cX0_begins 46 = .ok (.lstore_n 3, 1) := dk_66 (dk_at dksX0_begins_2 0 rfl rfl)
theorem dX0_begins_47 : decode cX0_begins 47 = .ok (.aload_n 0, 1) := dk_42 (dk_at dksX0_begins_2 1 rfl rfl)
theorem dX0_begins_48 : decode cX0_begins 48 = .ok (.getfield 69, 3) := dk_180 0 69 (dk_at dksX0_begins_2 2 rfl rfl)
theorem dX0_begins_51 : decode cX0_begins 51 = .ok (.lload_n 3, 1) := dk_33 (dk_at dksX0_begins_2 5 rfl rfl)
theorem dX0_begins_52 : decode cX0_begins 52 = .ok (.invokevirtual 395, 3) := dk_182 1 139 (dk_at dksX0_begins_2 6 rfl rfl)
theorem dX0_begins_55 : decode cX0_begins 55 = .ok (.ifCond .ne 12, 3) := dk_154 0 12 (dk_at dksX0_begins_2 9 rfl rfl)
theorem dX0_begins_58 : decode cX0_begins 58 = .ok (.aload_n 0, 1) := dk_42 (dk_at dksX0_begins_2 12 rfl rfl)
theorem dX0_begins_59 : decode cX0_begins 59 = .ok (.getfield 69, 3) := dk_180 0 69 (dk_at dksX0_begins_2 13 rfl rfl)
theorem dX0_begins_62 : decode cX0_begins 62 = .ok (.lload_n 3, 1) := dk_33 (dk_at dksX0_begins_2 16 rfl rfl)
theorem dX0_begins_63 : decode cX0_begins 63 = .ok (.invokevirtual 391, 3) := dk_182 1 135 (dk_at dksX0_begins_2 17 rfl rfl)
theorem dX0_begins_66 : decode cX0_begins 66 = .ok (.pop, 1) := dk_87 (dk_at dksX0_begins_2 20 rfl rfl)
theorem dX0_begins_67 : decode cX0_begins 67 = .ok (.iinc 2 1, 3) := dk_132 2 1 (dk_at dksX0_begins_2 21 rfl rfl)
theorem dX0_begins_70 : decode cX0_begins 70 = .ok (.goto (-60), 3) := dk_167 255 196 (dk_at dksX0_begins_3 0 rfl rfl)
theorem dX0_begins_73 : decode cX0_begins 73 = .ok (.aload_n 0, 1) := dk_42 (dk_at dksX0_begins_3 3 rfl rfl)
theorem dX0_begins_74 : decode cX0_begins 74 = .ok (.getfield 65, 3) := dk_180 0 65 (dk_at dksX0_begins_3 4 rfl rfl)
theorem dX0_begins_77 : decode cX0_begins 77 = .ok (.invokevirtual 397, 3) := dk_182 1 141 (dk_at dksX0_begins_3 7 rfl rfl)
theorem dX0_begins_80 : decode cX0_begins 80 = .ok (.iload_n 1, 1) := dk_27 (dk_at dksX0_begins_3 10 rfl rfl)
theorem dX0_begins_81 : decode cX0_begins 81 = .ok (.istore_n 2, 1) := dk_61 (dk_at dksX0_begins_3 11 rfl rfl)
theorem dX0_begins_82 : decode cX0_begins 82 = .ok (.iload_n 2, 1) := dk_28 (dk_at dksX0_begins_3 12 rfl rfl)
theorem dX0_begins_83 : decode cX0_begins 83 = .ok (.aload_n 0, 1) := dk_42 (dk_at dksX0_begins_3 13 rfl rfl)
theorem dX0_begins_84 : decode cX0_begins 84 = .ok (.getfield 69, 3) := dk_180 0 69 (dk_at dksX0_begins_3 14 rfl rfl)
theorem dX0_begins_87 : decode cX0_begins 87 = .ok (.getfield 378, 3) := dk_180 1 122 (dk_at dksX0_begins_3 17 rfl rfl)
theorem dX0_begins_90 : decode cX0_begins 90 = .ok (.if_icmp .ge 26, 3) := dk_162 0 26 (dk_at dksX0_begins_3 20 rfl rfl)
theorem dX0_begins_93 : decode cX0_begins 93 = .ok (.aload_n 0, 1) := dk_42 (dk_at dksX0_begins_3 23 rfl rfl)
theorem dX0_begins_94 : decode cX0_begins 94 = .ok (.getfield 65, 3) := dk_180 0 65 (dk_at dksX0_begins_4 0 rfl rfl)
theorem dX0_begins_97 : decode cX0_begins 97 = .ok (.aload_n 0, 1) := dk_42 (dk_at dksX0_begins_4 3 rfl rfl)
theorem dX0_begins_98 : decode cX0_begins 98 = .ok (.getfield 69, 3) := dk_180 0 69 (dk_at dksX0_begins_4 4 rfl rfl)
theorem dX0_begins_101 : decode cX0_begins 101 = .ok (.getfield 380, 3) := dk_180 1 124 (dk_at dksX0_begins_4 7 rfl rfl)
theorem dX0_begins_104 : decode cX0_begins 104 = .ok (.iload_n 2, 1) := dk_28 (dk_at dksX0_begins_4 10 rfl rfl)
theorem dX0_begins_105 : decode cX0_begins 105 = .ok (.laload, 1) := dk_47 (dk_at dksX0_begins_4 11 rfl rfl)
theorem dX0_begins_106 : decode cX0_begins 106 = .ok (.invokevirtual 391, 3) := dk_182 1 135 (dk_at dksX0_begins_4 12 rfl rfl)
theorem dX0_begins_109 : decode cX0_begins 109 = .ok (.pop, 1) := dk_87 (dk_at dksX0_begins_4 15 rfl rfl)
theorem dX0_begins_110 : decode cX0_begins 110 = .ok (.iinc 2 1, 3) := dk_132 2 1 (dk_at dksX0_begins_4 16 rfl rfl)
theorem dX0_begins_113 : decode cX0_begins 113 = .ok (.goto (-31), 3) := dk_167 255 225 (dk_at dksX0_begins_4 19 rfl rfl)
theorem dX0_begins_116 : decode cX0_begins 116 = .ok (.aload_n 0, 1) := dk_42 (dk_at dksX0_begins_4 22 rfl rfl)
theorem dX0_begins_117 : decode cX0_begins 117 = .ok (.getfield 69, 3) := dk_180 0 69 (dk_at dksX0_begins_5 0 rfl rfl)
theorem dX0_begins_120 : decode cX0_begins 120 = .ok (.getfield 378, 3) := dk_180 1 122 (dk_at dksX0_begins_5 3 rfl rfl)
theorem dX0_begins_123 : decode cX0_begins 123 = .ok (.iload_n 1, 1) := dk_27 (dk_at dksX0_begins_5 6 rfl rfl)
theorem dX0_begins_124 : decode cX0_begins 124 = .ok (.if_icmp .le 7, 3) := dk_164 0 7 (dk_at dksX0_begins_5 7 rfl rfl)
theorem dX0_begins_127 : decode cX0_begins 127 = .ok (.iconst 1, 1) := dk_4 (dk_at dksX0_begins_5 10 rfl rfl)
theorem dX0_begins_128 : decode cX0_begins 128 = .ok (.goto 4, 3) := dk_167 0 4 (dk_at dksX0_begins_5 11 rfl rfl)
theorem dX0_begins_131 : decode cX0_begins 131 = .ok (.iconst 0, 1) := dk_3 (dk_at dksX0_begins_5 14 rfl rfl)
theorem dX0_begins_132 : decode cX0_begins 132 = .ok (.ireturn, 1) := dk_172 (dk_at dksX0_begins_5 15 rfl rfl)
abbrev cX0_states : ByteArray := prog_1_method_51_code
def yX0_states : MethodName := ⟨RX0, "states", "()I"⟩
theorem dX0_states_0 : decode cX0_states 0 = .ok (.aload_n 0, 1) := by decide +kernel
theorem dX0_states_1 : decode cX0_states 1 = .ok (.getfield 422, 3) := by decide +kernel
theorem dX0_states_4 : decode cX0_states 4 = .ok (.ireturn, 1) := by decide +kernel
abbrev cX0_after : ByteArray := prog_1_method_52_code
def yX0_after : MethodName := ⟨RX0, "after", "(II)I"⟩
def dkwX0_after_2 : List UInt8 := [182, 0, 243, 2, 2, 182, 1, 162, 172]
abbrev dktX0_after_2 : List UInt8 := dkwX0_after_2 ++ []
def dkwX0_after_1 : List UInt8 := [182, 0, 236, 87, 42, 42, 180, 0, 10, 180, 0, 91, 42, 180, 0, 40, 42, 180, 0, 10, 180, 0, 147]
abbrev dktX0_after_1 : List UInt8 := dkwX0_after_1 ++ dktX0_after_2
def dkwX0_after_0 : List UInt8 := [42, 182, 0, 195, 27, 28, 182, 0, 227, 153, 0, 6, 16, 251, 172, 42, 180, 0, 40, 27, 28, 4]
abbrev dktX0_after_0 : List UInt8 := dkwX0_after_0 ++ dktX0_after_1
theorem dksX0_after_0 : cX0_after.data.toList.drop 0 = dktX0_after_0 := by decide +kernel
theorem dksX0_after_1 : cX0_after.data.toList.drop 22 = dktX0_after_1 := dk_seg dksX0_after_0 22 rfl rfl
theorem dksX0_after_2 : cX0_after.data.toList.drop 45 = dktX0_after_2 := dk_seg dksX0_after_1 23 rfl rfl
theorem dX0_after_0 : decode cX0_after 0 = .ok (.aload_n 0, 1) := dk_42 (dk_at dksX0_after_0 0 rfl rfl)
theorem dX0_after_1 : decode cX0_after 1 = .ok (.invokevirtual 195, 3) := dk_182 0 195 (dk_at dksX0_after_0 1 rfl rfl)
theorem dX0_after_4 : decode cX0_after 4 = .ok (.iload_n 1, 1) := dk_27 (dk_at dksX0_after_0 4 rfl rfl)
theorem dX0_after_5 : decode cX0_after 5 = .ok (.iload_n 2, 1) := dk_28 (dk_at dksX0_after_0 5 rfl rfl)
theorem dX0_after_6 : decode cX0_after 6 = .ok (.invokevirtual 227, 3) := dk_182 0 227 (dk_at dksX0_after_0 6 rfl rfl)
theorem dX0_after_9 : decode cX0_after 9 = .ok (.ifCond .eq 6, 3) := dk_153 0 6 (dk_at dksX0_after_0 9 rfl rfl)
theorem dX0_after_12 : decode cX0_after 12 = .ok (.bipush (-5), 2) := dk_16 251 (dk_at dksX0_after_0 12 rfl rfl)
theorem dX0_after_14 : decode cX0_after 14 = .ok (.ireturn, 1) := dk_172 (dk_at dksX0_after_0 14 rfl rfl)
theorem dX0_after_15 : decode cX0_after 15 = .ok (.aload_n 0, 1) := dk_42 (dk_at dksX0_after_0 15 rfl rfl)
theorem dX0_after_16 : decode cX0_after 16 = .ok (.getfield 40, 3) := dk_180 0 40 (dk_at dksX0_after_0 16 rfl rfl)
theorem dX0_after_19 : decode cX0_after 19 = .ok (.iload_n 1, 1) := dk_27 (dk_at dksX0_after_0 19 rfl rfl)
theorem dX0_after_20 : decode cX0_after 20 = .ok (.iload_n 2, 1) := dk_28 (dk_at dksX0_after_0 20 rfl rfl)
theorem dX0_after_21 : decode cX0_after 21 = .ok (.iconst 1, 1) := dk_4 (dk_at dksX0_after_0 21 rfl rfl)
theorem dX0_after_22 : decode cX0_after 22 = .ok (.invokevirtual 236, 3) := dk_182 0 236 (dk_at dksX0_after_1 0 rfl rfl)
theorem dX0_after_25 : decode cX0_after 25 = .ok (.pop, 1) := dk_87 (dk_at dksX0_after_1 3 rfl rfl)
theorem dX0_after_26 : decode cX0_after 26 = .ok (.aload_n 0, 1) := dk_42 (dk_at dksX0_after_1 4 rfl rfl)
theorem dX0_after_27 : decode cX0_after 27 = .ok (.aload_n 0, 1) := dk_42 (dk_at dksX0_after_1 5 rfl rfl)
theorem dX0_after_28 : decode cX0_after 28 = .ok (.getfield 10, 3) := dk_180 0 10 (dk_at dksX0_after_1 6 rfl rfl)
theorem dX0_after_31 : decode cX0_after 31 = .ok (.getfield 91, 3) := dk_180 0 91 (dk_at dksX0_after_1 9 rfl rfl)
theorem dX0_after_34 : decode cX0_after 34 = .ok (.aload_n 0, 1) := dk_42 (dk_at dksX0_after_1 12 rfl rfl)
theorem dX0_after_35 : decode cX0_after 35 = .ok (.getfield 40, 3) := dk_180 0 40 (dk_at dksX0_after_1 13 rfl rfl)
theorem dX0_after_38 : decode cX0_after 38 = .ok (.aload_n 0, 1) := dk_42 (dk_at dksX0_after_1 16 rfl rfl)
theorem dX0_after_39 : decode cX0_after 39 = .ok (.getfield 10, 3) := dk_180 0 10 (dk_at dksX0_after_1 17 rfl rfl)
theorem dX0_after_42 : decode cX0_after 42 = .ok (.getfield 147, 3) := dk_180 0 147 (dk_at dksX0_after_1 20 rfl rfl)
theorem dX0_after_45 : decode cX0_after 45 = .ok (.invokevirtual 243, 3) := dk_182 0 243 (dk_at dksX0_after_2 0 rfl rfl)
theorem dX0_after_48 : decode cX0_after 48 = .ok (.iconst (-1), 1) := dk_2 (dk_at dksX0_after_2 3 rfl rfl)
theorem dX0_after_49 : decode cX0_after 49 = .ok (.iconst (-1), 1) := dk_2 (dk_at dksX0_after_2 4 rfl rfl)
theorem dX0_after_50 : decode cX0_after 50 = .ok (.invokevirtual 418, 3) := dk_182 1 162 (dk_at dksX0_after_2 5 rfl rfl)
theorem dX0_after_53 : decode cX0_after 53 = .ok (.ireturn, 1) := dk_172 (dk_at dksX0_after_2 8 rfl rfl)
abbrev cX0_without : ByteArray := prog_1_method_53_code
def yX0_without : MethodName := ⟨RX0, "without", "(I)I"⟩
def dkwX0_without_2 : List UInt8 := [167, 0, 5, 16, 254, 172]
abbrev dktX0_without_2 : List UInt8 := dkwX0_without_2 ++ []
def dkwX0_without_1 : List UInt8 := [153, 0, 26, 42, 42, 180, 0, 10, 180, 0, 91, 42, 180, 0, 10, 180, 0, 147, 2, 27, 182, 1, 162]
abbrev dktX0_without_1 : List UInt8 := dkwX0_without_1 ++ dktX0_without_2
def dkwX0_without_0 : List UInt8 := [27, 133, 9, 42, 180, 0, 10, 180, 0, 91, 180, 1, 169, 182, 0, 133, 4, 100, 133, 184, 0, 106]
abbrev dktX0_without_0 : List UInt8 := dkwX0_without_0 ++ dktX0_without_1
theorem dksX0_without_0 : cX0_without.data.toList.drop 0 = dktX0_without_0 := by decide +kernel
theorem dksX0_without_1 : cX0_without.data.toList.drop 22 = dktX0_without_1 := dk_seg dksX0_without_0 22 rfl rfl
theorem dksX0_without_2 : cX0_without.data.toList.drop 45 = dktX0_without_2 := dk_seg dksX0_without_1 23 rfl rfl
theorem dX0_without_0 : decode cX0_without 0 = .ok (.iload_n 1, 1) := dk_27 (dk_at dksX0_without_0 0 rfl rfl)
theorem dX0_without_1 : decode cX0_without 1 = .ok (.i2l, 1) := dk_133 (dk_at dksX0_without_0 1 rfl rfl)
theorem dX0_without_2 : decode cX0_without 2 = .ok (.lconst 0, 1) := dk_9 (dk_at dksX0_without_0 2 rfl rfl)
theorem dX0_without_3 : decode cX0_without 3 = .ok (.aload_n 0, 1) := dk_42 (dk_at dksX0_without_0 3 rfl rfl)
theorem dX0_without_4 : decode cX0_without 4 = .ok (.getfield 10, 3) := dk_180 0 10 (dk_at dksX0_without_0 4 rfl rfl)
theorem dX0_without_7 : decode cX0_without 7 = .ok (.getfield 91, 3) := dk_180 0 91 (dk_at dksX0_without_0 7 rfl rfl)
theorem dX0_without_10 : decode cX0_without 10 = .ok (.getfield 425, 3) := dk_180 1 169 (dk_at dksX0_without_0 10 rfl rfl)
theorem dX0_without_13 : decode cX0_without 13 = .ok (.invokevirtual 133, 3) := dk_182 0 133 (dk_at dksX0_without_0 13 rfl rfl)
theorem dX0_without_16 : decode cX0_without 16 = .ok (.iconst 1, 1) := dk_4 (dk_at dksX0_without_0 16 rfl rfl)
theorem dX0_without_17 : decode cX0_without 17 = .ok (.isub, 1) := dk_100 (dk_at dksX0_without_0 17 rfl rfl)
theorem dX0_without_18 : decode cX0_without 18 = .ok (.i2l, 1) := dk_133 (dk_at dksX0_without_0 18 rfl rfl)
theorem dX0_without_19 : decode cX0_without 19 = .ok (.invokestatic 106, 3) := dk_184 0 106 (dk_at dksX0_without_0 19 rfl rfl)
theorem dX0_without_22 : decode cX0_without 22 = .ok (.ifCond .eq 26, 3) := dk_153 0 26 (dk_at dksX0_without_1 0 rfl rfl)
theorem dX0_without_25 : decode cX0_without 25 = .ok (.aload_n 0, 1) := dk_42 (dk_at dksX0_without_1 3 rfl rfl)
theorem dX0_without_26 : decode cX0_without 26 = .ok (.aload_n 0, 1) := dk_42 (dk_at dksX0_without_1 4 rfl rfl)
theorem dX0_without_27 : decode cX0_without 27 = .ok (.getfield 10, 3) := dk_180 0 10 (dk_at dksX0_without_1 5 rfl rfl)
theorem dX0_without_30 : decode cX0_without 30 = .ok (.getfield 91, 3) := dk_180 0 91 (dk_at dksX0_without_1 8 rfl rfl)
theorem dX0_without_33 : decode cX0_without 33 = .ok (.aload_n 0, 1) := dk_42 (dk_at dksX0_without_1 11 rfl rfl)
theorem dX0_without_34 : decode cX0_without 34 = .ok (.getfield 10, 3) := dk_180 0 10 (dk_at dksX0_without_1 12 rfl rfl)
theorem dX0_without_37 : decode cX0_without 37 = .ok (.getfield 147, 3) := dk_180 0 147 (dk_at dksX0_without_1 15 rfl rfl)
theorem dX0_without_40 : decode cX0_without 40 = .ok (.iconst (-1), 1) := dk_2 (dk_at dksX0_without_1 18 rfl rfl)
theorem dX0_without_41 : decode cX0_without 41 = .ok (.iload_n 1, 1) := dk_27 (dk_at dksX0_without_1 19 rfl rfl)
theorem dX0_without_42 : decode cX0_without 42 = .ok (.invokevirtual 418, 3) := dk_182 1 162 (dk_at dksX0_without_1 20 rfl rfl)
theorem dX0_without_45 : decode cX0_without 45 = .ok (.goto 5, 3) := dk_167 0 5 (dk_at dksX0_without_2 0 rfl rfl)
theorem dX0_without_48 : decode cX0_without 48 = .ok (.bipush (-2), 2) := dk_16 254 (dk_at dksX0_without_2 3 rfl rfl)
theorem dX0_without_50 : decode cX0_without 50 = .ok (.ireturn, 1) := dk_172 (dk_at dksX0_without_2 5 rfl rfl)
abbrev cX0_missing : ByteArray := prog_1_method_54_code
def yX0_missing : MethodName := ⟨RX0, "missing", "(I)I"⟩
def dkwX0_missing_2 : List UInt8 := [172]
abbrev dktX0_missing_2 : List UInt8 := dkwX0_missing_2 ++ []
def dkwX0_missing_1 : List UInt8 := [180, 0, 91, 42, 180, 0, 10, 180, 0, 147, 27, 184, 1, 26, 2, 2, 182, 1, 162, 167, 0, 5, 16, 251]
abbrev dktX0_missing_1 : List UInt8 := dkwX0_missing_1 ++ dktX0_missing_2
def dkwX0_missing_0 : List UInt8 := [42, 27, 182, 0, 184, 154, 0, 6, 16, 254, 172, 42, 27, 182, 1, 23, 153, 0, 30, 42, 42, 180, 0, 10]
abbrev dktX0_missing_0 : List UInt8 := dkwX0_missing_0 ++ dktX0_missing_1
theorem dksX0_missing_0 : cX0_missing.data.toList.drop 0 = dktX0_missing_0 := by decide +kernel
theorem dksX0_missing_1 : cX0_missing.data.toList.drop 24 = dktX0_missing_1 := dk_seg dksX0_missing_0 24 rfl rfl
theorem dksX0_missing_2 : cX0_missing.data.toList.drop 48 = dktX0_missing_2 := dk_seg dksX0_missing_1 24 rfl rfl
theorem dX0_missing_0 : decode cX0_missing 0 = .ok (.aload_n 0, 1) := dk_42 (dk_at dksX0_missing_0 0 rfl rfl)
theorem dX0_missing_1 : decode cX0_missing 1 = .ok (.iload_n 1, 1) := dk_27 (dk_at dksX0_missing_0 1 rfl rfl)
theorem dX0_missing_2 : decode cX0_missing 2 = .ok (.invokevirtual 184, 3) := dk_182 0 184 (dk_at dksX0_missing_0 2 rfl rfl)
theorem dX0_missing_5 : decode cX0_missing 5 = .ok (.ifCond .ne 6, 3) := dk_154 0 6 (dk_at dksX0_missing_0 5 rfl rfl)
theorem dX0_missing_8 : decode cX0_missing 8 = .ok (.bipush (-2), 2) := dk_16 254 (dk_at dksX0_missing_0 8 rfl rfl)
theorem dX0_missing_10 : decode cX0_missing 10 = .ok (.ireturn, 1) := dk_172 (dk_at dksX0_missing_0 10 rfl rfl)
theorem dX0_missing_11 : decode cX0_missing 11 = .ok (.aload_n 0, 1) := dk_42 (dk_at dksX0_missing_0 11 rfl rfl)
theorem dX0_missing_12 : decode cX0_missing 12 = .ok (.iload_n 1, 1) := dk_27 (dk_at dksX0_missing_0 12 rfl rfl)
theorem dX0_missing_13 : decode cX0_missing 13 = .ok (.invokevirtual 279, 3) := dk_182 1 23 (dk_at dksX0_missing_0 13 rfl rfl)
theorem dX0_missing_16 : decode cX0_missing 16 = .ok (.ifCond .eq 30, 3) := dk_153 0 30 (dk_at dksX0_missing_0 16 rfl rfl)
theorem dX0_missing_19 : decode cX0_missing 19 = .ok (.aload_n 0, 1) := dk_42 (dk_at dksX0_missing_0 19 rfl rfl)
theorem dX0_missing_20 : decode cX0_missing 20 = .ok (.aload_n 0, 1) := dk_42 (dk_at dksX0_missing_0 20 rfl rfl)
theorem dX0_missing_21 : decode cX0_missing 21 = .ok (.getfield 10, 3) := dk_180 0 10 (dk_at dksX0_missing_0 21 rfl rfl)
theorem dX0_missing_24 : decode cX0_missing 24 = .ok (.getfield 91, 3) := dk_180 0 91 (dk_at dksX0_missing_1 0 rfl rfl)
theorem dX0_missing_27 : decode cX0_missing 27 = .ok (.aload_n 0, 1) := dk_42 (dk_at dksX0_missing_1 3 rfl rfl)
theorem dX0_missing_28 : decode cX0_missing 28 = .ok (.getfield 10, 3) := dk_180 0 10 (dk_at dksX0_missing_1 4 rfl rfl)
theorem dX0_missing_31 : decode cX0_missing 31 = .ok (.getfield 147, 3) := dk_180 0 147 (dk_at dksX0_missing_1 7 rfl rfl)
theorem dX0_missing_34 : decode cX0_missing 34 = .ok (.iload_n 1, 1) := dk_27 (dk_at dksX0_missing_1 10 rfl rfl)
theorem dX0_missing_35 : decode cX0_missing 35 = .ok (.invokestatic 282, 3) := dk_184 1 26 (dk_at dksX0_missing_1 11 rfl rfl)
theorem dX0_missing_38 : decode cX0_missing 38 = .ok (.iconst (-1), 1) := dk_2 (dk_at dksX0_missing_1 14 rfl rfl)
theorem dX0_missing_39 : decode cX0_missing 39 = .ok (.iconst (-1), 1) := dk_2 (dk_at dksX0_missing_1 15 rfl rfl)
theorem dX0_missing_40 : decode cX0_missing 40 = .ok (.invokevirtual 418, 3) := dk_182 1 162 (dk_at dksX0_missing_1 16 rfl rfl)
theorem dX0_missing_43 : decode cX0_missing 43 = .ok (.goto 5, 3) := dk_167 0 5 (dk_at dksX0_missing_1 19 rfl rfl)
theorem dX0_missing_46 : decode cX0_missing 46 = .ok (.bipush (-5), 2) := dk_16 251 (dk_at dksX0_missing_1 22 rfl rfl)
theorem dX0_missing_48 : decode cX0_missing 48 = .ok (.ireturn, 1) := dk_172 (dk_at dksX0_missing_2 0 rfl rfl)
abbrev cX0_winters : ByteArray := prog_1_method_55_code
def yX0_winters : MethodName := ⟨RX0, "winters", "(I)I"⟩
def dkwX0_winters_6 : List UInt8 := [167, 255, 208, 42, 182, 1, 159, 62, 132, 4, 1, 167, 255, 146, 28, 172]
abbrev dktX0_winters_6 : List UInt8 := dkwX0_winters_6 ++ []
def dkwX0_winters_5 : List UInt8 := [180, 0, 65, 180, 1, 124, 21, 5, 47, 182, 0, 151, 2, 182, 1, 36, 184, 1, 172, 61, 132, 5, 1]
abbrev dktX0_winters_5 : List UInt8 := dkwX0_winters_5 ++ dktX0_winters_6
def dkwX0_winters_4 : List UInt8 := [180, 0, 65, 180, 1, 122, 162, 0, 42, 28, 42, 180, 0, 44, 42, 180, 0, 10, 180, 0, 91, 42]
abbrev dktX0_winters_4 : List UInt8 := dkwX0_winters_4 ++ dktX0_winters_5
def dkwX0_winters_3 : List UInt8 := [172, 42, 89, 180, 1, 144, 42, 180, 0, 65, 180, 1, 122, 96, 181, 1, 144, 3, 54, 5, 21, 5, 42]
abbrev dktX0_winters_3 : List UInt8 := dkwX0_winters_3 ++ dktX0_winters_4
def dkwX0_winters_2 : List UInt8 := [153, 0, 106, 42, 42, 180, 0, 10, 180, 0, 91, 42, 180, 1, 144, 3, 182, 1, 151, 154, 0, 6, 16, 252]
abbrev dktX0_winters_2 : List UInt8 := dkwX0_winters_2 ++ dktX0_winters_3
def dkwX0_winters_1 : List UInt8 := [42, 180, 0, 10, 180, 0, 147, 182, 1, 147, 3, 61, 4, 62, 4, 54, 4, 21, 4, 27, 163, 0, 110, 29]
abbrev dktX0_winters_1 : List UInt8 := dkwX0_winters_1 ++ dktX0_winters_2
def dkwX0_winters_0 : List UInt8 := [27, 133, 10, 20, 1, 52, 184, 0, 106, 154, 0, 6, 16, 253, 172, 42, 180, 0, 44, 2, 181, 1, 102, 42]
abbrev dktX0_winters_0 : List UInt8 := dkwX0_winters_0 ++ dktX0_winters_1
theorem dksX0_winters_0 : cX0_winters.data.toList.drop 0 = dktX0_winters_0 := by decide +kernel
theorem dksX0_winters_1 : cX0_winters.data.toList.drop 24 = dktX0_winters_1 := dk_seg dksX0_winters_0 24 rfl rfl
theorem dksX0_winters_2 : cX0_winters.data.toList.drop 48 = dktX0_winters_2 := dk_seg dksX0_winters_1 24 rfl rfl
theorem dksX0_winters_3 : cX0_winters.data.toList.drop 72 = dktX0_winters_3 := dk_seg dksX0_winters_2 24 rfl rfl
theorem dksX0_winters_4 : cX0_winters.data.toList.drop 95 = dktX0_winters_4 := dk_seg dksX0_winters_3 23 rfl rfl
theorem dksX0_winters_5 : cX0_winters.data.toList.drop 117 = dktX0_winters_5 := dk_seg dksX0_winters_4 22 rfl rfl
theorem dksX0_winters_6 : cX0_winters.data.toList.drop 140 = dktX0_winters_6 := dk_seg dksX0_winters_5 23 rfl rfl
theorem dX0_winters_0 : decode cX0_winters 0 = .ok (.iload_n 1, 1) := dk_27 (dk_at dksX0_winters_0 0 rfl rfl)
theorem dX0_winters_1 : decode cX0_winters 1 = .ok (.i2l, 1) := dk_133 (dk_at dksX0_winters_0 1 rfl rfl)
theorem dX0_winters_2 : decode cX0_winters 2 = .ok (.lconst 1, 1) := dk_10 (dk_at dksX0_winters_0 2 rfl rfl)
theorem dX0_winters_3 : decode cX0_winters 3 = .ok (.ldc2_w 308, 3) := dk_20 1 52 (dk_at dksX0_winters_0 3 rfl rfl)
theorem dX0_winters_6 : decode cX0_winters 6 = .ok (.invokestatic 106, 3) := dk_184 0 106 (dk_at dksX0_winters_0 6 rfl rfl)
theorem dX0_winters_9 : decode cX0_winters 9 = .ok (.ifCond .ne 6, 3) := dk_154 0 6 (dk_at dksX0_winters_0 9 rfl rfl)
theorem dX0_winters_12 : decode cX0_winters 12 = .ok (.bipush (-3), 2) := dk_16 253 (dk_at dksX0_winters_0 12 rfl rfl)
theorem dX0_winters_14 : decode cX0_winters 14 = .ok (.ireturn, 1) := dk_172 (dk_at dksX0_winters_0 14 rfl rfl)
theorem dX0_winters_15 : decode cX0_winters 15 = .ok (.aload_n 0, 1) := dk_42 (dk_at dksX0_winters_0 15 rfl rfl)
theorem dX0_winters_16 : decode cX0_winters 16 = .ok (.getfield 44, 3) := dk_180 0 44 (dk_at dksX0_winters_0 16 rfl rfl)
theorem dX0_winters_19 : decode cX0_winters 19 = .ok (.iconst (-1), 1) := dk_2 (dk_at dksX0_winters_0 19 rfl rfl)
theorem dX0_winters_20 : decode cX0_winters 20 = .ok (.putfield 358, 3) := dk_181 1 102 (dk_at dksX0_winters_0 20 rfl rfl)
theorem dX0_winters_23 : decode cX0_winters 23 = .ok (.aload_n 0, 1) := dk_42 (dk_at dksX0_winters_0 23 rfl rfl)
theorem dX0_winters_24 : decode cX0_winters 24 = .ok (.aload_n 0, 1) := dk_42 (dk_at dksX0_winters_1 0 rfl rfl)
theorem dX0_winters_25 : decode cX0_winters 25 = .ok (.getfield 10, 3) := dk_180 0 10 (dk_at dksX0_winters_1 1 rfl rfl)
theorem dX0_winters_28 : decode cX0_winters 28 = .ok (.getfield 147, 3) := dk_180 0 147 (dk_at dksX0_winters_1 4 rfl rfl)
theorem dX0_winters_31 : decode cX0_winters 31 = .ok (.invokevirtual 403, 3) := dk_182 1 147 (dk_at dksX0_winters_1 7 rfl rfl)
theorem dX0_winters_34 : decode cX0_winters 34 = .ok (.iconst 0, 1) := dk_3 (dk_at dksX0_winters_1 10 rfl rfl)
theorem dX0_winters_35 : decode cX0_winters 35 = .ok (.istore_n 2, 1) := dk_61 (dk_at dksX0_winters_1 11 rfl rfl)
theorem dX0_winters_36 : decode cX0_winters 36 = .ok (.iconst 1, 1) := dk_4 (dk_at dksX0_winters_1 12 rfl rfl)
theorem dX0_winters_37 : decode cX0_winters 37 = .ok (.istore_n 3, 1) := dk_62 (dk_at dksX0_winters_1 13 rfl rfl)
theorem dX0_winters_38 : decode cX0_winters 38 = .ok (.iconst 1, 1) := dk_4 (dk_at dksX0_winters_1 14 rfl rfl)
theorem dX0_winters_39 : decode cX0_winters 39 = .ok (.istore 4, 2) := dk_54 4 (dk_at dksX0_winters_1 15 rfl rfl)
theorem dX0_winters_41 : decode cX0_winters 41 = .ok (.iload 4, 2) := dk_21 4 (dk_at dksX0_winters_1 17 rfl rfl)
theorem dX0_winters_43 : decode cX0_winters 43 = .ok (.iload_n 1, 1) := dk_27 (dk_at dksX0_winters_1 19 rfl rfl)
theorem dX0_winters_44 : decode cX0_winters 44 = .ok (.if_icmp .gt 110, 3) := dk_163 0 110 (dk_at dksX0_winters_1 20 rfl rfl)
theorem dX0_winters_47 : decode cX0_winters 47 = .ok (.iload_n 3, 1) := dk_29 (dk_at dksX0_winters_1 23 rfl rfl)
theorem dX0_winters_48 : decode cX0_winters 48 = .ok (.ifCond .eq 106, 3) := dk_153 0 106 (dk_at dksX0_winters_2 0 rfl rfl)
theorem dX0_winters_51 : decode cX0_winters 51 = .ok (.aload_n 0, 1) := dk_42 (dk_at dksX0_winters_2 3 rfl rfl)
theorem dX0_winters_52 : decode cX0_winters 52 = .ok (.aload_n 0, 1) := dk_42 (dk_at dksX0_winters_2 4 rfl rfl)
theorem dX0_winters_53 : decode cX0_winters 53 = .ok (.getfield 10, 3) := dk_180 0 10 (dk_at dksX0_winters_2 5 rfl rfl)
theorem dX0_winters_56 : decode cX0_winters 56 = .ok (.getfield 91, 3) := dk_180 0 91 (dk_at dksX0_winters_2 8 rfl rfl)
theorem dX0_winters_59 : decode cX0_winters 59 = .ok (.aload_n 0, 1) := dk_42 (dk_at dksX0_winters_2 11 rfl rfl)
theorem dX0_winters_60 : decode cX0_winters 60 = .ok (.getfield 400, 3) := dk_180 1 144 (dk_at dksX0_winters_2 12 rfl rfl)
theorem dX0_winters_63 : decode cX0_winters 63 = .ok (.iconst 0, 1) := dk_3 (dk_at dksX0_winters_2 15 rfl rfl)
theorem dX0_winters_64 : decode cX0_winters 64 = .ok (.invokevirtual 407, 3) := dk_182 1 151 (dk_at dksX0_winters_2 16 rfl rfl)
theorem dX0_winters_67 : decode cX0_winters 67 = .ok (.ifCond .ne 6, 3) := dk_154 0 6 (dk_at dksX0_winters_2 19 rfl rfl)
theorem dX0_winters_70 : decode cX0_winters 70 = .ok (.bipush (-4), 2) := dk_16 252 (dk_at dksX0_winters_2 22 rfl rfl)
theorem dX0_winters_72 : decode cX0_winters 72 = .ok (.ireturn, 1) := dk_172 (dk_at dksX0_winters_3 0 rfl rfl)
theorem dX0_winters_73 : decode cX0_winters 73 = .ok (.aload_n 0, 1) := dk_42 (dk_at dksX0_winters_3 1 rfl rfl)
theorem dX0_winters_74 : decode cX0_winters 74 = .ok (.dup, 1) := dk_89 (dk_at dksX0_winters_3 2 rfl rfl)
theorem dX0_winters_75 : decode cX0_winters 75 = .ok (.getfield 400, 3) := dk_180 1 144 (dk_at dksX0_winters_3 3 rfl rfl)
theorem dX0_winters_78 : decode cX0_winters 78 = .ok (.aload_n 0, 1) := dk_42 (dk_at dksX0_winters_3 6 rfl rfl)
theorem dX0_winters_79 : decode cX0_winters 79 = .ok (.getfield 65, 3) := dk_180 0 65 (dk_at dksX0_winters_3 7 rfl rfl)
theorem dX0_winters_82 : decode cX0_winters 82 = .ok (.getfield 378, 3) := dk_180 1 122 (dk_at dksX0_winters_3 10 rfl rfl)
theorem dX0_winters_85 : decode cX0_winters 85 = .ok (.iadd, 1) := dk_96 (dk_at dksX0_winters_3 13 rfl rfl)
theorem dX0_winters_86 : decode cX0_winters 86 = .ok (.putfield 400, 3) := dk_181 1 144 (dk_at dksX0_winters_3 14 rfl rfl)
theorem dX0_winters_89 : decode cX0_winters 89 = .ok (.iconst 0, 1) := dk_3 (dk_at dksX0_winters_3 17 rfl rfl)
theorem dX0_winters_90 : decode cX0_winters 90 = .ok (.istore 5, 2) := dk_54 5 (dk_at dksX0_winters_3 18 rfl rfl)
theorem dX0_winters_92 : decode cX0_winters 92 = .ok (.iload 5, 2) := dk_21 5 (dk_at dksX0_winters_3 20 rfl rfl)
theorem dX0_winters_94 : decode cX0_winters 94 = .ok (.aload_n 0, 1) := dk_42 (dk_at dksX0_winters_3 22 rfl rfl)
theorem dX0_winters_95 : decode cX0_winters 95 = .ok (.getfield 65, 3) := dk_180 0 65 (dk_at dksX0_winters_4 0 rfl rfl)
theorem dX0_winters_98 : decode cX0_winters 98 = .ok (.getfield 378, 3) := dk_180 1 122 (dk_at dksX0_winters_4 3 rfl rfl)
theorem dX0_winters_101 : decode cX0_winters 101 = .ok (.if_icmp .ge 42, 3) := dk_162 0 42 (dk_at dksX0_winters_4 6 rfl rfl)
theorem dX0_winters_104 : decode cX0_winters 104 = .ok (.iload_n 2, 1) := dk_28 (dk_at dksX0_winters_4 9 rfl rfl)
theorem dX0_winters_105 : decode cX0_winters 105 = .ok (.aload_n 0, 1) := dk_42 (dk_at dksX0_winters_4 10 rfl rfl)
theorem dX0_winters_106 : decode cX0_winters 106 = .ok (.getfield 44, 3) := dk_180 0 44 (dk_at dksX0_winters_4 11 rfl rfl)
theorem dX0_winters_109 : decode cX0_winters 109 = .ok (.aload_n 0, 1) := dk_42 (dk_at dksX0_winters_4 14 rfl rfl)
theorem dX0_winters_110 : decode cX0_winters 110 = .ok (.getfield 10, 3) := dk_180 0 10 (dk_at dksX0_winters_4 15 rfl rfl)
theorem dX0_winters_113 : decode cX0_winters 113 = .ok (.getfield 91, 3) := dk_180 0 91 (dk_at dksX0_winters_4 18 rfl rfl)
theorem dX0_winters_116 : decode cX0_winters 116 = .ok (.aload_n 0, 1) := dk_42 (dk_at dksX0_winters_4 21 rfl rfl)
theorem dX0_winters_117 : decode cX0_winters 117 = .ok (.getfield 65, 3) := dk_180 0 65 (dk_at dksX0_winters_5 0 rfl rfl)
theorem dX0_winters_120 : decode cX0_winters 120 = .ok (.getfield 380, 3) := dk_180 1 124 (dk_at dksX0_winters_5 3 rfl rfl)
theorem dX0_winters_123 : decode cX0_winters 123 = .ok (.iload 5, 2) := dk_21 5 (dk_at dksX0_winters_5 6 rfl rfl)
theorem dX0_winters_125 : decode cX0_winters 125 = .ok (.laload, 1) := dk_47 (dk_at dksX0_winters_5 8 rfl rfl)
theorem dX0_winters_126 : decode cX0_winters 126 = .ok (.invokevirtual 151, 3) := dk_182 0 151 (dk_at dksX0_winters_5 9 rfl rfl)
theorem dX0_winters_129 : decode cX0_winters 129 = .ok (.iconst (-1), 1) := dk_2 (dk_at dksX0_winters_5 12 rfl rfl)
theorem dX0_winters_130 : decode cX0_winters 130 = .ok (.invokevirtual 292, 3) := dk_182 1 36 (dk_at dksX0_winters_5 13 rfl rfl)
theorem dX0_winters_133 : decode cX0_winters 133 = .ok (.invokestatic 428, 3) := dk_184 1 172 (dk_at dksX0_winters_5 16 rfl rfl)
theorem dX0_winters_136 : decode cX0_winters 136 = .ok (.istore_n 2, 1) := dk_61 (dk_at dksX0_winters_5 19 rfl rfl)
theorem dX0_winters_137 : decode cX0_winters 137 = .ok (.iinc 5 1, 3) := dk_132 5 1 (dk_at dksX0_winters_5 20 rfl rfl)
theorem dX0_winters_140 : decode cX0_winters 140 = .ok (.goto (-48), 3) := dk_167 255 208 (dk_at dksX0_winters_6 0 rfl rfl)
theorem dX0_winters_143 : decode cX0_winters 143 = .ok (.aload_n 0, 1) := dk_42 (dk_at dksX0_winters_6 3 rfl rfl)
theorem dX0_winters_144 : decode cX0_winters 144 = .ok (.invokevirtual 415, 3) := dk_182 1 159 (dk_at dksX0_winters_6 4 rfl rfl)
theorem dX0_winters_147 : decode cX0_winters 147 = .ok (.istore_n 3, 1) := dk_62 (dk_at dksX0_winters_6 7 rfl rfl)
theorem dX0_winters_148 : decode cX0_winters 148 = .ok (.iinc 4 1, 3) := dk_132 4 1 (dk_at dksX0_winters_6 8 rfl rfl)
theorem dX0_winters_151 : decode cX0_winters 151 = .ok (.goto (-110), 3) := dk_167 255 146 (dk_at dksX0_winters_6 11 rfl rfl)
theorem dX0_winters_154 : decode cX0_winters 154 = .ok (.iload_n 2, 1) := dk_28 (dk_at dksX0_winters_6 14 rfl rfl)
theorem dX0_winters_155 : decode cX0_winters 155 = .ok (.ireturn, 1) := dk_172 (dk_at dksX0_winters_6 15 rfl rfl)
abbrev cX0_can : ByteArray := prog_1_method_57_code
def yX0_can : MethodName := ⟨RX0, "can", "(I)I"⟩
def dkwX0_can_0 : List UInt8 := [27, 184, 1, 30, 153, 0, 11, 42, 27, 182, 1, 177, 167, 0, 5, 16, 254, 172]
abbrev dktX0_can_0 : List UInt8 := dkwX0_can_0 ++ []
theorem dksX0_can_0 : cX0_can.data.toList.drop 0 = dktX0_can_0 := by decide +kernel
theorem dX0_can_0 : decode cX0_can 0 = .ok (.iload_n 1, 1) := dk_27 (dk_at dksX0_can_0 0 rfl rfl)
theorem dX0_can_1 : decode cX0_can 1 = .ok (.invokestatic 286, 3) := dk_184 1 30 (dk_at dksX0_can_0 1 rfl rfl)
theorem dX0_can_4 : decode cX0_can 4 = .ok (.ifCond .eq 11, 3) := dk_153 0 11 (dk_at dksX0_can_0 4 rfl rfl)
theorem dX0_can_7 : decode cX0_can 7 = .ok (.aload_n 0, 1) := dk_42 (dk_at dksX0_can_0 7 rfl rfl)
theorem dX0_can_8 : decode cX0_can 8 = .ok (.iload_n 1, 1) := dk_27 (dk_at dksX0_can_0 8 rfl rfl)
theorem dX0_can_9 : decode cX0_can 9 = .ok (.invokevirtual 433, 3) := dk_182 1 177 (dk_at dksX0_can_0 9 rfl rfl)
theorem dX0_can_12 : decode cX0_can 12 = .ok (.goto 5, 3) := dk_167 0 5 (dk_at dksX0_can_0 12 rfl rfl)
theorem dX0_can_15 : decode cX0_can 15 = .ok (.bipush (-2), 2) := dk_16 254 (dk_at dksX0_can_0 15 rfl rfl)
theorem dX0_can_17 : decode cX0_can 17 = .ok (.ireturn, 1) := dk_172 (dk_at dksX0_can_0 17 rfl rfl)
abbrev cX0_canBe : ByteArray := prog_1_method_56_code
def yX0_canBe : MethodName := ⟨RX0, "canBe", "(I)I"⟩
def dkwX0_canBe_2 : List UInt8 := [180, 0, 91, 27, 182, 1, 155, 153, 0, 7, 4, 167, 0, 4, 3, 172]
abbrev dktX0_canBe_2 : List UInt8 := dkwX0_canBe_2 ++ []
def dkwX0_canBe_1 : List UInt8 := [180, 0, 10, 180, 0, 91, 3, 4, 182, 1, 151, 154, 0, 6, 16, 252, 172, 42, 42, 180, 0, 10]
abbrev dktX0_canBe_1 : List UInt8 := dkwX0_canBe_1 ++ dktX0_canBe_2
def dkwX0_canBe_0 : List UInt8 := [42, 180, 0, 44, 2, 181, 1, 102, 42, 42, 180, 0, 10, 180, 0, 147, 184, 0, 255, 182, 1, 147, 42, 42]
abbrev dktX0_canBe_0 : List UInt8 := dkwX0_canBe_0 ++ dktX0_canBe_1
theorem dksX0_canBe_0 : cX0_canBe.data.toList.drop 0 = dktX0_canBe_0 := by decide +kernel
theorem dksX0_canBe_1 : cX0_canBe.data.toList.drop 24 = dktX0_canBe_1 := dk_seg dksX0_canBe_0 24 rfl rfl
theorem dksX0_canBe_2 : cX0_canBe.data.toList.drop 46 = dktX0_canBe_2 := dk_seg dksX0_canBe_1 22 rfl rfl
theorem dX0_canBe_0 : decode cX0_canBe 0 = .ok (.aload_n 0, 1) := dk_42 (dk_at dksX0_canBe_0 0 rfl rfl)
theorem dX0_canBe_1 : decode cX0_canBe 1 = .ok (.getfield 44, 3) := dk_180 0 44 (dk_at dksX0_canBe_0 1 rfl rfl)
theorem dX0_canBe_4 : decode cX0_canBe 4 = .ok (.iconst (-1), 1) := dk_2 (dk_at dksX0_canBe_0 4 rfl rfl)
theorem dX0_canBe_5 : decode cX0_canBe 5 = .ok (.putfield 358, 3) := dk_181 1 102 (dk_at dksX0_canBe_0 5 rfl rfl)
theorem dX0_canBe_8 : decode cX0_canBe 8 = .ok (.aload_n 0, 1) := dk_42 (dk_at dksX0_canBe_0 8 rfl rfl)
theorem dX0_canBe_9 : decode cX0_canBe 9 = .ok (.aload_n 0, 1) := dk_42 (dk_at dksX0_canBe_0 9 rfl rfl)
theorem dX0_canBe_10 : decode cX0_canBe 10 = .ok (.getfield 10, 3) := dk_180 0 10 (dk_at dksX0_canBe_0 10 rfl rfl)
theorem dX0_canBe_13 : decode cX0_canBe 13 = .ok (.getfield 147, 3) := dk_180 0 147 (dk_at dksX0_canBe_0 13 rfl rfl)
theorem dX0_canBe_16 : decode cX0_canBe 16 = .ok (.invokestatic 255, 3) := dk_184 0 255 (dk_at dksX0_canBe_0 16 rfl rfl)
theorem dX0_canBe_19 : decode cX0_canBe 19 = .ok (.invokevirtual 403, 3) := dk_182 1 147 (dk_at dksX0_canBe_0 19 rfl rfl)
theorem dX0_canBe_22 : decode cX0_canBe 22 = .ok (.aload_n 0, 1) := dk_42 (dk_at dksX0_canBe_0 22 rfl rfl)
theorem dX0_canBe_23 : decode cX0_canBe 23 = .ok (.aload_n 0, 1) := dk_42 (dk_at dksX0_canBe_0 23 rfl rfl)
theorem dX0_canBe_24 : decode cX0_canBe 24 = .ok (.getfield 10, 3) := dk_180 0 10 (dk_at dksX0_canBe_1 0 rfl rfl)
theorem dX0_canBe_27 : decode cX0_canBe 27 = .ok (.getfield 91, 3) := dk_180 0 91 (dk_at dksX0_canBe_1 3 rfl rfl)
theorem dX0_canBe_30 : decode cX0_canBe 30 = .ok (.iconst 0, 1) := dk_3 (dk_at dksX0_canBe_1 6 rfl rfl)
theorem dX0_canBe_31 : decode cX0_canBe 31 = .ok (.iconst 1, 1) := dk_4 (dk_at dksX0_canBe_1 7 rfl rfl)
theorem dX0_canBe_32 : decode cX0_canBe 32 = .ok (.invokevirtual 407, 3) := dk_182 1 151 (dk_at dksX0_canBe_1 8 rfl rfl)
theorem dX0_canBe_35 : decode cX0_canBe 35 = .ok (.ifCond .ne 6, 3) := dk_154 0 6 (dk_at dksX0_canBe_1 11 rfl rfl)
theorem dX0_canBe_38 : decode cX0_canBe 38 = .ok (.bipush (-4), 2) := dk_16 252 (dk_at dksX0_canBe_1 14 rfl rfl)
theorem dX0_canBe_40 : decode cX0_canBe 40 = .ok (.ireturn, 1) := dk_172 (dk_at dksX0_canBe_1 16 rfl rfl)
theorem dX0_canBe_41 : decode cX0_canBe 41 = .ok (.aload_n 0, 1) := dk_42 (dk_at dksX0_canBe_1 17 rfl rfl)
theorem dX0_canBe_42 : decode cX0_canBe 42 = .ok (.aload_n 0, 1) := dk_42 (dk_at dksX0_canBe_1 18 rfl rfl)
theorem dX0_canBe_43 : decode cX0_canBe 43 = .ok (.getfield 10, 3) := dk_180 0 10 (dk_at dksX0_canBe_1 19 rfl rfl)
theorem dX0_canBe_46 : decode cX0_canBe 46 = .ok (.getfield 91, 3) := dk_180 0 91 (dk_at dksX0_canBe_2 0 rfl rfl)
theorem dX0_canBe_49 : decode cX0_canBe 49 = .ok (.iload_n 1, 1) := dk_27 (dk_at dksX0_canBe_2 3 rfl rfl)
theorem dX0_canBe_50 : decode cX0_canBe 50 = .ok (.invokevirtual 411, 3) := dk_182 1 155 (dk_at dksX0_canBe_2 4 rfl rfl)
theorem dX0_canBe_53 : decode cX0_canBe 53 = .ok (.ifCond .eq 7, 3) := dk_153 0 7 (dk_at dksX0_canBe_2 7 rfl rfl)
theorem dX0_canBe_56 : decode cX0_canBe 56 = .ok (.iconst 1, 1) := dk_4 (dk_at dksX0_canBe_2 10 rfl rfl)
theorem dX0_canBe_57 : decode cX0_canBe 57 = .ok (.goto 4, 3) := dk_167 0 4 (dk_at dksX0_canBe_2 11 rfl rfl)
theorem dX0_canBe_60 : decode cX0_canBe 60 = .ok (.iconst 0, 1) := dk_3 (dk_at dksX0_canBe_2 14 rfl rfl)
theorem dX0_canBe_61 : decode cX0_canBe 61 = .ok (.ireturn, 1) := dk_172 (dk_at dksX0_canBe_2 15 rfl rfl)
abbrev cX0_why : ByteArray := prog_1_method_60_code
def yX0_why : MethodName := ⟨RX0, "why", "(I)I"⟩
def dkwX0_why_2 : List UInt8 := [154, 0, 7, 6, 167, 0, 5, 16, 252, 172]
abbrev dktX0_why_2 : List UInt8 := dkwX0_why_2 ++ []
def dkwX0_why_1 : List UInt8 := [27, 182, 1, 192, 153, 0, 5, 4, 172, 42, 27, 182, 1, 195, 153, 0, 7, 5, 167, 0, 13, 28]
abbrev dktX0_why_1 : List UInt8 := dkwX0_why_1 ++ dktX0_why_2
def dkwX0_why_0 : List UInt8 := [27, 184, 1, 30, 154, 0, 6, 16, 254, 172, 42, 27, 182, 1, 177, 61, 28, 4, 160, 0, 5, 3, 172, 42]
abbrev dktX0_why_0 : List UInt8 := dkwX0_why_0 ++ dktX0_why_1
theorem dksX0_why_0 : cX0_why.data.toList.drop 0 = dktX0_why_0 := by decide +kernel
theorem dksX0_why_1 : cX0_why.data.toList.drop 24 = dktX0_why_1 := dk_seg dksX0_why_0 24 rfl rfl
theorem dksX0_why_2 : cX0_why.data.toList.drop 46 = dktX0_why_2 := dk_seg dksX0_why_1 22 rfl rfl
theorem dX0_why_0 : decode cX0_why 0 = .ok (.iload_n 1, 1) := dk_27 (dk_at dksX0_why_0 0 rfl rfl)
theorem dX0_why_1 : decode cX0_why 1 = .ok (.invokestatic 286, 3) := dk_184 1 30 (dk_at dksX0_why_0 1 rfl rfl)
theorem dX0_why_4 : decode cX0_why 4 = .ok (.ifCond .ne 6, 3) := dk_154 0 6 (dk_at dksX0_why_0 4 rfl rfl)
theorem dX0_why_7 : decode cX0_why 7 = .ok (.bipush (-2), 2) := dk_16 254 (dk_at dksX0_why_0 7 rfl rfl)
theorem dX0_why_9 : decode cX0_why 9 = .ok (.ireturn, 1) := dk_172 (dk_at dksX0_why_0 9 rfl rfl)
theorem dX0_why_10 : decode cX0_why 10 = .ok (.aload_n 0, 1) := dk_42 (dk_at dksX0_why_0 10 rfl rfl)
theorem dX0_why_11 : decode cX0_why 11 = .ok (.iload_n 1, 1) := dk_27 (dk_at dksX0_why_0 11 rfl rfl)
theorem dX0_why_12 : decode cX0_why 12 = .ok (.invokevirtual 433, 3) := dk_182 1 177 (dk_at dksX0_why_0 12 rfl rfl)
theorem dX0_why_15 : decode cX0_why 15 = .ok (.istore_n 2, 1) := dk_61 (dk_at dksX0_why_0 15 rfl rfl)
theorem dX0_why_16 : decode cX0_why 16 = .ok (.iload_n 2, 1) := dk_28 (dk_at dksX0_why_0 16 rfl rfl)
theorem dX0_why_17 : decode cX0_why 17 = .ok (.iconst 1, 1) := dk_4 (dk_at dksX0_why_0 17 rfl rfl)
theorem dX0_why_18 : decode cX0_why 18 = .ok (.if_icmp .ne 5, 3) := dk_160 0 5 (dk_at dksX0_why_0 18 rfl rfl)
theorem dX0_why_21 : decode cX0_why 21 = .ok (.iconst 0, 1) := dk_3 (dk_at dksX0_why_0 21 rfl rfl)
theorem dX0_why_22 : decode cX0_why 22 = .ok (.ireturn, 1) := dk_172 (dk_at dksX0_why_0 22 rfl rfl)
theorem dX0_why_23 : decode cX0_why 23 = .ok (.aload_n 0, 1) := dk_42 (dk_at dksX0_why_0 23 rfl rfl)
theorem dX0_why_24 : decode cX0_why 24 = .ok (.iload_n 1, 1) := dk_27 (dk_at dksX0_why_1 0 rfl rfl)
theorem dX0_why_25 : decode cX0_why 25 = .ok (.invokevirtual 448, 3) := dk_182 1 192 (dk_at dksX0_why_1 1 rfl rfl)
theorem dX0_why_28 : decode cX0_why 28 = .ok (.ifCond .eq 5, 3) := dk_153 0 5 (dk_at dksX0_why_1 4 rfl rfl)
theorem dX0_why_31 : decode cX0_why 31 = .ok (.iconst 1, 1) := dk_4 (dk_at dksX0_why_1 7 rfl rfl)
theorem dX0_why_32 : decode cX0_why 32 = .ok (.ireturn, 1) := dk_172 (dk_at dksX0_why_1 8 rfl rfl)
theorem dX0_why_33 : decode cX0_why 33 = .ok (.aload_n 0, 1) := dk_42 (dk_at dksX0_why_1 9 rfl rfl)
theorem dX0_why_34 : decode cX0_why 34 = .ok (.iload_n 1, 1) := dk_27 (dk_at dksX0_why_1 10 rfl rfl)
theorem dX0_why_35 : decode cX0_why 35 = .ok (.invokevirtual 451, 3) := dk_182 1 195 (dk_at dksX0_why_1 11 rfl rfl)
theorem dX0_why_38 : decode cX0_why 38 = .ok (.ifCond .eq 7, 3) := dk_153 0 7 (dk_at dksX0_why_1 14 rfl rfl)
theorem dX0_why_41 : decode cX0_why 41 = .ok (.iconst 2, 1) := dk_5 (dk_at dksX0_why_1 17 rfl rfl)
theorem dX0_why_42 : decode cX0_why 42 = .ok (.goto 13, 3) := dk_167 0 13 (dk_at dksX0_why_1 18 rfl rfl)
theorem dX0_why_45 : decode cX0_why 45 = .ok (.iload_n 2, 1) := dk_28 (dk_at dksX0_why_1 21 rfl rfl)
theorem dX0_why_46 : decode cX0_why 46 = .ok (.ifCond .ne 7, 3) := dk_154 0 7 (dk_at dksX0_why_2 0 rfl rfl)
theorem dX0_why_49 : decode cX0_why 49 = .ok (.iconst 3, 1) := dk_6 (dk_at dksX0_why_2 3 rfl rfl)
theorem dX0_why_50 : decode cX0_why 50 = .ok (.goto 5, 3) := dk_167 0 5 (dk_at dksX0_why_2 4 rfl rfl)
theorem dX0_why_53 : decode cX0_why 53 = .ok (.bipush (-4), 2) := dk_16 252 (dk_at dksX0_why_2 7 rfl rfl)
theorem dX0_why_55 : decode cX0_why 55 = .ok (.ireturn, 1) := dk_172 (dk_at dksX0_why_2 9 rfl rfl)
abbrev cX0_isLacking : ByteArray := prog_1_method_58_code
def yX0_isLacking : MethodName := ⟨RX0, "isLacking", "(I)Z"⟩
def dkwX0_isLacking_5 : List UInt8 := [132, 4, 1, 167, 255, 221, 29, 156, 0, 5, 4, 172, 132, 2, 1, 167, 255, 129, 3, 172]
abbrev dktX0_isLacking_5 : List UInt8 := dkwX0_isLacking_5 ++ []
def dkwX0_isLacking_4 : List UInt8 := [180, 0, 10, 180, 0, 91, 21, 4, 27, 182, 1, 180, 28, 160, 0, 7, 4, 167, 0, 4, 3, 100, 62]
abbrev dktX0_isLacking_4 : List UInt8 := dkwX0_isLacking_4 ++ dktX0_isLacking_5
def dkwX0_isLacking_3 : List UInt8 := [167, 0, 4, 3, 96, 62, 132, 4, 1, 167, 255, 193, 3, 54, 4, 21, 4, 16, 15, 162, 0, 34, 29, 42]
abbrev dktX0_isLacking_3 : List UInt8 := dkwX0_isLacking_3 ++ dktX0_isLacking_4
def dkwX0_isLacking_2 : List UInt8 := [180, 0, 91, 180, 0, 155, 21, 4, 182, 0, 170, 192, 0, 174, 180, 0, 176, 28, 160, 0, 7, 4]
abbrev dktX0_isLacking_2 : List UInt8 := dkwX0_isLacking_2 ++ dktX0_isLacking_3
def dkwX0_isLacking_1 : List UInt8 := [180, 0, 155, 182, 0, 133, 162, 0, 51, 29, 42, 21, 4, 182, 0, 184, 153, 0, 32, 42, 180, 0, 10]
abbrev dktX0_isLacking_1 : List UInt8 := dkwX0_isLacking_1 ++ dktX0_isLacking_2
def dkwX0_isLacking_0 : List UInt8 := [3, 61, 28, 16, 8, 162, 0, 127, 3, 62, 3, 54, 4, 21, 4, 42, 180, 0, 10, 180, 0, 91]
abbrev dktX0_isLacking_0 : List UInt8 := dkwX0_isLacking_0 ++ dktX0_isLacking_1
theorem dksX0_isLacking_0 : cX0_isLacking.data.toList.drop 0 = dktX0_isLacking_0 := by decide +kernel
theorem dksX0_isLacking_1 : cX0_isLacking.data.toList.drop 22 = dktX0_isLacking_1 := dk_seg dksX0_isLacking_0 22 rfl rfl
theorem dksX0_isLacking_2 : cX0_isLacking.data.toList.drop 45 = dktX0_isLacking_2 := dk_seg dksX0_isLacking_1 23 rfl rfl
theorem dksX0_isLacking_3 : cX0_isLacking.data.toList.drop 67 = dktX0_isLacking_3 := dk_seg dksX0_isLacking_2 22 rfl rfl
theorem dksX0_isLacking_4 : cX0_isLacking.data.toList.drop 91 = dktX0_isLacking_4 := dk_seg dksX0_isLacking_3 24 rfl rfl
theorem dksX0_isLacking_5 : cX0_isLacking.data.toList.drop 114 = dktX0_isLacking_5 := dk_seg dksX0_isLacking_4 23 rfl rfl
theorem dX0_isLacking_0 : decode cX0_isLacking 0 = .ok (.iconst 0, 1) := dk_3 (dk_at dksX0_isLacking_0 0 rfl rfl)
theorem dX0_isLacking_1 : decode cX0_isLacking 1 = .ok (.istore_n 2, 1) := dk_61 (dk_at dksX0_isLacking_0 1 rfl rfl)
theorem dX0_isLacking_2 : decode cX0_isLacking 2 = .ok (.iload_n 2, 1) := dk_28 (dk_at dksX0_isLacking_0 2 rfl rfl)
theorem dX0_isLacking_3 : decode cX0_isLacking 3 = .ok (.bipush 8, 2) := dk_16 8 (dk_at dksX0_isLacking_0 3 rfl rfl)
theorem dX0_isLacking_5 : decode cX0_isLacking 5 = .ok (.if_icmp .ge 127, 3) := dk_162 0 127 (dk_at dksX0_isLacking_0 5 rfl rfl)
theorem dX0_isLacking_8 : decode cX0_isLacking 8 = .ok (.iconst 0, 1) := dk_3 (dk_at dksX0_isLacking_0 8 rfl rfl)
theorem dX0_isLacking_9 : decode cX0_isLacking 9 = .ok (.istore_n 3, 1) := dk_62 (dk_at dksX0_isLacking_0 9 rfl rfl)
theorem dX0_isLacking_10 : decode cX0_isLacking 10 = .ok (.iconst 0, 1) := dk_3 (dk_at dksX0_isLacking_0 10 rfl rfl)
theorem dX0_isLacking_11 : decode cX0_isLacking 11 = .ok (.istore 4, 2) := dk_54 4 (dk_at dksX0_isLacking_0 11 rfl rfl)
theorem dX0_isLacking_13 : decode cX0_isLacking 13 = .ok (.iload 4, 2) := dk_21 4 (dk_at dksX0_isLacking_0 13 rfl rfl)
theorem dX0_isLacking_15 : decode cX0_isLacking 15 = .ok (.aload_n 0, 1) := dk_42 (dk_at dksX0_isLacking_0 15 rfl rfl)
theorem dX0_isLacking_16 : decode cX0_isLacking 16 = .ok (.getfield 10, 3) := dk_180 0 10 (dk_at dksX0_isLacking_0 16 rfl rfl)
theorem dX0_isLacking_19 : decode cX0_isLacking 19 = .ok (.getfield 91, 3) := dk_180 0 91 (dk_at dksX0_isLacking_0 19 rfl rfl)
theorem dX0_isLacking_22 : decode cX0_isLacking 22 = .ok (.getfield 155, 3) := dk_180 0 155 (dk_at dksX0_isLacking_1 0 rfl rfl)
theorem dX0_isLacking_25 : decode cX0_isLacking 25 = .ok (.invokevirtual 133, 3) := dk_182 0 133 (dk_at dksX0_isLacking_1 3 rfl rfl)
theorem dX0_isLacking_28 : decode cX0_isLacking 28 = .ok (.if_icmp .ge 51, 3) := dk_162 0 51 (dk_at dksX0_isLacking_1 6 rfl rfl)
theorem dX0_isLacking_31 : decode cX0_isLacking 31 = .ok (.iload_n 3, 1) := dk_29 (dk_at dksX0_isLacking_1 9 rfl rfl)
theorem dX0_isLacking_32 : decode cX0_isLacking 32 = .ok (.aload_n 0, 1) := dk_42 (dk_at dksX0_isLacking_1 10 rfl rfl)
theorem dX0_isLacking_33 : decode cX0_isLacking 33 = .ok (.iload 4, 2) := dk_21 4 (dk_at dksX0_isLacking_1 11 rfl rfl)
theorem dX0_isLacking_35 : decode cX0_isLacking 35 = .ok (.invokevirtual 184, 3) := dk_182 0 184 (dk_at dksX0_isLacking_1 13 rfl rfl)
theorem dX0_isLacking_38 : decode cX0_isLacking 38 = .ok (.ifCond .eq 32, 3) := dk_153 0 32 (dk_at dksX0_isLacking_1 16 rfl rfl)
theorem dX0_isLacking_41 : decode cX0_isLacking 41 = .ok (.aload_n 0, 1) := dk_42 (dk_at dksX0_isLacking_1 19 rfl rfl)
theorem dX0_isLacking_42 : decode cX0_isLacking 42 = .ok (.getfield 10, 3) := dk_180 0 10 (dk_at dksX0_isLacking_1 20 rfl rfl)
theorem dX0_isLacking_45 : decode cX0_isLacking 45 = .ok (.getfield 91, 3) := dk_180 0 91 (dk_at dksX0_isLacking_2 0 rfl rfl)
theorem dX0_isLacking_48 : decode cX0_isLacking 48 = .ok (.getfield 155, 3) := dk_180 0 155 (dk_at dksX0_isLacking_2 3 rfl rfl)
theorem dX0_isLacking_51 : decode cX0_isLacking 51 = .ok (.iload 4, 2) := dk_21 4 (dk_at dksX0_isLacking_2 6 rfl rfl)
theorem dX0_isLacking_53 : decode cX0_isLacking 53 = .ok (.invokevirtual 170, 3) := dk_182 0 170 (dk_at dksX0_isLacking_2 8 rfl rfl)
theorem dX0_isLacking_56 : decode cX0_isLacking 56 = .ok (.checkcast 174, 3) := dk_192 0 174 (dk_at dksX0_isLacking_2 11 rfl rfl)
theorem dX0_isLacking_59 : decode cX0_isLacking 59 = .ok (.getfield 176, 3) := dk_180 0 176 (dk_at dksX0_isLacking_2 14 rfl rfl)
theorem dX0_isLacking_62 : decode cX0_isLacking 62 = .ok (.iload_n 2, 1) := dk_28 (dk_at dksX0_isLacking_2 17 rfl rfl)
theorem dX0_isLacking_63 : decode cX0_isLacking 63 = .ok (.if_icmp .ne 7, 3) := dk_160 0 7 (dk_at dksX0_isLacking_2 18 rfl rfl)
theorem dX0_isLacking_66 : decode cX0_isLacking 66 = .ok (.iconst 1, 1) := dk_4 (dk_at dksX0_isLacking_2 21 rfl rfl)
theorem dX0_isLacking_67 : decode cX0_isLacking 67 = .ok (.goto 4, 3) := dk_167 0 4 (dk_at dksX0_isLacking_3 0 rfl rfl)
theorem dX0_isLacking_70 : decode cX0_isLacking 70 = .ok (.iconst 0, 1) := dk_3 (dk_at dksX0_isLacking_3 3 rfl rfl)
theorem dX0_isLacking_71 : decode cX0_isLacking 71 = .ok (.iadd, 1) := dk_96 (dk_at dksX0_isLacking_3 4 rfl rfl)
theorem dX0_isLacking_72 : decode cX0_isLacking 72 = .ok (.istore_n 3, 1) := dk_62 (dk_at dksX0_isLacking_3 5 rfl rfl)
theorem dX0_isLacking_73 : decode cX0_isLacking 73 = .ok (.iinc 4 1, 3) := dk_132 4 1 (dk_at dksX0_isLacking_3 6 rfl rfl)
theorem dX0_isLacking_76 : decode cX0_isLacking 76 = .ok (.goto (-63), 3) := dk_167 255 193 (dk_at dksX0_isLacking_3 9 rfl rfl)
theorem dX0_isLacking_79 : decode cX0_isLacking 79 = .ok (.iconst 0, 1) := dk_3 (dk_at dksX0_isLacking_3 12 rfl rfl)
theorem dX0_isLacking_80 : decode cX0_isLacking 80 = .ok (.istore 4, 2) := dk_54 4 (dk_at dksX0_isLacking_3 13 rfl rfl)
theorem dX0_isLacking_82 : decode cX0_isLacking 82 = .ok (.iload 4, 2) := dk_21 4 (dk_at dksX0_isLacking_3 15 rfl rfl)
theorem dX0_isLacking_84 : decode cX0_isLacking 84 = .ok (.bipush 15, 2) := dk_16 15 (dk_at dksX0_isLacking_3 17 rfl rfl)
theorem dX0_isLacking_86 : decode cX0_isLacking 86 = .ok (.if_icmp .ge 34, 3) := dk_162 0 34 (dk_at dksX0_isLacking_3 19 rfl rfl)
theorem dX0_isLacking_89 : decode cX0_isLacking 89 = .ok (.iload_n 3, 1) := dk_29 (dk_at dksX0_isLacking_3 22 rfl rfl)
theorem dX0_isLacking_90 : decode cX0_isLacking 90 = .ok (.aload_n 0, 1) := dk_42 (dk_at dksX0_isLacking_3 23 rfl rfl)
theorem dX0_isLacking_91 : decode cX0_isLacking 91 = .ok (.getfield 10, 3) := dk_180 0 10 (dk_at dksX0_isLacking_4 0 rfl rfl)
theorem dX0_isLacking_94 : decode cX0_isLacking 94 = .ok (.getfield 91, 3) := dk_180 0 91 (dk_at dksX0_isLacking_4 3 rfl rfl)
theorem dX0_isLacking_97 : decode cX0_isLacking 97 = .ok (.iload 4, 2) := dk_21 4 (dk_at dksX0_isLacking_4 6 rfl rfl)
theorem dX0_isLacking_99 : decode cX0_isLacking 99 = .ok (.iload_n 1, 1) := dk_27 (dk_at dksX0_isLacking_4 8 rfl rfl)
theorem dX0_isLacking_100 : decode cX0_isLacking 100 = .ok (.invokevirtual 436, 3) := dk_182 1 180 (dk_at dksX0_isLacking_4 9 rfl rfl)
theorem dX0_isLacking_103 : decode cX0_isLacking 103 = .ok (.iload_n 2, 1) := dk_28 (dk_at dksX0_isLacking_4 12 rfl rfl)
theorem dX0_isLacking_104 : decode cX0_isLacking 104 = .ok (.if_icmp .ne 7, 3) := dk_160 0 7 (dk_at dksX0_isLacking_4 13 rfl rfl)
theorem dX0_isLacking_107 : decode cX0_isLacking 107 = .ok (.iconst 1, 1) := dk_4 (dk_at dksX0_isLacking_4 16 rfl rfl)
theorem dX0_isLacking_108 : decode cX0_isLacking 108 = .ok (.goto 4, 3) := dk_167 0 4 (dk_at dksX0_isLacking_4 17 rfl rfl)
theorem dX0_isLacking_111 : decode cX0_isLacking 111 = .ok (.iconst 0, 1) := dk_3 (dk_at dksX0_isLacking_4 20 rfl rfl)
theorem dX0_isLacking_112 : decode cX0_isLacking 112 = .ok (.isub, 1) := dk_100 (dk_at dksX0_isLacking_4 21 rfl rfl)
theorem dX0_isLacking_113 : decode cX0_isLacking 113 = .ok (.istore_n 3, 1) := dk_62 (dk_at dksX0_isLacking_4 22 rfl rfl)
theorem dX0_isLacking_114 : decode cX0_isLacking 114 = .ok (.iinc 4 1, 3) := dk_132 4 1 (dk_at dksX0_isLacking_5 0 rfl rfl)
theorem dX0_isLacking_117 : decode cX0_isLacking 117 = .ok (.goto (-35), 3) := dk_167 255 221 (dk_at dksX0_isLacking_5 3 rfl rfl)
theorem dX0_isLacking_120 : decode cX0_isLacking 120 = .ok (.iload_n 3, 1) := dk_29 (dk_at dksX0_isLacking_5 6 rfl rfl)
theorem dX0_isLacking_121 : decode cX0_isLacking 121 = .ok (.ifCond .ge 5, 3) := dk_156 0 5 (dk_at dksX0_isLacking_5 7 rfl rfl)
theorem dX0_isLacking_124 : decode cX0_isLacking 124 = .ok (.iconst 1, 1) := dk_4 (dk_at dksX0_isLacking_5 10 rfl rfl)
theorem dX0_isLacking_125 : decode cX0_isLacking 125 = .ok (.ireturn, 1) := dk_172 (dk_at dksX0_isLacking_5 11 rfl rfl)
theorem dX0_isLacking_126 : decode cX0_isLacking 126 = .ok (.iinc 2 1, 3) := dk_132 2 1 (dk_at dksX0_isLacking_5 12 rfl rfl)
theorem dX0_isLacking_129 : decode cX0_isLacking 129 = .ok (.goto (-127), 3) := dk_167 255 129 (dk_at dksX0_isLacking_5 15 rfl rfl)
theorem dX0_isLacking_132 : decode cX0_isLacking 132 = .ok (.iconst 0, 1) := dk_3 (dk_at dksX0_isLacking_5 18 rfl rfl)
theorem dX0_isLacking_133 : decode cX0_isLacking 133 = .ok (.ireturn, 1) := dk_172 (dk_at dksX0_isLacking_5 19 rfl rfl)
abbrev cX0_isAgainst : ByteArray := prog_1_method_59_code
def yX0_isAgainst : MethodName := ⟨RX0, "isAgainst", "(I)Z"⟩
def dkwX0_isAgainst_3 : List UInt8 := [180, 0, 211, 182, 1, 189, 154, 0, 5, 4, 172, 132, 2, 1, 167, 255, 173, 3, 172]
abbrev dktX0_isAgainst_3 : List UInt8 := dkwX0_isAgainst_3 ++ []
def dkwX0_isAgainst_2 : List UInt8 := [45, 180, 1, 184, 182, 0, 170, 192, 0, 203, 58, 4, 25, 4, 27, 182, 1, 186, 153, 0, 17, 45, 25, 4]
abbrev dktX0_isAgainst_2 : List UInt8 := dkwX0_isAgainst_2 ++ dktX0_isAgainst_3
def dkwX0_isAgainst_1 : List UInt8 := [180, 0, 91, 180, 1, 169, 28, 182, 0, 170, 192, 1, 182, 78, 42, 180, 0, 10, 180, 0, 91, 180, 0, 201]
abbrev dktX0_isAgainst_1 : List UInt8 := dkwX0_isAgainst_1 ++ dktX0_isAgainst_2
def dkwX0_isAgainst_0 : List UInt8 := [3, 61, 28, 42, 180, 0, 10, 180, 0, 91, 180, 1, 169, 182, 0, 133, 162, 0, 72, 42, 180, 0, 10]
abbrev dktX0_isAgainst_0 : List UInt8 := dkwX0_isAgainst_0 ++ dktX0_isAgainst_1
theorem dksX0_isAgainst_0 : cX0_isAgainst.data.toList.drop 0 = dktX0_isAgainst_0 := by decide +kernel
theorem dksX0_isAgainst_1 : cX0_isAgainst.data.toList.drop 23 = dktX0_isAgainst_1 := dk_seg dksX0_isAgainst_0 23 rfl rfl
theorem dksX0_isAgainst_2 : cX0_isAgainst.data.toList.drop 47 = dktX0_isAgainst_2 := dk_seg dksX0_isAgainst_1 24 rfl rfl
theorem dksX0_isAgainst_3 : cX0_isAgainst.data.toList.drop 71 = dktX0_isAgainst_3 := dk_seg dksX0_isAgainst_2 24 rfl rfl
theorem dX0_isAgainst_0 : decode cX0_isAgainst 0 = .ok (.iconst 0, 1) := dk_3 (dk_at dksX0_isAgainst_0 0 rfl rfl)
theorem dX0_isAgainst_1 : decode cX0_isAgainst 1 = .ok (.istore_n 2, 1) := dk_61 (dk_at dksX0_isAgainst_0 1 rfl rfl)
theorem dX0_isAgainst_2 : decode cX0_isAgainst 2 = .ok (.iload_n 2, 1) := dk_28 (dk_at dksX0_isAgainst_0 2 rfl rfl)
theorem dX0_isAgainst_3 : decode cX0_isAgainst 3 = .ok (.aload_n 0, 1) := dk_42 (dk_at dksX0_isAgainst_0 3 rfl rfl)
theorem dX0_isAgainst_4 : decode cX0_isAgainst 4 = .ok (.getfield 10, 3) := dk_180 0 10 (dk_at dksX0_isAgainst_0 4 rfl rfl)
theorem dX0_isAgainst_7 : decode cX0_isAgainst 7 = .ok (.getfield 91, 3) := dk_180 0 91 (dk_at dksX0_isAgainst_0 7 rfl rfl)
theorem dX0_isAgainst_10 : decode cX0_isAgainst 10 = .ok (.getfield 425, 3) := dk_180 1 169 (dk_at dksX0_isAgainst_0 10 rfl rfl)
theorem dX0_isAgainst_13 : decode cX0_isAgainst 13 = .ok (.invokevirtual 133, 3) := dk_182 0 133 (dk_at dksX0_isAgainst_0 13 rfl rfl)
theorem dX0_isAgainst_16 : decode cX0_isAgainst 16 = .ok (.if_icmp .ge 72, 3) := dk_162 0 72 (dk_at dksX0_isAgainst_0 16 rfl rfl)
theorem dX0_isAgainst_19 : decode cX0_isAgainst 19 = .ok (.aload_n 0, 1) := dk_42 (dk_at dksX0_isAgainst_0 19 rfl rfl)
theorem dX0_isAgainst_20 : decode cX0_isAgainst 20 = .ok (.getfield 10, 3) := dk_180 0 10 (dk_at dksX0_isAgainst_0 20 rfl rfl)
theorem dX0_isAgainst_23 : decode cX0_isAgainst 23 = .ok (.getfield 91, 3) := dk_180 0 91 (dk_at dksX0_isAgainst_1 0 rfl rfl)
theorem dX0_isAgainst_26 : decode cX0_isAgainst 26 = .ok (.getfield 425, 3) := dk_180 1 169 (dk_at dksX0_isAgainst_1 3 rfl rfl)
theorem dX0_isAgainst_29 : decode cX0_isAgainst 29 = .ok (.iload_n 2, 1) := dk_28 (dk_at dksX0_isAgainst_1 6 rfl rfl)
theorem dX0_isAgainst_30 : decode cX0_isAgainst 30 = .ok (.invokevirtual 170, 3) := dk_182 0 170 (dk_at dksX0_isAgainst_1 7 rfl rfl)
theorem dX0_isAgainst_33 : decode cX0_isAgainst 33 = .ok (.checkcast 438, 3) := dk_192 1 182 (dk_at dksX0_isAgainst_1 10 rfl rfl)
theorem dX0_isAgainst_36 : decode cX0_isAgainst 36 = .ok (.astore_n 3, 1) := dk_78 (dk_at dksX0_isAgainst_1 13 rfl rfl)
theorem dX0_isAgainst_37 : decode cX0_isAgainst 37 = .ok (.aload_n 0, 1) := dk_42 (dk_at dksX0_isAgainst_1 14 rfl rfl)
theorem dX0_isAgainst_38 : decode cX0_isAgainst 38 = .ok (.getfield 10, 3) := dk_180 0 10 (dk_at dksX0_isAgainst_1 15 rfl rfl)
theorem dX0_isAgainst_41 : decode cX0_isAgainst 41 = .ok (.getfield 91, 3) := dk_180 0 91 (dk_at dksX0_isAgainst_1 18 rfl rfl)
theorem dX0_isAgainst_44 : decode cX0_isAgainst 44 = .ok (.getfield 201, 3) := dk_180 0 201 (dk_at dksX0_isAgainst_1 21 rfl rfl)
theorem dX0_isAgainst_47 : decode cX0_isAgainst 47 = .ok (.aload_n 3, 1) := dk_45 (dk_at dksX0_isAgainst_2 0 rfl rfl)
theorem dX0_isAgainst_48 : decode cX0_isAgainst 48 = .ok (.getfield 440, 3) := dk_180 1 184 (dk_at dksX0_isAgainst_2 1 rfl rfl)
theorem dX0_isAgainst_51 : decode cX0_isAgainst 51 = .ok (.invokevirtual 170, 3) := dk_182 0 170 (dk_at dksX0_isAgainst_2 4 rfl rfl)
theorem dX0_isAgainst_54 : decode cX0_isAgainst 54 = .ok (.checkcast 203, 3) := dk_192 0 203 (dk_at dksX0_isAgainst_2 7 rfl rfl)
theorem dX0_isAgainst_57 : decode cX0_isAgainst 57 = .ok (.astore 4, 2) := dk_58 4 (dk_at dksX0_isAgainst_2 10 rfl rfl)
theorem dX0_isAgainst_59 : decode cX0_isAgainst 59 = .ok (.aload 4, 2) := dk_25 4 (dk_at dksX0_isAgainst_2 12 rfl rfl)
theorem dX0_isAgainst_61 : decode cX0_isAgainst 61 = .ok (.iload_n 1, 1) := dk_27 (dk_at dksX0_isAgainst_2 14 rfl rfl)
theorem dX0_isAgainst_62 : decode cX0_isAgainst 62 = .ok (.invokevirtual 442, 3) := dk_182 1 186 (dk_at dksX0_isAgainst_2 15 rfl rfl)
theorem dX0_isAgainst_65 : decode cX0_isAgainst 65 = .ok (.ifCond .eq 17, 3) := dk_153 0 17 (dk_at dksX0_isAgainst_2 18 rfl rfl)
theorem dX0_isAgainst_68 : decode cX0_isAgainst 68 = .ok (.aload_n 3, 1) := dk_45 (dk_at dksX0_isAgainst_2 21 rfl rfl)
theorem dX0_isAgainst_69 : decode cX0_isAgainst 69 = .ok (.aload 4, 2) := dk_25 4 (dk_at dksX0_isAgainst_2 22 rfl rfl)
theorem dX0_isAgainst_71 : decode cX0_isAgainst 71 = .ok (.getfield 211, 3) := dk_180 0 211 (dk_at dksX0_isAgainst_3 0 rfl rfl)
theorem dX0_isAgainst_74 : decode cX0_isAgainst 74 = .ok (.invokevirtual 445, 3) := dk_182 1 189 (dk_at dksX0_isAgainst_3 3 rfl rfl)
theorem dX0_isAgainst_77 : decode cX0_isAgainst 77 = .ok (.ifCond .ne 5, 3) := dk_154 0 5 (dk_at dksX0_isAgainst_3 6 rfl rfl)
theorem dX0_isAgainst_80 : decode cX0_isAgainst 80 = .ok (.iconst 1, 1) := dk_4 (dk_at dksX0_isAgainst_3 9 rfl rfl)
theorem dX0_isAgainst_81 : decode cX0_isAgainst 81 = .ok (.ireturn, 1) := dk_172 (dk_at dksX0_isAgainst_3 10 rfl rfl)
theorem dX0_isAgainst_82 : decode cX0_isAgainst 82 = .ok (.iinc 2 1, 3) := dk_132 2 1 (dk_at dksX0_isAgainst_3 11 rfl rfl)
theorem dX0_isAgainst_85 : decode cX0_isAgainst 85 = .ok (.goto (-83), 3) := dk_167 255 173 (dk_at dksX0_isAgainst_3 14 rfl rfl)
theorem dX0_isAgainst_88 : decode cX0_isAgainst 88 = .ok (.iconst 0, 1) := dk_3 (dk_at dksX0_isAgainst_3 17 rfl rfl)
theorem dX0_isAgainst_89 : decode cX0_isAgainst 89 = .ok (.ireturn, 1) := dk_172 (dk_at dksX0_isAgainst_3 18 rfl rfl)
abbrev cX0_easier : ByteArray := prog_1_method_63_code
def yX0_easier : MethodName := ⟨RX0, "easier", "(I)I"⟩
def dkwX0_easier_5 : List UInt8 := [180, 0, 72, 4, 46, 2, 160, 0, 7, 2, 167, 0, 9, 42, 180, 0, 72, 27, 46, 172]
abbrev dktX0_easier_5 : List UInt8 := dkwX0_easier_5 ++ []
def dkwX0_easier_4 : List UInt8 := [153, 0, 10, 42, 29, 21, 4, 182, 1, 221, 132, 4, 1, 167, 255, 229, 132, 3, 1, 167, 255, 212, 42]
abbrev dktX0_easier_4 : List UInt8 := dkwX0_easier_4 ++ dktX0_easier_5
def dkwX0_easier_3 : List UInt8 := [16, 15, 162, 0, 44, 29, 4, 96, 54, 4, 21, 4, 16, 15, 162, 0, 26, 42, 29, 21, 4, 182, 1, 218]
abbrev dktX0_easier_3 : List UInt8 := dkwX0_easier_3 ++ dktX0_easier_4
def dkwX0_easier_2 : List UInt8 := [180, 0, 72, 3, 28, 79, 42, 180, 0, 72, 4, 2, 79, 42, 180, 0, 72, 5, 2, 79, 3, 62, 29]
abbrev dktX0_easier_2 : List UInt8 := dkwX0_easier_2 ++ dktX0_easier_3
def dkwX0_easier_1 : List UInt8 := [180, 0, 10, 180, 0, 147, 2, 2, 182, 1, 162, 61, 28, 16, 252, 160, 0, 6, 16, 252, 172, 42]
abbrev dktX0_easier_1 : List UInt8 := dkwX0_easier_1 ++ dktX0_easier_2
def dkwX0_easier_0 : List UInt8 := [27, 133, 9, 20, 1, 216, 184, 0, 106, 154, 0, 6, 16, 254, 172, 42, 42, 180, 0, 10, 180, 0, 91, 42]
abbrev dktX0_easier_0 : List UInt8 := dkwX0_easier_0 ++ dktX0_easier_1
theorem dksX0_easier_0 : cX0_easier.data.toList.drop 0 = dktX0_easier_0 := by decide +kernel
theorem dksX0_easier_1 : cX0_easier.data.toList.drop 24 = dktX0_easier_1 := dk_seg dksX0_easier_0 24 rfl rfl
theorem dksX0_easier_2 : cX0_easier.data.toList.drop 46 = dktX0_easier_2 := dk_seg dksX0_easier_1 22 rfl rfl
theorem dksX0_easier_3 : cX0_easier.data.toList.drop 69 = dktX0_easier_3 := dk_seg dksX0_easier_2 23 rfl rfl
theorem dksX0_easier_4 : cX0_easier.data.toList.drop 93 = dktX0_easier_4 := dk_seg dksX0_easier_3 24 rfl rfl
theorem dksX0_easier_5 : cX0_easier.data.toList.drop 116 = dktX0_easier_5 := dk_seg dksX0_easier_4 23 rfl rfl
theorem dX0_easier_0 : decode cX0_easier 0 = .ok (.iload_n 1, 1) := dk_27 (dk_at dksX0_easier_0 0 rfl rfl)
theorem dX0_easier_1 : decode cX0_easier 1 = .ok (.i2l, 1) := dk_133 (dk_at dksX0_easier_0 1 rfl rfl)
theorem dX0_easier_2 : decode cX0_easier 2 = .ok (.lconst 0, 1) := dk_9 (dk_at dksX0_easier_0 2 rfl rfl)
theorem dX0_easier_3 : decode cX0_easier 3 = .ok (.ldc2_w 472, 3) := dk_20 1 216 (dk_at dksX0_easier_0 3 rfl rfl)
theorem dX0_easier_6 : decode cX0_easier 6 = .ok (.invokestatic 106, 3) := dk_184 0 106 (dk_at dksX0_easier_0 6 rfl rfl)
theorem dX0_easier_9 : decode cX0_easier 9 = .ok (.ifCond .ne 6, 3) := dk_154 0 6 (dk_at dksX0_easier_0 9 rfl rfl)
theorem dX0_easier_12 : decode cX0_easier 12 = .ok (.bipush (-2), 2) := dk_16 254 (dk_at dksX0_easier_0 12 rfl rfl)
theorem dX0_easier_14 : decode cX0_easier 14 = .ok (.ireturn, 1) := dk_172 (dk_at dksX0_easier_0 14 rfl rfl)
theorem dX0_easier_15 : decode cX0_easier 15 = .ok (.aload_n 0, 1) := dk_42 (dk_at dksX0_easier_0 15 rfl rfl)
theorem dX0_easier_16 : decode cX0_easier 16 = .ok (.aload_n 0, 1) := dk_42 (dk_at dksX0_easier_0 16 rfl rfl)
theorem dX0_easier_17 : decode cX0_easier 17 = .ok (.getfield 10, 3) := dk_180 0 10 (dk_at dksX0_easier_0 17 rfl rfl)
theorem dX0_easier_20 : decode cX0_easier 20 = .ok (.getfield 91, 3) := dk_180 0 91 (dk_at dksX0_easier_0 20 rfl rfl)
theorem dX0_easier_23 : decode cX0_easier 23 = .ok (.aload_n 0, 1) := dk_42 (dk_at dksX0_easier_0 23 rfl rfl)
theorem dX0_easier_24 : decode cX0_easier 24 = .ok (.getfield 10, 3) := dk_180 0 10 (dk_at dksX0_easier_1 0 rfl rfl)
theorem dX0_easier_27 : decode cX0_easier 27 = .ok (.getfield 147, 3) := dk_180 0 147 (dk_at dksX0_easier_1 3 rfl rfl)
theorem dX0_easier_30 : decode cX0_easier 30 = .ok (.iconst (-1), 1) := dk_2 (dk_at dksX0_easier_1 6 rfl rfl)
theorem dX0_easier_31 : decode cX0_easier 31 = .ok (.iconst (-1), 1) := dk_2 (dk_at dksX0_easier_1 7 rfl rfl)
theorem dX0_easier_32 : decode cX0_easier 32 = .ok (.invokevirtual 418, 3) := dk_182 1 162 (dk_at dksX0_easier_1 8 rfl rfl)
theorem dX0_easier_35 : decode cX0_easier 35 = .ok (.istore_n 2, 1) := dk_61 (dk_at dksX0_easier_1 11 rfl rfl)
theorem dX0_easier_36 : decode cX0_easier 36 = .ok (.iload_n 2, 1) := dk_28 (dk_at dksX0_easier_1 12 rfl rfl)
theorem dX0_easier_37 : decode cX0_easier 37 = .ok (.bipush (-4), 2) := dk_16 252 (dk_at dksX0_easier_1 13 rfl rfl)
theorem dX0_easier_39 : decode cX0_easier 39 = .ok (.if_icmp .ne 6, 3) := dk_160 0 6 (dk_at dksX0_easier_1 15 rfl rfl)
theorem dX0_easier_42 : decode cX0_easier 42 = .ok (.bipush (-4), 2) := dk_16 252 (dk_at dksX0_easier_1 18 rfl rfl)
theorem dX0_easier_44 : decode cX0_easier 44 = .ok (.ireturn, 1) := dk_172 (dk_at dksX0_easier_1 20 rfl rfl)
theorem dX0_easier_45 : decode cX0_easier 45 = .ok (.aload_n 0, 1) := dk_42 (dk_at dksX0_easier_1 21 rfl rfl)
theorem dX0_easier_46 : decode cX0_easier 46 = .ok (.getfield 72, 3) := dk_180 0 72 (dk_at dksX0_easier_2 0 rfl rfl)
theorem dX0_easier_49 : decode cX0_easier 49 = .ok (.iconst 0, 1) := dk_3 (dk_at dksX0_easier_2 3 rfl rfl)
theorem dX0_easier_50 : decode cX0_easier 50 = .ok (.iload_n 2, 1) := dk_28 (dk_at dksX0_easier_2 4 rfl rfl)
theorem dX0_easier_51 : decode cX0_easier 51 = .ok (.iastore, 1) := dk_79 (dk_at dksX0_easier_2 5 rfl rfl)
theorem dX0_easier_52 : decode cX0_easier 52 = .ok (.aload_n 0, 1) := dk_42 (dk_at dksX0_easier_2 6 rfl rfl)
theorem dX0_easier_53 : decode cX0_easier 53 = .ok (.getfield 72, 3) := dk_180 0 72 (dk_at dksX0_easier_2 7 rfl rfl)
theorem dX0_easier_56 : decode cX0_easier 56 = .ok (.iconst 1, 1) := dk_4 (dk_at dksX0_easier_2 10 rfl rfl)
theorem dX0_easier_57 : decode cX0_easier 57 = .ok (.iconst (-1), 1) := dk_2 (dk_at dksX0_easier_2 11 rfl rfl)
theorem dX0_easier_58 : decode cX0_easier 58 = .ok (.iastore, 1) := dk_79 (dk_at dksX0_easier_2 12 rfl rfl)
theorem dX0_easier_59 : decode cX0_easier 59 = .ok (.aload_n 0, 1) := dk_42 (dk_at dksX0_easier_2 13 rfl rfl)
theorem dX0_easier_60 : decode cX0_easier 60 = .ok (.getfield 72, 3) := dk_180 0 72 (dk_at dksX0_easier_2 14 rfl rfl)
theorem dX0_easier_63 : decode cX0_easier 63 = .ok (.iconst 2, 1) := dk_5 (dk_at dksX0_easier_2 17 rfl rfl)
theorem dX0_easier_64 : decode cX0_easier 64 = .ok (.iconst (-1), 1) := dk_2 (dk_at dksX0_easier_2 18 rfl rfl)
theorem dX0_easier_65 : decode cX0_easier 65 = .ok (.iastore, 1) := dk_79 (dk_at dksX0_easier_2 19 rfl rfl)
theorem dX0_easier_66 : decode cX0_easier 66 = .ok (.iconst 0, 1) := dk_3 (dk_at dksX0_easier_2 20 rfl rfl)
theorem dX0_easier_67 : decode cX0_easier 67 = .ok (.istore_n 3, 1) := dk_62 (dk_at dksX0_easier_2 21 rfl rfl)
theorem dX0_easier_68 : decode cX0_easier 68 = .ok (.iload_n 3, 1) := dk_29 (dk_at dksX0_easier_2 22 rfl rfl)
theorem dX0_easier_69 : decode cX0_easier 69 = .ok (.bipush 15, 2) := dk_16 15 (dk_at dksX0_easier_3 0 rfl rfl)
theorem dX0_easier_71 : decode cX0_easier 71 = .ok (.if_icmp .ge 44, 3) := dk_162 0 44 (dk_at dksX0_easier_3 2 rfl rfl)
theorem dX0_easier_74 : decode cX0_easier 74 = .ok (.iload_n 3, 1) := dk_29 (dk_at dksX0_easier_3 5 rfl rfl)
theorem dX0_easier_75 : decode cX0_easier 75 = .ok (.iconst 1, 1) := dk_4 (dk_at dksX0_easier_3 6 rfl rfl)
theorem dX0_easier_76 : decode cX0_easier 76 = .ok (.iadd, 1) := dk_96 (dk_at dksX0_easier_3 7 rfl rfl)
theorem dX0_easier_77 : decode cX0_easier 77 = .ok (.istore 4, 2) := dk_54 4 (dk_at dksX0_easier_3 8 rfl rfl)
theorem dX0_easier_79 : decode cX0_easier 79 = .ok (.iload 4, 2) := dk_21 4 (dk_at dksX0_easier_3 10 rfl rfl)
theorem dX0_easier_81 : decode cX0_easier 81 = .ok (.bipush 15, 2) := dk_16 15 (dk_at dksX0_easier_3 12 rfl rfl)
theorem dX0_easier_83 : decode cX0_easier 83 = .ok (.if_icmp .ge 26, 3) := dk_162 0 26 (dk_at dksX0_easier_3 14 rfl rfl)
theorem dX0_easier_86 : decode cX0_easier 86 = .ok (.aload_n 0, 1) := dk_42 (dk_at dksX0_easier_3 17 rfl rfl)
theorem dX0_easier_87 : decode cX0_easier 87 = .ok (.iload_n 3, 1) := dk_29 (dk_at dksX0_easier_3 18 rfl rfl)
theorem dX0_easier_88 : decode cX0_easier 88 = .ok (.iload 4, 2) := dk_21 4 (dk_at dksX0_easier_3 19 rfl rfl)
theorem dX0_easier_90 : decode cX0_easier 90 = .ok (.invokevirtual 474, 3) := dk_182 1 218 (dk_at dksX0_easier_3 21 rfl rfl)
theorem dX0_easier_93 : decode cX0_easier 93 = .ok (.ifCond .eq 10, 3) := dk_153 0 10 (dk_at dksX0_easier_4 0 rfl rfl)
theorem dX0_easier_96 : decode cX0_easier 96 = .ok (.aload_n 0, 1) := dk_42 (dk_at dksX0_easier_4 3 rfl rfl)
theorem dX0_easier_97 : decode cX0_easier 97 = .ok (.iload_n 3, 1) := dk_29 (dk_at dksX0_easier_4 4 rfl rfl)
theorem dX0_easier_98 : decode cX0_easier 98 = .ok (.iload 4, 2) := dk_21 4 (dk_at dksX0_easier_4 5 rfl rfl)
theorem dX0_easier_100 : decode cX0_easier 100 = .ok (.invokevirtual 477, 3) := dk_182 1 221 (dk_at dksX0_easier_4 7 rfl rfl)
theorem dX0_easier_103 : decode cX0_easier 103 = .ok (.iinc 4 1, 3) := dk_132 4 1 (dk_at dksX0_easier_4 10 rfl rfl)
theorem dX0_easier_106 : decode cX0_easier 106 = .ok (.goto (-27), 3) := dk_167 255 229 (dk_at dksX0_easier_4 13 rfl rfl)
theorem dX0_easier_109 : decode cX0_easier 109 = .ok (.iinc 3 1, 3) := dk_132 3 1 (dk_at dksX0_easier_4 16 rfl rfl)
theorem dX0_easier_112 : decode cX0_easier 112 = .ok (.goto (-44), 3) := dk_167 255 212 (dk_at dksX0_easier_4 19 rfl rfl)
theorem dX0_easier_115 : decode cX0_easier 115 = .ok (.aload_n 0, 1) := dk_42 (dk_at dksX0_easier_4 22 rfl rfl)
theorem dX0_easier_116 : decode cX0_easier 116 = .ok (.getfield 72, 3) := dk_180 0 72 (dk_at dksX0_easier_5 0 rfl rfl)
theorem dX0_easier_119 : decode cX0_easier 119 = .ok (.iconst 1, 1) := dk_4 (dk_at dksX0_easier_5 3 rfl rfl)
theorem dX0_easier_120 : decode cX0_easier 120 = .ok (.iaload, 1) := dk_46 (dk_at dksX0_easier_5 4 rfl rfl)
theorem dX0_easier_121 : decode cX0_easier 121 = .ok (.iconst (-1), 1) := dk_2 (dk_at dksX0_easier_5 5 rfl rfl)
theorem dX0_easier_122 : decode cX0_easier 122 = .ok (.if_icmp .ne 7, 3) := dk_160 0 7 (dk_at dksX0_easier_5 6 rfl rfl)
theorem dX0_easier_125 : decode cX0_easier 125 = .ok (.iconst (-1), 1) := dk_2 (dk_at dksX0_easier_5 9 rfl rfl)
theorem dX0_easier_126 : decode cX0_easier 126 = .ok (.goto 9, 3) := dk_167 0 9 (dk_at dksX0_easier_5 10 rfl rfl)
theorem dX0_easier_129 : decode cX0_easier 129 = .ok (.aload_n 0, 1) := dk_42 (dk_at dksX0_easier_5 13 rfl rfl)
theorem dX0_easier_130 : decode cX0_easier 130 = .ok (.getfield 72, 3) := dk_180 0 72 (dk_at dksX0_easier_5 14 rfl rfl)
theorem dX0_easier_133 : decode cX0_easier 133 = .ok (.iload_n 1, 1) := dk_27 (dk_at dksX0_easier_5 17 rfl rfl)
theorem dX0_easier_134 : decode cX0_easier 134 = .ok (.iaload, 1) := dk_46 (dk_at dksX0_easier_5 18 rfl rfl)
theorem dX0_easier_135 : decode cX0_easier 135 = .ok (.ireturn, 1) := dk_172 (dk_at dksX0_easier_5 19 rfl rfl)
abbrev cX0_isExchange : ByteArray := prog_1_method_62_code
def yX0_isExchange : MethodName := ⟨RX0, "isExchange", "(II)Z"⟩
def dkwX0_isExchange_2 : List UInt8 := [167, 0, 4, 3, 172]
abbrev dktX0_isExchange_2 : List UInt8 := dkwX0_isExchange_2 ++ []
def dkwX0_isExchange_1 : List UInt8 := [182, 1, 180, 54, 4, 29, 2, 159, 0, 19, 21, 4, 2, 159, 0, 13, 29, 21, 4, 159, 0, 7, 4]
abbrev dktX0_isExchange_1 : List UInt8 := dkwX0_isExchange_1 ++ dktX0_isExchange_2
def dkwX0_isExchange_0 : List UInt8 := [42, 180, 0, 10, 180, 0, 91, 27, 2, 182, 1, 180, 62, 42, 180, 0, 10, 180, 0, 91, 28, 2]
abbrev dktX0_isExchange_0 : List UInt8 := dkwX0_isExchange_0 ++ dktX0_isExchange_1
theorem dksX0_isExchange_0 : cX0_isExchange.data.toList.drop 0 = dktX0_isExchange_0 := by decide +kernel
theorem dksX0_isExchange_1 : cX0_isExchange.data.toList.drop 22 = dktX0_isExchange_1 := dk_seg dksX0_isExchange_0 22 rfl rfl
theorem dksX0_isExchange_2 : cX0_isExchange.data.toList.drop 45 = dktX0_isExchange_2 := dk_seg dksX0_isExchange_1 23 rfl rfl
theorem dX0_isExchange_0 : decode cX0_isExchange 0 = .ok (.aload_n 0, 1) := dk_42 (dk_at dksX0_isExchange_0 0 rfl rfl)
theorem dX0_isExchange_1 : decode cX0_isExchange 1 = .ok (.getfield 10, 3) := dk_180 0 10 (dk_at dksX0_isExchange_0 1 rfl rfl)
theorem dX0_isExchange_4 : decode cX0_isExchange 4 = .ok (.getfield 91, 3) := dk_180 0 91 (dk_at dksX0_isExchange_0 4 rfl rfl)
theorem dX0_isExchange_7 : decode cX0_isExchange 7 = .ok (.iload_n 1, 1) := dk_27 (dk_at dksX0_isExchange_0 7 rfl rfl)
theorem dX0_isExchange_8 : decode cX0_isExchange 8 = .ok (.iconst (-1), 1) := dk_2 (dk_at dksX0_isExchange_0 8 rfl rfl)
theorem dX0_isExchange_9 : decode cX0_isExchange 9 = .ok (.invokevirtual 436, 3) := dk_182 1 180 (dk_at dksX0_isExchange_0 9 rfl rfl)
theorem dX0_isExchange_12 : decode cX0_isExchange 12 = .ok (.istore_n 3, 1) := dk_62 (dk_at dksX0_isExchange_0 12 rfl rfl)
theorem dX0_isExchange_13 : decode cX0_isExchange 13 = .ok (.aload_n 0, 1) := dk_42 (dk_at dksX0_isExchange_0 13 rfl rfl)
theorem dX0_isExchange_14 : decode cX0_isExchange 14 = .ok (.getfield 10, 3) := dk_180 0 10 (dk_at dksX0_isExchange_0 14 rfl rfl)
theorem dX0_isExchange_17 : decode cX0_isExchange 17 = .ok (.getfield 91, 3) := dk_180 0 91 (dk_at dksX0_isExchange_0 17 rfl rfl)
theorem dX0_isExchange_20 : decode cX0_isExchange 20 = .ok (.iload_n 2, 1) := dk_28 (dk_at dksX0_isExchange_0 20 rfl rfl)
theorem dX0_isExchange_21 : decode cX0_isExchange 21 = .ok (.iconst (-1), 1) := dk_2 (dk_at dksX0_isExchange_0 21 rfl rfl)
theorem dX0_isExchange_22 : decode cX0_isExchange 22 = .ok (.invokevirtual 436, 3) := dk_182 1 180 (dk_at dksX0_isExchange_1 0 rfl rfl)
theorem dX0_isExchange_25 : decode cX0_isExchange 25 = .ok (.istore 4, 2) := dk_54 4 (dk_at dksX0_isExchange_1 3 rfl rfl)
theorem dX0_isExchange_27 : decode cX0_isExchange 27 = .ok (.iload_n 3, 1) := dk_29 (dk_at dksX0_isExchange_1 5 rfl rfl)
theorem dX0_isExchange_28 : decode cX0_isExchange 28 = .ok (.iconst (-1), 1) := dk_2 (dk_at dksX0_isExchange_1 6 rfl rfl)
theorem dX0_isExchange_29 : decode cX0_isExchange 29 = .ok (.if_icmp .eq 19, 3) := dk_159 0 19 (dk_at dksX0_isExchange_1 7 rfl rfl)
theorem dX0_isExchange_32 : decode cX0_isExchange 32 = .ok (.iload 4, 2) := dk_21 4 (dk_at dksX0_isExchange_1 10 rfl rfl)
theorem dX0_isExchange_34 : decode cX0_isExchange 34 = .ok (.iconst (-1), 1) := dk_2 (dk_at dksX0_isExchange_1 12 rfl rfl)
theorem dX0_isExchange_35 : decode cX0_isExchange 35 = .ok (.if_icmp .eq 13, 3) := dk_159 0 13 (dk_at dksX0_isExchange_1 13 rfl rfl)
theorem dX0_isExchange_38 : decode cX0_isExchange 38 = .ok (.iload_n 3, 1) := dk_29 (dk_at dksX0_isExchange_1 16 rfl rfl)
theorem dX0_isExchange_39 : decode cX0_isExchange 39 = .ok (.iload 4, 2) := dk_21 4 (dk_at dksX0_isExchange_1 17 rfl rfl)
theorem dX0_isExchange_41 : decode cX0_isExchange 41 = .ok (.if_icmp .eq 7, 3) := dk_159 0 7 (dk_at dksX0_isExchange_1 19 rfl rfl)
theorem dX0_isExchange_44 : decode cX0_isExchange 44 = .ok (.iconst 1, 1) := dk_4 (dk_at dksX0_isExchange_1 22 rfl rfl)
theorem dX0_isExchange_45 : decode cX0_isExchange 45 = .ok (.goto 4, 3) := dk_167 0 4 (dk_at dksX0_isExchange_2 0 rfl rfl)
theorem dX0_isExchange_48 : decode cX0_isExchange 48 = .ok (.iconst 0, 1) := dk_3 (dk_at dksX0_isExchange_2 3 rfl rfl)
theorem dX0_isExchange_49 : decode cX0_isExchange 49 = .ok (.ireturn, 1) := dk_172 (dk_at dksX0_isExchange_2 4 rfl rfl)
abbrev cX0_eases : ByteArray := prog_1_method_64_code
def yX0_eases : MethodName := ⟨RX0, "eases", "(II)V"⟩
def dkwX0_eases_2 : List UInt8 := [180, 0, 72, 3, 29, 79, 42, 180, 0, 72, 4, 27, 79, 42, 180, 0, 72, 5, 28, 79, 177]
abbrev dktX0_eases_2 : List UInt8 := dkwX0_eases_2 ++ []
def dkwX0_eases_1 : List UInt8 := [42, 180, 0, 72, 3, 46, 2, 159, 0, 14, 29, 42, 180, 0, 72, 3, 46, 161, 0, 4, 177, 42]
abbrev dktX0_eases_1 : List UInt8 := dkwX0_eases_1 ++ dktX0_eases_2
def dkwX0_eases_0 : List UInt8 := [42, 42, 27, 28, 182, 1, 225, 42, 180, 0, 10, 180, 0, 147, 2, 2, 182, 1, 162, 62, 29, 155, 0, 23]
abbrev dktX0_eases_0 : List UInt8 := dkwX0_eases_0 ++ dktX0_eases_1
theorem dksX0_eases_0 : cX0_eases.data.toList.drop 0 = dktX0_eases_0 := by decide +kernel
theorem dksX0_eases_1 : cX0_eases.data.toList.drop 24 = dktX0_eases_1 := dk_seg dksX0_eases_0 24 rfl rfl
theorem dksX0_eases_2 : cX0_eases.data.toList.drop 46 = dktX0_eases_2 := dk_seg dksX0_eases_1 22 rfl rfl
theorem dX0_eases_0 : decode cX0_eases 0 = .ok (.aload_n 0, 1) := dk_42 (dk_at dksX0_eases_0 0 rfl rfl)
theorem dX0_eases_1 : decode cX0_eases 1 = .ok (.aload_n 0, 1) := dk_42 (dk_at dksX0_eases_0 1 rfl rfl)
theorem dX0_eases_2 : decode cX0_eases 2 = .ok (.iload_n 1, 1) := dk_27 (dk_at dksX0_eases_0 2 rfl rfl)
theorem dX0_eases_3 : decode cX0_eases 3 = .ok (.iload_n 2, 1) := dk_28 (dk_at dksX0_eases_0 3 rfl rfl)
theorem dX0_eases_4 : decode cX0_eases 4 = .ok (.invokevirtual 481, 3) := dk_182 1 225 (dk_at dksX0_eases_0 4 rfl rfl)
theorem dX0_eases_7 : decode cX0_eases 7 = .ok (.aload_n 0, 1) := dk_42 (dk_at dksX0_eases_0 7 rfl rfl)
theorem dX0_eases_8 : decode cX0_eases 8 = .ok (.getfield 10, 3) := dk_180 0 10 (dk_at dksX0_eases_0 8 rfl rfl)
theorem dX0_eases_11 : decode cX0_eases 11 = .ok (.getfield 147, 3) := dk_180 0 147 (dk_at dksX0_eases_0 11 rfl rfl)
theorem dX0_eases_14 : decode cX0_eases 14 = .ok (.iconst (-1), 1) := dk_2 (dk_at dksX0_eases_0 14 rfl rfl)
theorem dX0_eases_15 : decode cX0_eases 15 = .ok (.iconst (-1), 1) := dk_2 (dk_at dksX0_eases_0 15 rfl rfl)
theorem dX0_eases_16 : decode cX0_eases 16 = .ok (.invokevirtual 418, 3) := dk_182 1 162 (dk_at dksX0_eases_0 16 rfl rfl)
theorem dX0_eases_19 : decode cX0_eases 19 = .ok (.istore_n 3, 1) := dk_62 (dk_at dksX0_eases_0 19 rfl rfl)
theorem dX0_eases_20 : decode cX0_eases 20 = .ok (.iload_n 3, 1) := dk_29 (dk_at dksX0_eases_0 20 rfl rfl)
theorem dX0_eases_21 : decode cX0_eases 21 = .ok (.ifCond .lt 23, 3) := dk_155 0 23 (dk_at dksX0_eases_0 21 rfl rfl)
theorem dX0_eases_24 : decode cX0_eases 24 = .ok (.aload_n 0, 1) := dk_42 (dk_at dksX0_eases_1 0 rfl rfl)
theorem dX0_eases_25 : decode cX0_eases 25 = .ok (.getfield 72, 3) := dk_180 0 72 (dk_at dksX0_eases_1 1 rfl rfl)
theorem dX0_eases_28 : decode cX0_eases 28 = .ok (.iconst 0, 1) := dk_3 (dk_at dksX0_eases_1 4 rfl rfl)
theorem dX0_eases_29 : decode cX0_eases 29 = .ok (.iaload, 1) := dk_46 (dk_at dksX0_eases_1 5 rfl rfl)
theorem dX0_eases_30 : decode cX0_eases 30 = .ok (.iconst (-1), 1) := dk_2 (dk_at dksX0_eases_1 6 rfl rfl)
theorem dX0_eases_31 : decode cX0_eases 31 = .ok (.if_icmp .eq 14, 3) := dk_159 0 14 (dk_at dksX0_eases_1 7 rfl rfl)
theorem dX0_eases_34 : decode cX0_eases 34 = .ok (.iload_n 3, 1) := dk_29 (dk_at dksX0_eases_1 10 rfl rfl)
theorem dX0_eases_35 : decode cX0_eases 35 = .ok (.aload_n 0, 1) := dk_42 (dk_at dksX0_eases_1 11 rfl rfl)
theorem dX0_eases_36 : decode cX0_eases 36 = .ok (.getfield 72, 3) := dk_180 0 72 (dk_at dksX0_eases_1 12 rfl rfl)
theorem dX0_eases_39 : decode cX0_eases 39 = .ok (.iconst 0, 1) := dk_3 (dk_at dksX0_eases_1 15 rfl rfl)
theorem dX0_eases_40 : decode cX0_eases 40 = .ok (.iaload, 1) := dk_46 (dk_at dksX0_eases_1 16 rfl rfl)
theorem dX0_eases_41 : decode cX0_eases 41 = .ok (.if_icmp .lt 4, 3) := dk_161 0 4 (dk_at dksX0_eases_1 17 rfl rfl)
theorem dX0_eases_44 : decode cX0_eases 44 = .ok (.return_, 1) := dk_177 (dk_at dksX0_eases_1 20 rfl rfl)
theorem dX0_eases_45 : decode cX0_eases 45 = .ok (.aload_n 0, 1) := dk_42 (dk_at dksX0_eases_1 21 rfl rfl)
theorem dX0_eases_46 : decode cX0_eases 46 = .ok (.getfield 72, 3) := dk_180 0 72 (dk_at dksX0_eases_2 0 rfl rfl)
theorem dX0_eases_49 : decode cX0_eases 49 = .ok (.iconst 0, 1) := dk_3 (dk_at dksX0_eases_2 3 rfl rfl)
theorem dX0_eases_50 : decode cX0_eases 50 = .ok (.iload_n 3, 1) := dk_29 (dk_at dksX0_eases_2 4 rfl rfl)
theorem dX0_eases_51 : decode cX0_eases 51 = .ok (.iastore, 1) := dk_79 (dk_at dksX0_eases_2 5 rfl rfl)
theorem dX0_eases_52 : decode cX0_eases 52 = .ok (.aload_n 0, 1) := dk_42 (dk_at dksX0_eases_2 6 rfl rfl)
theorem dX0_eases_53 : decode cX0_eases 53 = .ok (.getfield 72, 3) := dk_180 0 72 (dk_at dksX0_eases_2 7 rfl rfl)
theorem dX0_eases_56 : decode cX0_eases 56 = .ok (.iconst 1, 1) := dk_4 (dk_at dksX0_eases_2 10 rfl rfl)
theorem dX0_eases_57 : decode cX0_eases 57 = .ok (.iload_n 1, 1) := dk_27 (dk_at dksX0_eases_2 11 rfl rfl)
theorem dX0_eases_58 : decode cX0_eases 58 = .ok (.iastore, 1) := dk_79 (dk_at dksX0_eases_2 12 rfl rfl)
theorem dX0_eases_59 : decode cX0_eases 59 = .ok (.aload_n 0, 1) := dk_42 (dk_at dksX0_eases_2 13 rfl rfl)
theorem dX0_eases_60 : decode cX0_eases 60 = .ok (.getfield 72, 3) := dk_180 0 72 (dk_at dksX0_eases_2 14 rfl rfl)
theorem dX0_eases_63 : decode cX0_eases 63 = .ok (.iconst 2, 1) := dk_5 (dk_at dksX0_eases_2 17 rfl rfl)
theorem dX0_eases_64 : decode cX0_eases 64 = .ok (.iload_n 2, 1) := dk_28 (dk_at dksX0_eases_2 18 rfl rfl)
theorem dX0_eases_65 : decode cX0_eases 65 = .ok (.iastore, 1) := dk_79 (dk_at dksX0_eases_2 19 rfl rfl)
theorem dX0_eases_66 : decode cX0_eases 66 = .ok (.return_, 1) := dk_177 (dk_at dksX0_eases_2 20 rfl rfl)
abbrev cX0_exchanged : ByteArray := prog_1_method_61_code
def yX0_exchanged : MethodName := ⟨RX0, "exchanged", "(II)LStoneYear$Town;"⟩
def dkwX0_exchanged_13 : List UInt8 := [6, 108, 182, 0, 170, 192, 0, 203, 180, 0, 217, 28, 6, 112, 21, 4, 79, 45, 176]
abbrev dktX0_exchanged_13 : List UInt8 := dkwX0_exchanged_13 ++ []
def dkwX0_exchanged_12 : List UInt8 := [180, 0, 217, 27, 6, 112, 42, 180, 0, 10, 180, 0, 91, 28, 2, 182, 1, 180, 79, 45, 180, 0, 201, 28]
abbrev dktX0_exchanged_12 : List UInt8 := dkwX0_exchanged_12 ++ dktX0_exchanged_13
def dkwX0_exchanged_11 : List UInt8 := [180, 0, 91, 27, 2, 182, 1, 180, 54, 4, 45, 180, 0, 201, 27, 6, 108, 182, 0, 170, 192, 0, 203]
abbrev dktX0_exchanged_11 : List UInt8 := dkwX0_exchanged_11 ++ dktX0_exchanged_12
def dkwX0_exchanged_10 : List UInt8 := [180, 1, 210, 181, 1, 210, 45, 42, 180, 0, 10, 180, 0, 91, 180, 1, 213, 181, 1, 213, 42, 180, 0, 10]
abbrev dktX0_exchanged_10 : List UInt8 := dkwX0_exchanged_10 ++ dktX0_exchanged_11
def dkwX0_exchanged_9 : List UInt8 := [45, 42, 180, 0, 10, 180, 0, 91, 180, 1, 207, 181, 1, 207, 45, 42, 180, 0, 10, 180, 0, 91]
abbrev dktX0_exchanged_9 : List UInt8 := dkwX0_exchanged_9 ++ dktX0_exchanged_10
def dkwX0_exchanged_8 : List UInt8 := [180, 0, 91, 180, 1, 169, 21, 4, 182, 0, 170, 192, 1, 182, 182, 1, 203, 87, 132, 4, 1, 167, 255, 209]
abbrev dktX0_exchanged_8 : List UInt8 := dkwX0_exchanged_8 ++ dktX0_exchanged_9
def dkwX0_exchanged_7 : List UInt8 := [180, 0, 10, 180, 0, 91, 180, 1, 169, 182, 0, 133, 162, 0, 35, 45, 180, 1, 169, 42, 180, 0, 10]
abbrev dktX0_exchanged_7 : List UInt8 := dkwX0_exchanged_7 ++ dktX0_exchanged_8
def dkwX0_exchanged_6 : List UInt8 := [182, 0, 170, 192, 0, 174, 182, 1, 203, 87, 132, 4, 1, 167, 255, 209, 3, 54, 4, 21, 4, 42]
abbrev dktX0_exchanged_6 : List UInt8 := dkwX0_exchanged_6 ++ dktX0_exchanged_7
def dkwX0_exchanged_5 : List UInt8 := [182, 0, 133, 162, 0, 35, 45, 180, 0, 155, 42, 180, 0, 10, 180, 0, 91, 180, 0, 155, 21, 4]
abbrev dktX0_exchanged_5 : List UInt8 := dkwX0_exchanged_5 ++ dktX0_exchanged_6
def dkwX0_exchanged_4 : List UInt8 := [87, 132, 4, 1, 167, 255, 169, 3, 54, 4, 21, 4, 42, 180, 0, 10, 180, 0, 91, 180, 0, 155]
abbrev dktX0_exchanged_4 : List UInt8 := dkwX0_exchanged_4 ++ dktX0_exchanged_5
def dkwX0_exchanged_3 : List UInt8 := [167, 0, 21, 42, 180, 0, 10, 180, 0, 91, 180, 0, 201, 21, 4, 182, 0, 170, 192, 0, 203, 182, 1, 203]
abbrev dktX0_exchanged_3 : List UInt8 := dkwX0_exchanged_3 ++ dktX0_exchanged_4
def dkwX0_exchanged_2 : List UInt8 := [160, 0, 27, 42, 180, 0, 10, 180, 0, 91, 180, 0, 201, 21, 4, 182, 0, 170, 192, 0, 203, 182, 1, 199]
abbrev dktX0_exchanged_2 : List UInt8 := dkwX0_exchanged_2 ++ dktX0_exchanged_3
def dkwX0_exchanged_1 : List UInt8 := [182, 0, 133, 162, 0, 75, 45, 180, 0, 201, 21, 4, 27, 6, 108, 159, 0, 11, 21, 4, 28, 6, 108]
abbrev dktX0_exchanged_1 : List UInt8 := dkwX0_exchanged_1 ++ dktX0_exchanged_2
def dkwX0_exchanged_0 : List UInt8 := [187, 0, 141, 89, 183, 1, 198, 78, 3, 54, 4, 21, 4, 42, 180, 0, 10, 180, 0, 91, 180, 0, 201]
abbrev dktX0_exchanged_0 : List UInt8 := dkwX0_exchanged_0 ++ dktX0_exchanged_1
theorem dksX0_exchanged_0 : cX0_exchanged.data.toList.drop 0 = dktX0_exchanged_0 := by decide +kernel
theorem dksX0_exchanged_1 : cX0_exchanged.data.toList.drop 23 = dktX0_exchanged_1 := dk_seg dksX0_exchanged_0 23 rfl rfl
theorem dksX0_exchanged_2 : cX0_exchanged.data.toList.drop 46 = dktX0_exchanged_2 := dk_seg dksX0_exchanged_1 23 rfl rfl
theorem dksX0_exchanged_3 : cX0_exchanged.data.toList.drop 70 = dktX0_exchanged_3 := dk_seg dksX0_exchanged_2 24 rfl rfl
theorem dksX0_exchanged_4 : cX0_exchanged.data.toList.drop 94 = dktX0_exchanged_4 := dk_seg dksX0_exchanged_3 24 rfl rfl
theorem dksX0_exchanged_5 : cX0_exchanged.data.toList.drop 116 = dktX0_exchanged_5 := dk_seg dksX0_exchanged_4 22 rfl rfl
theorem dksX0_exchanged_6 : cX0_exchanged.data.toList.drop 138 = dktX0_exchanged_6 := dk_seg dksX0_exchanged_5 22 rfl rfl
theorem dksX0_exchanged_7 : cX0_exchanged.data.toList.drop 160 = dktX0_exchanged_7 := dk_seg dksX0_exchanged_6 22 rfl rfl
theorem dksX0_exchanged_8 : cX0_exchanged.data.toList.drop 183 = dktX0_exchanged_8 := dk_seg dksX0_exchanged_7 23 rfl rfl
theorem dksX0_exchanged_9 : cX0_exchanged.data.toList.drop 207 = dktX0_exchanged_9 := dk_seg dksX0_exchanged_8 24 rfl rfl
theorem dksX0_exchanged_10 : cX0_exchanged.data.toList.drop 229 = dktX0_exchanged_10 := dk_seg dksX0_exchanged_9 22 rfl rfl
theorem dksX0_exchanged_11 : cX0_exchanged.data.toList.drop 253 = dktX0_exchanged_11 := dk_seg dksX0_exchanged_10 24 rfl rfl
theorem dksX0_exchanged_12 : cX0_exchanged.data.toList.drop 276 = dktX0_exchanged_12 := dk_seg dksX0_exchanged_11 23 rfl rfl
theorem dksX0_exchanged_13 : cX0_exchanged.data.toList.drop 300 = dktX0_exchanged_13 := dk_seg dksX0_exchanged_12 24 rfl rfl
theorem dX0_exchanged_0 : decode cX0_exchanged 0 = .ok (.new 141, 3) := dk_187 0 141 (dk_at dksX0_exchanged_0 0 rfl rfl)
theorem dX0_exchanged_3 : decode cX0_exchanged 3 = .ok (.dup, 1) := dk_89 (dk_at dksX0_exchanged_0 3 rfl rfl)
theorem dX0_exchanged_4 : decode cX0_exchanged 4 = .ok (.invokespecial 454, 3) := dk_183 1 198 (dk_at dksX0_exchanged_0 4 rfl rfl)
theorem dX0_exchanged_7 : decode cX0_exchanged 7 = .ok (.astore_n 3, 1) := dk_78 (dk_at dksX0_exchanged_0 7 rfl rfl)
theorem dX0_exchanged_8 : decode cX0_exchanged 8 = .ok (.iconst 0, 1) := dk_3 (dk_at dksX0_exchanged_0 8 rfl rfl)
theorem dX0_exchanged_9 : decode cX0_exchanged 9 = .ok (.istore 4, 2) := dk_54 4 (dk_at dksX0_exchanged_0 9 rfl rfl)
theorem dX0_exchanged_11 : decode cX0_exchanged 11 = .ok (.iload 4, 2) := dk_21 4 (dk_at dksX0_exchanged_0 11 rfl rfl)
theorem dX0_exchanged_13 : decode cX0_exchanged 13 = .ok (.aload_n 0, 1) := dk_42 (dk_at dksX0_exchanged_0 13 rfl rfl)
theorem dX0_exchanged_14 : decode cX0_exchanged 14 = .ok (.getfield 10, 3) := dk_180 0 10 (dk_at dksX0_exchanged_0 14 rfl rfl)
theorem dX0_exchanged_17 : decode cX0_exchanged 17 = .ok (.getfield 91, 3) := dk_180 0 91 (dk_at dksX0_exchanged_0 17 rfl rfl)
theorem dX0_exchanged_20 : decode cX0_exchanged 20 = .ok (.getfield 201, 3) := dk_180 0 201 (dk_at dksX0_exchanged_0 20 rfl rfl)
theorem dX0_exchanged_23 : decode cX0_exchanged 23 = .ok (.invokevirtual 133, 3) := dk_182 0 133 (dk_at dksX0_exchanged_1 0 rfl rfl)
theorem dX0_exchanged_26 : decode cX0_exchanged 26 = .ok (.if_icmp .ge 75, 3) := dk_162 0 75 (dk_at dksX0_exchanged_1 3 rfl rfl)
theorem dX0_exchanged_29 : decode cX0_exchanged 29 = .ok (.aload_n 3, 1) := dk_45 (dk_at dksX0_exchanged_1 6 rfl rfl)
theorem dX0_exchanged_30 : decode cX0_exchanged 30 = .ok (.getfield 201, 3) := dk_180 0 201 (dk_at dksX0_exchanged_1 7 rfl rfl)
theorem dX0_exchanged_33 : decode cX0_exchanged 33 = .ok (.iload 4, 2) := dk_21 4 (dk_at dksX0_exchanged_1 10 rfl rfl)
theorem dX0_exchanged_35 : decode cX0_exchanged 35 = .ok (.iload_n 1, 1) := dk_27 (dk_at dksX0_exchanged_1 12 rfl rfl)
theorem dX0_exchanged_36 : decode cX0_exchanged 36 = .ok (.iconst 3, 1) := dk_6 (dk_at dksX0_exchanged_1 13 rfl rfl)
theorem dX0_exchanged_37 : decode cX0_exchanged 37 = .ok (.idiv, 1) := dk_108 (dk_at dksX0_exchanged_1 14 rfl rfl)
theorem dX0_exchanged_38 : decode cX0_exchanged 38 = .ok (.if_icmp .eq 11, 3) := dk_159 0 11 (dk_at dksX0_exchanged_1 15 rfl rfl)
theorem dX0_exchanged_41 : decode cX0_exchanged 41 = .ok (.iload 4, 2) := dk_21 4 (dk_at dksX0_exchanged_1 18 rfl rfl)
theorem dX0_exchanged_43 : decode cX0_exchanged 43 = .ok (.iload_n 2, 1) := dk_28 (dk_at dksX0_exchanged_1 20 rfl rfl)
theorem dX0_exchanged_44 : decode cX0_exchanged 44 = .ok (.iconst 3, 1) := dk_6 (dk_at dksX0_exchanged_1 21 rfl rfl)
theorem dX0_exchanged_45 : decode cX0_exchanged 45 = .ok (.idiv, 1) := dk_108 (dk_at dksX0_exchanged_1 22 rfl rfl)
theorem dX0_exchanged_46 : decode cX0_exchanged 46 = .ok (.if_icmp .ne 27, 3) := dk_160 0 27 (dk_at dksX0_exchanged_2 0 rfl rfl)
theorem dX0_exchanged_49 : decode cX0_exchanged 49 = .ok (.aload_n 0, 1) := dk_42 (dk_at dksX0_exchanged_2 3 rfl rfl)
theorem dX0_exchanged_50 : decode cX0_exchanged 50 = .ok (.getfield 10, 3) := dk_180 0 10 (dk_at dksX0_exchanged_2 4 rfl rfl)
theorem dX0_exchanged_53 : decode cX0_exchanged 53 = .ok (.getfield 91, 3) := dk_180 0 91 (dk_at dksX0_exchanged_2 7 rfl rfl)
theorem dX0_exchanged_56 : decode cX0_exchanged 56 = .ok (.getfield 201, 3) := dk_180 0 201 (dk_at dksX0_exchanged_2 10 rfl rfl)
theorem dX0_exchanged_59 : decode cX0_exchanged 59 = .ok (.iload 4, 2) := dk_21 4 (dk_at dksX0_exchanged_2 13 rfl rfl)
theorem dX0_exchanged_61 : decode cX0_exchanged 61 = .ok (.invokevirtual 170, 3) := dk_182 0 170 (dk_at dksX0_exchanged_2 15 rfl rfl)
theorem dX0_exchanged_64 : decode cX0_exchanged 64 = .ok (.checkcast 203, 3) := dk_192 0 203 (dk_at dksX0_exchanged_2 18 rfl rfl)
theorem dX0_exchanged_67 : decode cX0_exchanged 67 = .ok (.invokevirtual 455, 3) := dk_182 1 199 (dk_at dksX0_exchanged_2 21 rfl rfl)
theorem dX0_exchanged_70 : decode cX0_exchanged 70 = .ok (.goto 21, 3) := dk_167 0 21 (dk_at dksX0_exchanged_3 0 rfl rfl)
theorem dX0_exchanged_73 : decode cX0_exchanged 73 = .ok (.aload_n 0, 1) := dk_42 (dk_at dksX0_exchanged_3 3 rfl rfl)
theorem dX0_exchanged_74 : decode cX0_exchanged 74 = .ok (.getfield 10, 3) := dk_180 0 10 (dk_at dksX0_exchanged_3 4 rfl rfl)
theorem dX0_exchanged_77 : decode cX0_exchanged 77 = .ok (.getfield 91, 3) := dk_180 0 91 (dk_at dksX0_exchanged_3 7 rfl rfl)
theorem dX0_exchanged_80 : decode cX0_exchanged 80 = .ok (.getfield 201, 3) := dk_180 0 201 (dk_at dksX0_exchanged_3 10 rfl rfl)
theorem dX0_exchanged_83 : decode cX0_exchanged 83 = .ok (.iload 4, 2) := dk_21 4 (dk_at dksX0_exchanged_3 13 rfl rfl)
theorem dX0_exchanged_85 : decode cX0_exchanged 85 = .ok (.invokevirtual 170, 3) := dk_182 0 170 (dk_at dksX0_exchanged_3 15 rfl rfl)
theorem dX0_exchanged_88 : decode cX0_exchanged 88 = .ok (.checkcast 203, 3) := dk_192 0 203 (dk_at dksX0_exchanged_3 18 rfl rfl)
theorem dX0_exchanged_91 : decode cX0_exchanged 91 = .ok (.invokevirtual 459, 3) := dk_182 1 203 (dk_at dksX0_exchanged_3 21 rfl rfl)
theorem dX0_exchanged_94 : decode cX0_exchanged 94 = .ok (.pop, 1) := dk_87 (dk_at dksX0_exchanged_4 0 rfl rfl)
theorem dX0_exchanged_95 : decode cX0_exchanged 95 = .ok (.iinc 4 1, 3) := dk_132 4 1 (dk_at dksX0_exchanged_4 1 rfl rfl)
theorem dX0_exchanged_98 : decode cX0_exchanged 98 = .ok (.goto (-87), 3) := dk_167 255 169 (dk_at dksX0_exchanged_4 4 rfl rfl)
theorem dX0_exchanged_101 : decode cX0_exchanged 101 = .ok (.iconst 0, 1) := dk_3 (dk_at dksX0_exchanged_4 7 rfl rfl)
theorem dX0_exchanged_102 : decode cX0_exchanged 102 = .ok (.istore 4, 2) := dk_54 4 (dk_at dksX0_exchanged_4 8 rfl rfl)
theorem dX0_exchanged_104 : decode cX0_exchanged 104 = .ok (.iload 4, 2) := dk_21 4 (dk_at dksX0_exchanged_4 10 rfl rfl)
theorem dX0_exchanged_106 : decode cX0_exchanged 106 = .ok (.aload_n 0, 1) := dk_42 (dk_at dksX0_exchanged_4 12 rfl rfl)
theorem dX0_exchanged_107 : decode cX0_exchanged 107 = .ok (.getfield 10, 3) := dk_180 0 10 (dk_at dksX0_exchanged_4 13 rfl rfl)
theorem dX0_exchanged_110 : decode cX0_exchanged 110 = .ok (.getfield 91, 3) := dk_180 0 91 (dk_at dksX0_exchanged_4 16 rfl rfl)
theorem dX0_exchanged_113 : decode cX0_exchanged 113 = .ok (.getfield 155, 3) := dk_180 0 155 (dk_at dksX0_exchanged_4 19 rfl rfl)
theorem dX0_exchanged_116 : decode cX0_exchanged 116 = .ok (.invokevirtual 133, 3) := dk_182 0 133 (dk_at dksX0_exchanged_5 0 rfl rfl)
theorem dX0_exchanged_119 : decode cX0_exchanged 119 = .ok (.if_icmp .ge 35, 3) := dk_162 0 35 (dk_at dksX0_exchanged_5 3 rfl rfl)
theorem dX0_exchanged_122 : decode cX0_exchanged 122 = .ok (.aload_n 3, 1) := dk_45 (dk_at dksX0_exchanged_5 6 rfl rfl)
theorem dX0_exchanged_123 : decode cX0_exchanged 123 = .ok (.getfield 155, 3) := dk_180 0 155 (dk_at dksX0_exchanged_5 7 rfl rfl)
theorem dX0_exchanged_126 : decode cX0_exchanged 126 = .ok (.aload_n 0, 1) := dk_42 (dk_at dksX0_exchanged_5 10 rfl rfl)
theorem dX0_exchanged_127 : decode cX0_exchanged 127 = .ok (.getfield 10, 3) := dk_180 0 10 (dk_at dksX0_exchanged_5 11 rfl rfl)
theorem dX0_exchanged_130 : decode cX0_exchanged 130 = .ok (.getfield 91, 3) := dk_180 0 91 (dk_at dksX0_exchanged_5 14 rfl rfl)
theorem dX0_exchanged_133 : decode cX0_exchanged 133 = .ok (.getfield 155, 3) := dk_180 0 155 (dk_at dksX0_exchanged_5 17 rfl rfl)
theorem dX0_exchanged_136 : decode cX0_exchanged 136 = .ok (.iload 4, 2) := dk_21 4 (dk_at dksX0_exchanged_5 20 rfl rfl)
theorem dX0_exchanged_138 : decode cX0_exchanged 138 = .ok (.invokevirtual 170, 3) := dk_182 0 170 (dk_at dksX0_exchanged_6 0 rfl rfl)
theorem dX0_exchanged_141 : decode cX0_exchanged 141 = .ok (.checkcast 174, 3) := dk_192 0 174 (dk_at dksX0_exchanged_6 3 rfl rfl)
theorem dX0_exchanged_144 : decode cX0_exchanged 144 = .ok (.invokevirtual 459, 3) := dk_182 1 203 (dk_at dksX0_exchanged_6 6 rfl rfl)
theorem dX0_exchanged_147 : decode cX0_exchanged 147 = .ok (.pop, 1) := dk_87 (dk_at dksX0_exchanged_6 9 rfl rfl)
theorem dX0_exchanged_148 : decode cX0_exchanged 148 = .ok (.iinc 4 1, 3) := dk_132 4 1 (dk_at dksX0_exchanged_6 10 rfl rfl)
theorem dX0_exchanged_151 : decode cX0_exchanged 151 = .ok (.goto (-47), 3) := dk_167 255 209 (dk_at dksX0_exchanged_6 13 rfl rfl)
theorem dX0_exchanged_154 : decode cX0_exchanged 154 = .ok (.iconst 0, 1) := dk_3 (dk_at dksX0_exchanged_6 16 rfl rfl)
theorem dX0_exchanged_155 : decode cX0_exchanged 155 = .ok (.istore 4, 2) := dk_54 4 (dk_at dksX0_exchanged_6 17 rfl rfl)
theorem dX0_exchanged_157 : decode cX0_exchanged 157 = .ok (.iload 4, 2) := dk_21 4 (dk_at dksX0_exchanged_6 19 rfl rfl)
theorem dX0_exchanged_159 : decode cX0_exchanged 159 = .ok (.aload_n 0, 1) := dk_42 (dk_at dksX0_exchanged_6 21 rfl rfl)
theorem dX0_exchanged_160 : decode cX0_exchanged 160 = .ok (.getfield 10, 3) := dk_180 0 10 (dk_at dksX0_exchanged_7 0 rfl rfl)
theorem dX0_exchanged_163 : decode cX0_exchanged 163 = .ok (.getfield 91, 3) := dk_180 0 91 (dk_at dksX0_exchanged_7 3 rfl rfl)
theorem dX0_exchanged_166 : decode cX0_exchanged 166 = .ok (.getfield 425, 3) := dk_180 1 169 (dk_at dksX0_exchanged_7 6 rfl rfl)
theorem dX0_exchanged_169 : decode cX0_exchanged 169 = .ok (.invokevirtual 133, 3) := dk_182 0 133 (dk_at dksX0_exchanged_7 9 rfl rfl)
theorem dX0_exchanged_172 : decode cX0_exchanged 172 = .ok (.if_icmp .ge 35, 3) := dk_162 0 35 (dk_at dksX0_exchanged_7 12 rfl rfl)
theorem dX0_exchanged_175 : decode cX0_exchanged 175 = .ok (.aload_n 3, 1) := dk_45 (dk_at dksX0_exchanged_7 15 rfl rfl)
theorem dX0_exchanged_176 : decode cX0_exchanged 176 = .ok (.getfield 425, 3) := dk_180 1 169 (dk_at dksX0_exchanged_7 16 rfl rfl)
theorem dX0_exchanged_179 : decode cX0_exchanged 179 = .ok (.aload_n 0, 1) := dk_42 (dk_at dksX0_exchanged_7 19 rfl rfl)
theorem dX0_exchanged_180 : decode cX0_exchanged 180 = .ok (.getfield 10, 3) := dk_180 0 10 (dk_at dksX0_exchanged_7 20 rfl rfl)
theorem dX0_exchanged_183 : decode cX0_exchanged 183 = .ok (.getfield 91, 3) := dk_180 0 91 (dk_at dksX0_exchanged_8 0 rfl rfl)
theorem dX0_exchanged_186 : decode cX0_exchanged 186 = .ok (.getfield 425, 3) := dk_180 1 169 (dk_at dksX0_exchanged_8 3 rfl rfl)
theorem dX0_exchanged_189 : decode cX0_exchanged 189 = .ok (.iload 4, 2) := dk_21 4 (dk_at dksX0_exchanged_8 6 rfl rfl)
theorem dX0_exchanged_191 : decode cX0_exchanged 191 = .ok (.invokevirtual 170, 3) := dk_182 0 170 (dk_at dksX0_exchanged_8 8 rfl rfl)
theorem dX0_exchanged_194 : decode cX0_exchanged 194 = .ok (.checkcast 438, 3) := dk_192 1 182 (dk_at dksX0_exchanged_8 11 rfl rfl)
theorem dX0_exchanged_197 : decode cX0_exchanged 197 = .ok (.invokevirtual 459, 3) := dk_182 1 203 (dk_at dksX0_exchanged_8 14 rfl rfl)
theorem dX0_exchanged_200 : decode cX0_exchanged 200 = .ok (.pop, 1) := dk_87 (dk_at dksX0_exchanged_8 17 rfl rfl)
theorem dX0_exchanged_201 : decode cX0_exchanged 201 = .ok (.iinc 4 1, 3) := dk_132 4 1 (dk_at dksX0_exchanged_8 18 rfl rfl)
theorem dX0_exchanged_204 : decode cX0_exchanged 204 = .ok (.goto (-47), 3) := dk_167 255 209 (dk_at dksX0_exchanged_8 21 rfl rfl)
theorem dX0_exchanged_207 : decode cX0_exchanged 207 = .ok (.aload_n 3, 1) := dk_45 (dk_at dksX0_exchanged_9 0 rfl rfl)
theorem dX0_exchanged_208 : decode cX0_exchanged 208 = .ok (.aload_n 0, 1) := dk_42 (dk_at dksX0_exchanged_9 1 rfl rfl)
theorem dX0_exchanged_209 : decode cX0_exchanged 209 = .ok (.getfield 10, 3) := dk_180 0 10 (dk_at dksX0_exchanged_9 2 rfl rfl)
theorem dX0_exchanged_212 : decode cX0_exchanged 212 = .ok (.getfield 91, 3) := dk_180 0 91 (dk_at dksX0_exchanged_9 5 rfl rfl)
theorem dX0_exchanged_215 : decode cX0_exchanged 215 = .ok (.getfield 463, 3) := dk_180 1 207 (dk_at dksX0_exchanged_9 8 rfl rfl)
theorem dX0_exchanged_218 : decode cX0_exchanged 218 = .ok (.putfield 463, 3) := dk_181 1 207 (dk_at dksX0_exchanged_9 11 rfl rfl)
theorem dX0_exchanged_221 : decode cX0_exchanged 221 = .ok (.aload_n 3, 1) := dk_45 (dk_at dksX0_exchanged_9 14 rfl rfl)
theorem dX0_exchanged_222 : decode cX0_exchanged 222 = .ok (.aload_n 0, 1) := dk_42 (dk_at dksX0_exchanged_9 15 rfl rfl)
theorem dX0_exchanged_223 : decode cX0_exchanged 223 = .ok (.getfield 10, 3) := dk_180 0 10 (dk_at dksX0_exchanged_9 16 rfl rfl)
theorem dX0_exchanged_226 : decode cX0_exchanged 226 = .ok (.getfield 91, 3) := dk_180 0 91 (dk_at dksX0_exchanged_9 19 rfl rfl)
theorem dX0_exchanged_229 : decode cX0_exchanged 229 = .ok (.getfield 466, 3) := dk_180 1 210 (dk_at dksX0_exchanged_10 0 rfl rfl)
theorem dX0_exchanged_232 : decode cX0_exchanged 232 = .ok (.putfield 466, 3) := dk_181 1 210 (dk_at dksX0_exchanged_10 3 rfl rfl)
theorem dX0_exchanged_235 : decode cX0_exchanged 235 = .ok (.aload_n 3, 1) := dk_45 (dk_at dksX0_exchanged_10 6 rfl rfl)
theorem dX0_exchanged_236 : decode cX0_exchanged 236 = .ok (.aload_n 0, 1) := dk_42 (dk_at dksX0_exchanged_10 7 rfl rfl)
theorem dX0_exchanged_237 : decode cX0_exchanged 237 = .ok (.getfield 10, 3) := dk_180 0 10 (dk_at dksX0_exchanged_10 8 rfl rfl)
theorem dX0_exchanged_240 : decode cX0_exchanged 240 = .ok (.getfield 91, 3) := dk_180 0 91 (dk_at dksX0_exchanged_10 11 rfl rfl)
theorem dX0_exchanged_243 : decode cX0_exchanged 243 = .ok (.getfield 469, 3) := dk_180 1 213 (dk_at dksX0_exchanged_10 14 rfl rfl)
theorem dX0_exchanged_246 : decode cX0_exchanged 246 = .ok (.putfield 469, 3) := dk_181 1 213 (dk_at dksX0_exchanged_10 17 rfl rfl)
theorem dX0_exchanged_249 : decode cX0_exchanged 249 = .ok (.aload_n 0, 1) := dk_42 (dk_at dksX0_exchanged_10 20 rfl rfl)
theorem dX0_exchanged_250 : decode cX0_exchanged 250 = .ok (.getfield 10, 3) := dk_180 0 10 (dk_at dksX0_exchanged_10 21 rfl rfl)
theorem dX0_exchanged_253 : decode cX0_exchanged 253 = .ok (.getfield 91, 3) := dk_180 0 91 (dk_at dksX0_exchanged_11 0 rfl rfl)
theorem dX0_exchanged_256 : decode cX0_exchanged 256 = .ok (.iload_n 1, 1) := dk_27 (dk_at dksX0_exchanged_11 3 rfl rfl)
theorem dX0_exchanged_257 : decode cX0_exchanged 257 = .ok (.iconst (-1), 1) := dk_2 (dk_at dksX0_exchanged_11 4 rfl rfl)
theorem dX0_exchanged_258 : decode cX0_exchanged 258 = .ok (.invokevirtual 436, 3) := dk_182 1 180 (dk_at dksX0_exchanged_11 5 rfl rfl)
theorem dX0_exchanged_261 : decode cX0_exchanged 261 = .ok (.istore 4, 2) := dk_54 4 (dk_at dksX0_exchanged_11 8 rfl rfl)
theorem dX0_exchanged_263 : decode cX0_exchanged 263 = .ok (.aload_n 3, 1) := dk_45 (dk_at dksX0_exchanged_11 10 rfl rfl)
theorem dX0_exchanged_264 : decode cX0_exchanged 264 = .ok (.getfield 201, 3) := dk_180 0 201 (dk_at dksX0_exchanged_11 11 rfl rfl)
theorem dX0_exchanged_267 : decode cX0_exchanged 267 = .ok (.iload_n 1, 1) := dk_27 (dk_at dksX0_exchanged_11 14 rfl rfl)
theorem dX0_exchanged_268 : decode cX0_exchanged 268 = .ok (.iconst 3, 1) := dk_6 (dk_at dksX0_exchanged_11 15 rfl rfl)
theorem dX0_exchanged_269 : decode cX0_exchanged 269 = .ok (.idiv, 1) := dk_108 (dk_at dksX0_exchanged_11 16 rfl rfl)
theorem dX0_exchanged_270 : decode cX0_exchanged 270 = .ok (.invokevirtual 170, 3) := dk_182 0 170 (dk_at dksX0_exchanged_11 17 rfl rfl)
theorem dX0_exchanged_273 : decode cX0_exchanged 273 = .ok (.checkcast 203, 3) := dk_192 0 203 (dk_at dksX0_exchanged_11 20 rfl rfl)
theorem dX0_exchanged_276 : decode cX0_exchanged 276 = .ok (.getfield 217, 3) := dk_180 0 217 (dk_at dksX0_exchanged_12 0 rfl rfl)
theorem dX0_exchanged_279 : decode cX0_exchanged 279 = .ok (.iload_n 1, 1) := dk_27 (dk_at dksX0_exchanged_12 3 rfl rfl)
theorem dX0_exchanged_280 : decode cX0_exchanged 280 = .ok (.iconst 3, 1) := dk_6 (dk_at dksX0_exchanged_12 4 rfl rfl)
theorem dX0_exchanged_281 : decode cX0_exchanged 281 = .ok (.irem, 1) := dk_112 (dk_at dksX0_exchanged_12 5 rfl rfl)
theorem dX0_exchanged_282 : decode cX0_exchanged 282 = .ok (.aload_n 0, 1) := dk_42 (dk_at dksX0_exchanged_12 6 rfl rfl)
theorem dX0_exchanged_283 : decode cX0_exchanged 283 = .ok (.getfield 10, 3) := dk_180 0 10 (dk_at dksX0_exchanged_12 7 rfl rfl)
theorem dX0_exchanged_286 : decode cX0_exchanged 286 = .ok (.getfield 91, 3) := dk_180 0 91 (dk_at dksX0_exchanged_12 10 rfl rfl)
theorem dX0_exchanged_289 : decode cX0_exchanged 289 = .ok (.iload_n 2, 1) := dk_28 (dk_at dksX0_exchanged_12 13 rfl rfl)
theorem dX0_exchanged_290 : decode cX0_exchanged 290 = .ok (.iconst (-1), 1) := dk_2 (dk_at dksX0_exchanged_12 14 rfl rfl)
theorem dX0_exchanged_291 : decode cX0_exchanged 291 = .ok (.invokevirtual 436, 3) := dk_182 1 180 (dk_at dksX0_exchanged_12 15 rfl rfl)
theorem dX0_exchanged_294 : decode cX0_exchanged 294 = .ok (.iastore, 1) := dk_79 (dk_at dksX0_exchanged_12 18 rfl rfl)
theorem dX0_exchanged_295 : decode cX0_exchanged 295 = .ok (.aload_n 3, 1) := dk_45 (dk_at dksX0_exchanged_12 19 rfl rfl)
theorem dX0_exchanged_296 : decode cX0_exchanged 296 = .ok (.getfield 201, 3) := dk_180 0 201 (dk_at dksX0_exchanged_12 20 rfl rfl)
theorem dX0_exchanged_299 : decode cX0_exchanged 299 = .ok (.iload_n 2, 1) := dk_28 (dk_at dksX0_exchanged_12 23 rfl rfl)
theorem dX0_exchanged_300 : decode cX0_exchanged 300 = .ok (.iconst 3, 1) := dk_6 (dk_at dksX0_exchanged_13 0 rfl rfl)
theorem dX0_exchanged_301 : decode cX0_exchanged 301 = .ok (.idiv, 1) := dk_108 (dk_at dksX0_exchanged_13 1 rfl rfl)
theorem dX0_exchanged_302 : decode cX0_exchanged 302 = .ok (.invokevirtual 170, 3) := dk_182 0 170 (dk_at dksX0_exchanged_13 2 rfl rfl)
theorem dX0_exchanged_305 : decode cX0_exchanged 305 = .ok (.checkcast 203, 3) := dk_192 0 203 (dk_at dksX0_exchanged_13 5 rfl rfl)
theorem dX0_exchanged_308 : decode cX0_exchanged 308 = .ok (.getfield 217, 3) := dk_180 0 217 (dk_at dksX0_exchanged_13 8 rfl rfl)
theorem dX0_exchanged_311 : decode cX0_exchanged 311 = .ok (.iload_n 2, 1) := dk_28 (dk_at dksX0_exchanged_13 11 rfl rfl)
theorem dX0_exchanged_312 : decode cX0_exchanged 312 = .ok (.iconst 3, 1) := dk_6 (dk_at dksX0_exchanged_13 12 rfl rfl)
theorem dX0_exchanged_313 : decode cX0_exchanged 313 = .ok (.irem, 1) := dk_112 (dk_at dksX0_exchanged_13 13 rfl rfl)
theorem dX0_exchanged_314 : decode cX0_exchanged 314 = .ok (.iload 4, 2) := dk_21 4 (dk_at dksX0_exchanged_13 14 rfl rfl)
theorem dX0_exchanged_316 : decode cX0_exchanged 316 = .ok (.iastore, 1) := dk_79 (dk_at dksX0_exchanged_13 16 rfl rfl)
theorem dX0_exchanged_317 : decode cX0_exchanged 317 = .ok (.aload_n 3, 1) := dk_45 (dk_at dksX0_exchanged_13 17 rfl rfl)
theorem dX0_exchanged_318 : decode cX0_exchanged 318 = .ok (.areturn, 1) := dk_176 (dk_at dksX0_exchanged_13 18 rfl rfl)
abbrev cX0_wall : ByteArray := prog_1_method_67_code
def yX0_wall : MethodName := ⟨RX0, "wall", "(II)I"⟩
def dkwX0_wall_0 : List UInt8 := [42, 27, 28, 182, 1, 231, 62, 29, 153, 0, 7, 29, 167, 0, 8, 42, 28, 182, 1, 234, 172]
abbrev dktX0_wall_0 : List UInt8 := dkwX0_wall_0 ++ []
theorem dksX0_wall_0 : cX0_wall.data.toList.drop 0 = dktX0_wall_0 := by decide +kernel
theorem dX0_wall_0 : decode cX0_wall 0 = .ok (.aload_n 0, 1) := dk_42 (dk_at dksX0_wall_0 0 rfl rfl)
theorem dX0_wall_1 : decode cX0_wall 1 = .ok (.iload_n 1, 1) := dk_27 (dk_at dksX0_wall_0 1 rfl rfl)
theorem dX0_wall_2 : decode cX0_wall 2 = .ok (.iload_n 2, 1) := dk_28 (dk_at dksX0_wall_0 2 rfl rfl)
theorem dX0_wall_3 : decode cX0_wall 3 = .ok (.invokevirtual 487, 3) := dk_182 1 231 (dk_at dksX0_wall_0 3 rfl rfl)
theorem dX0_wall_6 : decode cX0_wall 6 = .ok (.istore_n 3, 1) := dk_62 (dk_at dksX0_wall_0 6 rfl rfl)
theorem dX0_wall_7 : decode cX0_wall 7 = .ok (.iload_n 3, 1) := dk_29 (dk_at dksX0_wall_0 7 rfl rfl)
theorem dX0_wall_8 : decode cX0_wall 8 = .ok (.ifCond .eq 7, 3) := dk_153 0 7 (dk_at dksX0_wall_0 8 rfl rfl)
theorem dX0_wall_11 : decode cX0_wall 11 = .ok (.iload_n 3, 1) := dk_29 (dk_at dksX0_wall_0 11 rfl rfl)
theorem dX0_wall_12 : decode cX0_wall 12 = .ok (.goto 8, 3) := dk_167 0 8 (dk_at dksX0_wall_0 12 rfl rfl)
theorem dX0_wall_15 : decode cX0_wall 15 = .ok (.aload_n 0, 1) := dk_42 (dk_at dksX0_wall_0 15 rfl rfl)
theorem dX0_wall_16 : decode cX0_wall 16 = .ok (.iload_n 2, 1) := dk_28 (dk_at dksX0_wall_0 16 rfl rfl)
theorem dX0_wall_17 : decode cX0_wall 17 = .ok (.invokevirtual 490, 3) := dk_182 1 234 (dk_at dksX0_wall_0 17 rfl rfl)
theorem dX0_wall_20 : decode cX0_wall 20 = .ok (.ireturn, 1) := dk_172 (dk_at dksX0_wall_0 20 rfl rfl)
abbrev cX0_wallFault : ByteArray := prog_1_method_65_code
def yX0_wallFault : MethodName := ⟨RX0, "wallFault", "(II)I"⟩
def dkwX0_wallFault_6 : List UInt8 := [132, 3, 1, 167, 255, 190, 3, 172]
abbrev dktX0_wallFault_6 : List UInt8 := dkwX0_wallFault_6 ++ []
def dkwX0_wallFault_5 : List UInt8 := [159, 0, 6, 16, 253, 172, 42, 180, 0, 75, 29, 22, 4, 136, 79, 42, 180, 0, 78, 22, 4, 136, 29, 79]
abbrev dktX0_wallFault_5 : List UInt8 := dkwX0_wallFault_5 ++ dktX0_wallFault_6
def dkwX0_wallFault_4 : List UInt8 := [55, 4, 22, 4, 9, 28, 4, 100, 133, 184, 0, 106, 153, 0, 15, 42, 180, 0, 78, 22, 4, 136, 46, 2]
abbrev dktX0_wallFault_4 : List UInt8 := dkwX0_wallFault_4 ++ dktX0_wallFault_5
def dkwX0_wallFault_3 : List UInt8 := [132, 3, 1, 167, 255, 241, 3, 62, 29, 28, 162, 0, 67, 42, 180, 0, 87, 27, 50, 29, 182, 1, 60]
abbrev dktX0_wallFault_3 : List UInt8 := dkwX0_wallFault_3 ++ dktX0_wallFault_4
def dkwX0_wallFault_2 : List UInt8 := [182, 1, 58, 28, 162, 0, 6, 16, 249, 172, 3, 62, 29, 28, 162, 0, 16, 42, 180, 0, 78, 29, 2, 79]
abbrev dktX0_wallFault_2 : List UInt8 := dkwX0_wallFault_2 ++ dktX0_wallFault_3
def dkwX0_wallFault_1 : List UInt8 := [172, 42, 180, 0, 87, 27, 50, 180, 1, 54, 199, 0, 6, 16, 250, 172, 42, 180, 0, 87, 27, 50]
abbrev dktX0_wallFault_1 : List UInt8 := dkwX0_wallFault_1 ++ dktX0_wallFault_2
def dkwX0_wallFault_0 : List UInt8 := [27, 184, 1, 49, 154, 0, 6, 16, 254, 172, 28, 133, 10, 20, 1, 229, 184, 0, 106, 154, 0, 6, 16, 253]
abbrev dktX0_wallFault_0 : List UInt8 := dkwX0_wallFault_0 ++ dktX0_wallFault_1
theorem dksX0_wallFault_0 : cX0_wallFault.data.toList.drop 0 = dktX0_wallFault_0 := by decide +kernel
theorem dksX0_wallFault_1 : cX0_wallFault.data.toList.drop 24 = dktX0_wallFault_1 := dk_seg dksX0_wallFault_0 24 rfl rfl
theorem dksX0_wallFault_2 : cX0_wallFault.data.toList.drop 46 = dktX0_wallFault_2 := dk_seg dksX0_wallFault_1 22 rfl rfl
theorem dksX0_wallFault_3 : cX0_wallFault.data.toList.drop 70 = dktX0_wallFault_3 := dk_seg dksX0_wallFault_2 24 rfl rfl
theorem dksX0_wallFault_4 : cX0_wallFault.data.toList.drop 93 = dktX0_wallFault_4 := dk_seg dksX0_wallFault_3 23 rfl rfl
theorem dksX0_wallFault_5 : cX0_wallFault.data.toList.drop 117 = dktX0_wallFault_5 := dk_seg dksX0_wallFault_4 24 rfl rfl
theorem dksX0_wallFault_6 : cX0_wallFault.data.toList.drop 141 = dktX0_wallFault_6 := dk_seg dksX0_wallFault_5 24 rfl rfl
theorem dX0_wallFault_0 : decode cX0_wallFault 0 = .ok (.iload_n 1, 1) := dk_27 (dk_at dksX0_wallFault_0 0 rfl rfl)
theorem dX0_wallFault_1 : decode cX0_wallFault 1 = .ok (.invokestatic 305, 3) := dk_184 1 49 (dk_at dksX0_wallFault_0 1 rfl rfl)
theorem dX0_wallFault_4 : decode cX0_wallFault 4 = .ok (.ifCond .ne 6, 3) := dk_154 0 6 (dk_at dksX0_wallFault_0 4 rfl rfl)
theorem dX0_wallFault_7 : decode cX0_wallFault 7 = .ok (.bipush (-2), 2) := dk_16 254 (dk_at dksX0_wallFault_0 7 rfl rfl)
theorem dX0_wallFault_9 : decode cX0_wallFault 9 = .ok (.ireturn, 1) := dk_172 (dk_at dksX0_wallFault_0 9 rfl rfl)
theorem dX0_wallFault_10 : decode cX0_wallFault 10 = .ok (.iload_n 2, 1) := dk_28 (dk_at dksX0_wallFault_0 10 rfl rfl)
theorem dX0_wallFault_11 : decode cX0_wallFault 11 = .ok (.i2l, 1) := dk_133 (dk_at dksX0_wallFault_0 11 rfl rfl)
theorem dX0_wallFault_12 : decode cX0_wallFault 12 = .ok (.lconst 1, 1) := dk_10 (dk_at dksX0_wallFault_0 12 rfl rfl)
theorem dX0_wallFault_13 : decode cX0_wallFault 13 = .ok (.ldc2_w 485, 3) := dk_20 1 229 (dk_at dksX0_wallFault_0 13 rfl rfl)
theorem dX0_wallFault_16 : decode cX0_wallFault 16 = .ok (.invokestatic 106, 3) := dk_184 0 106 (dk_at dksX0_wallFault_0 16 rfl rfl)
theorem dX0_wallFault_19 : decode cX0_wallFault 19 = .ok (.ifCond .ne 6, 3) := dk_154 0 6 (dk_at dksX0_wallFault_0 19 rfl rfl)
theorem dX0_wallFault_22 : decode cX0_wallFault 22 = .ok (.bipush (-3), 2) := dk_16 253 (dk_at dksX0_wallFault_0 22 rfl rfl)
theorem dX0_wallFault_24 : decode cX0_wallFault 24 = .ok (.ireturn, 1) := dk_172 (dk_at dksX0_wallFault_1 0 rfl rfl)
theorem dX0_wallFault_25 : decode cX0_wallFault 25 = .ok (.aload_n 0, 1) := dk_42 (dk_at dksX0_wallFault_1 1 rfl rfl)
theorem dX0_wallFault_26 : decode cX0_wallFault 26 = .ok (.getfield 87, 3) := dk_180 0 87 (dk_at dksX0_wallFault_1 2 rfl rfl)
theorem dX0_wallFault_29 : decode cX0_wallFault 29 = .ok (.iload_n 1, 1) := dk_27 (dk_at dksX0_wallFault_1 5 rfl rfl)
theorem dX0_wallFault_30 : decode cX0_wallFault 30 = .ok (.aaload, 1) := dk_50 (dk_at dksX0_wallFault_1 6 rfl rfl)
theorem dX0_wallFault_31 : decode cX0_wallFault 31 = .ok (.getfield 310, 3) := dk_180 1 54 (dk_at dksX0_wallFault_1 7 rfl rfl)
theorem dX0_wallFault_34 : decode cX0_wallFault 34 = .ok (.ifnonnull 6, 3) := dk_199 0 6 (dk_at dksX0_wallFault_1 10 rfl rfl)
theorem dX0_wallFault_37 : decode cX0_wallFault 37 = .ok (.bipush (-6), 2) := dk_16 250 (dk_at dksX0_wallFault_1 13 rfl rfl)
theorem dX0_wallFault_39 : decode cX0_wallFault 39 = .ok (.ireturn, 1) := dk_172 (dk_at dksX0_wallFault_1 15 rfl rfl)
theorem dX0_wallFault_40 : decode cX0_wallFault 40 = .ok (.aload_n 0, 1) := dk_42 (dk_at dksX0_wallFault_1 16 rfl rfl)
theorem dX0_wallFault_41 : decode cX0_wallFault 41 = .ok (.getfield 87, 3) := dk_180 0 87 (dk_at dksX0_wallFault_1 17 rfl rfl)
theorem dX0_wallFault_44 : decode cX0_wallFault 44 = .ok (.iload_n 1, 1) := dk_27 (dk_at dksX0_wallFault_1 20 rfl rfl)
theorem dX0_wallFault_45 : decode cX0_wallFault 45 = .ok (.aaload, 1) := dk_50 (dk_at dksX0_wallFault_1 21 rfl rfl)
theorem dX0_wallFault_46 : decode cX0_wallFault 46 = .ok (.invokevirtual 314, 3) := dk_182 1 58 (dk_at dksX0_wallFault_2 0 rfl rfl)
theorem dX0_wallFault_49 : decode cX0_wallFault 49 = .ok (.iload_n 2, 1) := dk_28 (dk_at dksX0_wallFault_2 3 rfl rfl)
theorem dX0_wallFault_50 : decode cX0_wallFault 50 = .ok (.if_icmp .ge 6, 3) := dk_162 0 6 (dk_at dksX0_wallFault_2 4 rfl rfl)
theorem dX0_wallFault_53 : decode cX0_wallFault 53 = .ok (.bipush (-7), 2) := dk_16 249 (dk_at dksX0_wallFault_2 7 rfl rfl)
theorem dX0_wallFault_55 : decode cX0_wallFault 55 = .ok (.ireturn, 1) := dk_172 (dk_at dksX0_wallFault_2 9 rfl rfl)
theorem dX0_wallFault_56 : decode cX0_wallFault 56 = .ok (.iconst 0, 1) := dk_3 (dk_at dksX0_wallFault_2 10 rfl rfl)
theorem dX0_wallFault_57 : decode cX0_wallFault 57 = .ok (.istore_n 3, 1) := dk_62 (dk_at dksX0_wallFault_2 11 rfl rfl)
theorem dX0_wallFault_58 : decode cX0_wallFault 58 = .ok (.iload_n 3, 1) := dk_29 (dk_at dksX0_wallFault_2 12 rfl rfl)
theorem dX0_wallFault_59 : decode cX0_wallFault 59 = .ok (.iload_n 2, 1) := dk_28 (dk_at dksX0_wallFault_2 13 rfl rfl)
theorem dX0_wallFault_60 : decode cX0_wallFault 60 = .ok (.if_icmp .ge 16, 3) := dk_162 0 16 (dk_at dksX0_wallFault_2 14 rfl rfl)
theorem dX0_wallFault_63 : decode cX0_wallFault 63 = .ok (.aload_n 0, 1) := dk_42 (dk_at dksX0_wallFault_2 17 rfl rfl)
theorem dX0_wallFault_64 : decode cX0_wallFault 64 = .ok (.getfield 78, 3) := dk_180 0 78 (dk_at dksX0_wallFault_2 18 rfl rfl)
theorem dX0_wallFault_67 : decode cX0_wallFault 67 = .ok (.iload_n 3, 1) := dk_29 (dk_at dksX0_wallFault_2 21 rfl rfl)
theorem dX0_wallFault_68 : decode cX0_wallFault 68 = .ok (.iconst (-1), 1) := dk_2 (dk_at dksX0_wallFault_2 22 rfl rfl)
theorem dX0_wallFault_69 : decode cX0_wallFault 69 = .ok (.iastore, 1) := dk_79 (dk_at dksX0_wallFault_2 23 rfl rfl)
theorem dX0_wallFault_70 : decode cX0_wallFault 70 = .ok (.iinc 3 1, 3) := dk_132 3 1 (dk_at dksX0_wallFault_3 0 rfl rfl)
theorem dX0_wallFault_73 : decode cX0_wallFault 73 = .ok (.goto (-15), 3) := dk_167 255 241 (dk_at dksX0_wallFault_3 3 rfl rfl)
theorem dX0_wallFault_76 : decode cX0_wallFault 76 = .ok (.iconst 0, 1) := dk_3 (dk_at dksX0_wallFault_3 6 rfl rfl)
theorem dX0_wallFault_77 : decode cX0_wallFault 77 = .ok (.istore_n 3, 1) := dk_62 (dk_at dksX0_wallFault_3 7 rfl rfl)
theorem dX0_wallFault_78 : decode cX0_wallFault 78 = .ok (.iload_n 3, 1) := dk_29 (dk_at dksX0_wallFault_3 8 rfl rfl)
theorem dX0_wallFault_79 : decode cX0_wallFault 79 = .ok (.iload_n 2, 1) := dk_28 (dk_at dksX0_wallFault_3 9 rfl rfl)
theorem dX0_wallFault_80 : decode cX0_wallFault 80 = .ok (.if_icmp .ge 67, 3) := dk_162 0 67 (dk_at dksX0_wallFault_3 10 rfl rfl)
theorem dX0_wallFault_83 : decode cX0_wallFault 83 = .ok (.aload_n 0, 1) := dk_42 (dk_at dksX0_wallFault_3 13 rfl rfl)
theorem dX0_wallFault_84 : decode cX0_wallFault 84 = .ok (.getfield 87, 3) := dk_180 0 87 (dk_at dksX0_wallFault_3 14 rfl rfl)
theorem dX0_wallFault_87 : decode cX0_wallFault 87 = .ok (.iload_n 1, 1) := dk_27 (dk_at dksX0_wallFault_3 17 rfl rfl)
theorem dX0_wallFault_88 : decode cX0_wallFault 88 = .ok (.aaload, 1) := dk_50 (dk_at dksX0_wallFault_3 18 rfl rfl)
theorem dX0_wallFault_89 : decode cX0_wallFault 89 = .ok (.iload_n 3, 1) := dk_29 (dk_at dksX0_wallFault_3 19 rfl rfl)
theorem dX0_wallFault_90 : decode cX0_wallFault 90 = .ok (.invokevirtual 316, 3) := dk_182 1 60 (dk_at dksX0_wallFault_3 20 rfl rfl)
theorem dX0_wallFault_93 : decode cX0_wallFault 93 = .ok (.lstore 4, 2) := dk_55 4 (dk_at dksX0_wallFault_4 0 rfl rfl)
theorem dX0_wallFault_95 : decode cX0_wallFault 95 = .ok (.lload 4, 2) := dk_22 4 (dk_at dksX0_wallFault_4 2 rfl rfl)
theorem dX0_wallFault_97 : decode cX0_wallFault 97 = .ok (.lconst 0, 1) := dk_9 (dk_at dksX0_wallFault_4 4 rfl rfl)
theorem dX0_wallFault_98 : decode cX0_wallFault 98 = .ok (.iload_n 2, 1) := dk_28 (dk_at dksX0_wallFault_4 5 rfl rfl)
theorem dX0_wallFault_99 : decode cX0_wallFault 99 = .ok (.iconst 1, 1) := dk_4 (dk_at dksX0_wallFault_4 6 rfl rfl)
theorem dX0_wallFault_100 : decode cX0_wallFault 100 = .ok (.isub, 1) := dk_100 (dk_at dksX0_wallFault_4 7 rfl rfl)
theorem dX0_wallFault_101 : decode cX0_wallFault 101 = .ok (.i2l, 1) := dk_133 (dk_at dksX0_wallFault_4 8 rfl rfl)
theorem dX0_wallFault_102 : decode cX0_wallFault 102 = .ok (.invokestatic 106, 3) := dk_184 0 106 (dk_at dksX0_wallFault_4 9 rfl rfl)
theorem dX0_wallFault_105 : decode cX0_wallFault 105 = .ok (.ifCond .eq 15, 3) := dk_153 0 15 (dk_at dksX0_wallFault_4 12 rfl rfl)
theorem dX0_wallFault_108 : decode cX0_wallFault 108 = .ok (.aload_n 0, 1) := dk_42 (dk_at dksX0_wallFault_4 15 rfl rfl)
theorem dX0_wallFault_109 : decode cX0_wallFault 109 = .ok (.getfield 78, 3) := dk_180 0 78 (dk_at dksX0_wallFault_4 16 rfl rfl)
theorem dX0_wallFault_112 : decode cX0_wallFault 112 = .ok (.lload 4, 2) := dk_22 4 (dk_at dksX0_wallFault_4 19 rfl rfl)
theorem dX0_wallFault_114 : decode cX0_wallFault 114 = .ok (.l2i, 1) := dk_136 (dk_at dksX0_wallFault_4 21 rfl rfl)
theorem dX0_wallFault_115 : decode cX0_wallFault 115 = .ok (.iaload, 1) := dk_46 (dk_at dksX0_wallFault_4 22 rfl rfl)
theorem dX0_wallFault_116 : decode cX0_wallFault 116 = .ok (.iconst (-1), 1) := dk_2 (dk_at dksX0_wallFault_4 23 rfl rfl)
theorem dX0_wallFault_117 : decode cX0_wallFault 117 = .ok (.if_icmp .eq 6, 3) := dk_159 0 6 (dk_at dksX0_wallFault_5 0 rfl rfl)
theorem dX0_wallFault_120 : decode cX0_wallFault 120 = .ok (.bipush (-3), 2) := dk_16 253 (dk_at dksX0_wallFault_5 3 rfl rfl)
theorem dX0_wallFault_122 : decode cX0_wallFault 122 = .ok (.ireturn, 1) := dk_172 (dk_at dksX0_wallFault_5 5 rfl rfl)
theorem dX0_wallFault_123 : decode cX0_wallFault 123 = .ok (.aload_n 0, 1) := dk_42 (dk_at dksX0_wallFault_5 6 rfl rfl)
theorem dX0_wallFault_124 : decode cX0_wallFault 124 = .ok (.getfield 75, 3) := dk_180 0 75 (dk_at dksX0_wallFault_5 7 rfl rfl)
theorem dX0_wallFault_127 : decode cX0_wallFault 127 = .ok (.iload_n 3, 1) := dk_29 (dk_at dksX0_wallFault_5 10 rfl rfl)
theorem dX0_wallFault_128 : decode cX0_wallFault 128 = .ok (.lload 4, 2) := dk_22 4 (dk_at dksX0_wallFault_5 11 rfl rfl)
theorem dX0_wallFault_130 : decode cX0_wallFault 130 = .ok (.l2i, 1) := dk_136 (dk_at dksX0_wallFault_5 13 rfl rfl)
theorem dX0_wallFault_131 : decode cX0_wallFault 131 = .ok (.iastore, 1) := dk_79 (dk_at dksX0_wallFault_5 14 rfl rfl)
theorem dX0_wallFault_132 : decode cX0_wallFault 132 = .ok (.aload_n 0, 1) := dk_42 (dk_at dksX0_wallFault_5 15 rfl rfl)
theorem dX0_wallFault_133 : decode cX0_wallFault 133 = .ok (.getfield 78, 3) := dk_180 0 78 (dk_at dksX0_wallFault_5 16 rfl rfl)
theorem dX0_wallFault_136 : decode cX0_wallFault 136 = .ok (.lload 4, 2) := dk_22 4 (dk_at dksX0_wallFault_5 19 rfl rfl)
theorem dX0_wallFault_138 : decode cX0_wallFault 138 = .ok (.l2i, 1) := dk_136 (dk_at dksX0_wallFault_5 21 rfl rfl)
theorem dX0_wallFault_139 : decode cX0_wallFault 139 = .ok (.iload_n 3, 1) := dk_29 (dk_at dksX0_wallFault_5 22 rfl rfl)
theorem dX0_wallFault_140 : decode cX0_wallFault 140 = .ok (.iastore, 1) := dk_79 (dk_at dksX0_wallFault_5 23 rfl rfl)
theorem dX0_wallFault_141 : decode cX0_wallFault 141 = .ok (.iinc 3 1, 3) := dk_132 3 1 (dk_at dksX0_wallFault_6 0 rfl rfl)
theorem dX0_wallFault_144 : decode cX0_wallFault 144 = .ok (.goto (-66), 3) := dk_167 255 190 (dk_at dksX0_wallFault_6 3 rfl rfl)
theorem dX0_wallFault_147 : decode cX0_wallFault 147 = .ok (.iconst 0, 1) := dk_3 (dk_at dksX0_wallFault_6 6 rfl rfl)
theorem dX0_wallFault_148 : decode cX0_wallFault 148 = .ok (.ireturn, 1) := dk_172 (dk_at dksX0_wallFault_6 7 rfl rfl)
abbrev cX0_wallYears : ByteArray := prog_1_method_66_code
def yX0_wallYears : MethodName := ⟨RX0, "wallYears", "(I)I"⟩
def dkwX0_wallYears_2 : List UInt8 := [167, 255, 213, 28, 172]
abbrev dktX0_wallYears_2 : List UInt8 := dkwX0_wallYears_2 ++ []
def dkwX0_wallYears_1 : List UInt8 := [42, 180, 0, 75, 29, 46, 46, 29, 160, 0, 7, 4, 167, 0, 4, 5, 184, 1, 172, 61, 132, 3, 1]
abbrev dktX0_wallYears_1 : List UInt8 := dkwX0_wallYears_1 ++ dktX0_wallYears_2
def dkwX0_wallYears_0 : List UInt8 := [3, 61, 3, 62, 29, 27, 162, 0, 44, 42, 180, 0, 75, 29, 46, 29, 159, 0, 28, 28, 42, 180, 0, 75]
abbrev dktX0_wallYears_0 : List UInt8 := dkwX0_wallYears_0 ++ dktX0_wallYears_1
theorem dksX0_wallYears_0 : cX0_wallYears.data.toList.drop 0 = dktX0_wallYears_0 := by decide +kernel
theorem dksX0_wallYears_1 : cX0_wallYears.data.toList.drop 24 = dktX0_wallYears_1 := dk_seg dksX0_wallYears_0 24 rfl rfl
theorem dksX0_wallYears_2 : cX0_wallYears.data.toList.drop 47 = dktX0_wallYears_2 := dk_seg dksX0_wallYears_1 23 rfl rfl
theorem dX0_wallYears_0 : decode cX0_wallYears 0 = .ok (.iconst 0, 1) := dk_3 (dk_at dksX0_wallYears_0 0 rfl rfl)
theorem dX0_wallYears_1 : decode cX0_wallYears 1 = .ok (.istore_n 2, 1) := dk_61 (dk_at dksX0_wallYears_0 1 rfl rfl)
theorem dX0_wallYears_2 : decode cX0_wallYears 2 = .ok (.iconst 0, 1) := dk_3 (dk_at dksX0_wallYears_0 2 rfl rfl)
theorem dX0_wallYears_3 : decode cX0_wallYears 3 = .ok (.istore_n 3, 1) := dk_62 (dk_at dksX0_wallYears_0 3 rfl rfl)
theorem dX0_wallYears_4 : decode cX0_wallYears 4 = .ok (.iload_n 3, 1) := dk_29 (dk_at dksX0_wallYears_0 4 rfl rfl)
theorem dX0_wallYears_5 : decode cX0_wallYears 5 = .ok (.iload_n 1, 1) := dk_27 (dk_at dksX0_wallYears_0 5 rfl rfl)
theorem dX0_wallYears_6 : decode cX0_wallYears 6 = .ok (.if_icmp .ge 44, 3) := dk_162 0 44 (dk_at dksX0_wallYears_0 6 rfl rfl)
theorem dX0_wallYears_9 : decode cX0_wallYears 9 = .ok (.aload_n 0, 1) := dk_42 (dk_at dksX0_wallYears_0 9 rfl rfl)
theorem dX0_wallYears_10 : decode cX0_wallYears 10 = .ok (.getfield 75, 3) := dk_180 0 75 (dk_at dksX0_wallYears_0 10 rfl rfl)
theorem dX0_wallYears_13 : decode cX0_wallYears 13 = .ok (.iload_n 3, 1) := dk_29 (dk_at dksX0_wallYears_0 13 rfl rfl)
theorem dX0_wallYears_14 : decode cX0_wallYears 14 = .ok (.iaload, 1) := dk_46 (dk_at dksX0_wallYears_0 14 rfl rfl)
theorem dX0_wallYears_15 : decode cX0_wallYears 15 = .ok (.iload_n 3, 1) := dk_29 (dk_at dksX0_wallYears_0 15 rfl rfl)
theorem dX0_wallYears_16 : decode cX0_wallYears 16 = .ok (.if_icmp .eq 28, 3) := dk_159 0 28 (dk_at dksX0_wallYears_0 16 rfl rfl)
theorem dX0_wallYears_19 : decode cX0_wallYears 19 = .ok (.iload_n 2, 1) := dk_28 (dk_at dksX0_wallYears_0 19 rfl rfl)
theorem dX0_wallYears_20 : decode cX0_wallYears 20 = .ok (.aload_n 0, 1) := dk_42 (dk_at dksX0_wallYears_0 20 rfl rfl)
theorem dX0_wallYears_21 : decode cX0_wallYears 21 = .ok (.getfield 75, 3) := dk_180 0 75 (dk_at dksX0_wallYears_0 21 rfl rfl)
theorem dX0_wallYears_24 : decode cX0_wallYears 24 = .ok (.aload_n 0, 1) := dk_42 (dk_at dksX0_wallYears_1 0 rfl rfl)
theorem dX0_wallYears_25 : decode cX0_wallYears 25 = .ok (.getfield 75, 3) := dk_180 0 75 (dk_at dksX0_wallYears_1 1 rfl rfl)
theorem dX0_wallYears_28 : decode cX0_wallYears 28 = .ok (.iload_n 3, 1) := dk_29 (dk_at dksX0_wallYears_1 4 rfl rfl)
theorem dX0_wallYears_29 : decode cX0_wallYears 29 = .ok (.iaload, 1) := dk_46 (dk_at dksX0_wallYears_1 5 rfl rfl)
theorem dX0_wallYears_30 : decode cX0_wallYears 30 = .ok (.iaload, 1) := dk_46 (dk_at dksX0_wallYears_1 6 rfl rfl)
theorem dX0_wallYears_31 : decode cX0_wallYears 31 = .ok (.iload_n 3, 1) := dk_29 (dk_at dksX0_wallYears_1 7 rfl rfl)
theorem dX0_wallYears_32 : decode cX0_wallYears 32 = .ok (.if_icmp .ne 7, 3) := dk_160 0 7 (dk_at dksX0_wallYears_1 8 rfl rfl)
theorem dX0_wallYears_35 : decode cX0_wallYears 35 = .ok (.iconst 1, 1) := dk_4 (dk_at dksX0_wallYears_1 11 rfl rfl)
theorem dX0_wallYears_36 : decode cX0_wallYears 36 = .ok (.goto 4, 3) := dk_167 0 4 (dk_at dksX0_wallYears_1 12 rfl rfl)
theorem dX0_wallYears_39 : decode cX0_wallYears 39 = .ok (.iconst 2, 1) := dk_5 (dk_at dksX0_wallYears_1 15 rfl rfl)
theorem dX0_wallYears_40 : decode cX0_wallYears 40 = .ok (.invokestatic 428, 3) := dk_184 1 172 (dk_at dksX0_wallYears_1 16 rfl rfl)
theorem dX0_wallYears_43 : decode cX0_wallYears 43 = .ok (.istore_n 2, 1) := dk_61 (dk_at dksX0_wallYears_1 19 rfl rfl)
theorem dX0_wallYears_44 : decode cX0_wallYears 44 = .ok (.iinc 3 1, 3) := dk_132 3 1 (dk_at dksX0_wallYears_1 20 rfl rfl)
theorem dX0_wallYears_47 : decode cX0_wallYears 47 = .ok (.goto (-43), 3) := dk_167 255 213 (dk_at dksX0_wallYears_2 0 rfl rfl)
theorem dX0_wallYears_50 : decode cX0_wallYears 50 = .ok (.iload_n 2, 1) := dk_28 (dk_at dksX0_wallYears_2 3 rfl rfl)
theorem dX0_wallYears_51 : decode cX0_wallYears 51 = .ok (.ireturn, 1) := dk_172 (dk_at dksX0_wallYears_2 4 rfl rfl)
abbrev cX0_partner : ByteArray := prog_1_method_68_code
def yX0_partner : MethodName := ⟨RX0, "partner", "(IIII)I"⟩
def dkwX0_partner_4 : List UInt8 := [21, 4, 29, 182, 1, 237, 172]
abbrev dktX0_partner_4 : List UInt8 := dkwX0_partner_4 ++ []
def dkwX0_partner_3 : List UInt8 := [180, 0, 75, 21, 4, 46, 21, 4, 160, 0, 7, 2, 167, 0, 10, 42, 180, 0, 75, 21, 4, 46, 172, 42]
abbrev dktX0_partner_3 : List UInt8 := dkwX0_partner_3 ++ dktX0_partner_4
def dkwX0_partner_2 : List UInt8 := [172, 42, 28, 182, 1, 234, 54, 6, 29, 21, 6, 164, 0, 5, 2, 172, 21, 6, 4, 160, 0, 27, 42]
abbrev dktX0_partner_2 : List UInt8 := dkwX0_partner_2 ++ dktX0_partner_3
def dkwX0_partner_1 : List UInt8 := [184, 0, 106, 154, 0, 6, 16, 254, 172, 42, 27, 28, 182, 1, 231, 54, 5, 21, 5, 153, 0, 6, 21, 5]
abbrev dktX0_partner_1 : List UInt8 := dkwX0_partner_1 ++ dktX0_partner_2
def dkwX0_partner_0 : List UInt8 := [27, 184, 1, 49, 153, 0, 26, 21, 4, 155, 0, 21, 21, 4, 28, 162, 0, 15, 29, 133, 10, 20, 1, 216]
abbrev dktX0_partner_0 : List UInt8 := dkwX0_partner_0 ++ dktX0_partner_1
theorem dksX0_partner_0 : cX0_partner.data.toList.drop 0 = dktX0_partner_0 := by decide +kernel
theorem dksX0_partner_1 : cX0_partner.data.toList.drop 24 = dktX0_partner_1 := dk_seg dksX0_partner_0 24 rfl rfl
theorem dksX0_partner_2 : cX0_partner.data.toList.drop 48 = dktX0_partner_2 := dk_seg dksX0_partner_1 24 rfl rfl
theorem dksX0_partner_3 : cX0_partner.data.toList.drop 71 = dktX0_partner_3 := dk_seg dksX0_partner_2 23 rfl rfl
theorem dksX0_partner_4 : cX0_partner.data.toList.drop 95 = dktX0_partner_4 := dk_seg dksX0_partner_3 24 rfl rfl
theorem dX0_partner_0 : decode cX0_partner 0 = .ok (.iload_n 1, 1) := dk_27 (dk_at dksX0_partner_0 0 rfl rfl)
theorem dX0_partner_1 : decode cX0_partner 1 = .ok (.invokestatic 305, 3) := dk_184 1 49 (dk_at dksX0_partner_0 1 rfl rfl)
theorem dX0_partner_4 : decode cX0_partner 4 = .ok (.ifCond .eq 26, 3) := dk_153 0 26 (dk_at dksX0_partner_0 4 rfl rfl)
theorem dX0_partner_7 : decode cX0_partner 7 = .ok (.iload 4, 2) := dk_21 4 (dk_at dksX0_partner_0 7 rfl rfl)
theorem dX0_partner_9 : decode cX0_partner 9 = .ok (.ifCond .lt 21, 3) := dk_155 0 21 (dk_at dksX0_partner_0 9 rfl rfl)
theorem dX0_partner_12 : decode cX0_partner 12 = .ok (.iload 4, 2) := dk_21 4 (dk_at dksX0_partner_0 12 rfl rfl)
theorem dX0_partner_14 : decode cX0_partner 14 = .ok (.iload_n 2, 1) := dk_28 (dk_at dksX0_partner_0 14 rfl rfl)
theorem dX0_partner_15 : decode cX0_partner 15 = .ok (.if_icmp .ge 15, 3) := dk_162 0 15 (dk_at dksX0_partner_0 15 rfl rfl)
theorem dX0_partner_18 : decode cX0_partner 18 = .ok (.iload_n 3, 1) := dk_29 (dk_at dksX0_partner_0 18 rfl rfl)
theorem dX0_partner_19 : decode cX0_partner 19 = .ok (.i2l, 1) := dk_133 (dk_at dksX0_partner_0 19 rfl rfl)
theorem dX0_partner_20 : decode cX0_partner 20 = .ok (.lconst 1, 1) := dk_10 (dk_at dksX0_partner_0 20 rfl rfl)
theorem dX0_partner_21 : decode cX0_partner 21 = .ok (.ldc2_w 472, 3) := dk_20 1 216 (dk_at dksX0_partner_0 21 rfl rfl)
theorem dX0_partner_24 : decode cX0_partner 24 = .ok (.invokestatic 106, 3) := dk_184 0 106 (dk_at dksX0_partner_1 0 rfl rfl)
theorem dX0_partner_27 : decode cX0_partner 27 = .ok (.ifCond .ne 6, 3) := dk_154 0 6 (dk_at dksX0_partner_1 3 rfl rfl)
theorem dX0_partner_30 : decode cX0_partner 30 = .ok (.bipush (-2), 2) := dk_16 254 (dk_at dksX0_partner_1 6 rfl rfl)
theorem dX0_partner_32 : decode cX0_partner 32 = .ok (.ireturn, 1) := dk_172 (dk_at dksX0_partner_1 8 rfl rfl)
theorem dX0_partner_33 : decode cX0_partner 33 = .ok (.aload_n 0, 1) := dk_42 (dk_at dksX0_partner_1 9 rfl rfl)
theorem dX0_partner_34 : decode cX0_partner 34 = .ok (.iload_n 1, 1) := dk_27 (dk_at dksX0_partner_1 10 rfl rfl)
theorem dX0_partner_35 : decode cX0_partner 35 = .ok (.iload_n 2, 1) := dk_28 (dk_at dksX0_partner_1 11 rfl rfl)
theorem dX0_partner_36 : decode cX0_partner 36 = .ok (.invokevirtual 487, 3) := dk_182 1 231 (dk_at dksX0_partner_1 12 rfl rfl)
theorem dX0_partner_39 : decode cX0_partner 39 = .ok (.istore 5, 2) := dk_54 5 (dk_at dksX0_partner_1 15 rfl rfl)
theorem dX0_partner_41 : decode cX0_partner 41 = .ok (.iload 5, 2) := dk_21 5 (dk_at dksX0_partner_1 17 rfl rfl)
theorem dX0_partner_43 : decode cX0_partner 43 = .ok (.ifCond .eq 6, 3) := dk_153 0 6 (dk_at dksX0_partner_1 19 rfl rfl)
theorem dX0_partner_46 : decode cX0_partner 46 = .ok (.iload 5, 2) := dk_21 5 (dk_at dksX0_partner_1 22 rfl rfl)
theorem dX0_partner_48 : decode cX0_partner 48 = .ok (.ireturn, 1) := dk_172 (dk_at dksX0_partner_2 0 rfl rfl)
theorem dX0_partner_49 : decode cX0_partner 49 = .ok (.aload_n 0, 1) := dk_42 (dk_at dksX0_partner_2 1 rfl rfl)
theorem dX0_partner_50 : decode cX0_partner 50 = .ok (.iload_n 2, 1) := dk_28 (dk_at dksX0_partner_2 2 rfl rfl)
theorem dX0_partner_51 : decode cX0_partner 51 = .ok (.invokevirtual 490, 3) := dk_182 1 234 (dk_at dksX0_partner_2 3 rfl rfl)
theorem dX0_partner_54 : decode cX0_partner 54 = .ok (.istore 6, 2) := dk_54 6 (dk_at dksX0_partner_2 6 rfl rfl)
theorem dX0_partner_56 : decode cX0_partner 56 = .ok (.iload_n 3, 1) := dk_29 (dk_at dksX0_partner_2 8 rfl rfl)
theorem dX0_partner_57 : decode cX0_partner 57 = .ok (.iload 6, 2) := dk_21 6 (dk_at dksX0_partner_2 9 rfl rfl)
theorem dX0_partner_59 : decode cX0_partner 59 = .ok (.if_icmp .le 5, 3) := dk_164 0 5 (dk_at dksX0_partner_2 11 rfl rfl)
theorem dX0_partner_62 : decode cX0_partner 62 = .ok (.iconst (-1), 1) := dk_2 (dk_at dksX0_partner_2 14 rfl rfl)
theorem dX0_partner_63 : decode cX0_partner 63 = .ok (.ireturn, 1) := dk_172 (dk_at dksX0_partner_2 15 rfl rfl)
theorem dX0_partner_64 : decode cX0_partner 64 = .ok (.iload 6, 2) := dk_21 6 (dk_at dksX0_partner_2 16 rfl rfl)
theorem dX0_partner_66 : decode cX0_partner 66 = .ok (.iconst 1, 1) := dk_4 (dk_at dksX0_partner_2 18 rfl rfl)
theorem dX0_partner_67 : decode cX0_partner 67 = .ok (.if_icmp .ne 27, 3) := dk_160 0 27 (dk_at dksX0_partner_2 19 rfl rfl)
theorem dX0_partner_70 : decode cX0_partner 70 = .ok (.aload_n 0, 1) := dk_42 (dk_at dksX0_partner_2 22 rfl rfl)
theorem dX0_partner_71 : decode cX0_partner 71 = .ok (.getfield 75, 3) := dk_180 0 75 (dk_at dksX0_partner_3 0 rfl rfl)
theorem dX0_partner_74 : decode cX0_partner 74 = .ok (.iload 4, 2) := dk_21 4 (dk_at dksX0_partner_3 3 rfl rfl)
theorem dX0_partner_76 : decode cX0_partner 76 = .ok (.iaload, 1) := dk_46 (dk_at dksX0_partner_3 5 rfl rfl)
theorem dX0_partner_77 : decode cX0_partner 77 = .ok (.iload 4, 2) := dk_21 4 (dk_at dksX0_partner_3 6 rfl rfl)
theorem dX0_partner_79 : decode cX0_partner 79 = .ok (.if_icmp .ne 7, 3) := dk_160 0 7 (dk_at dksX0_partner_3 8 rfl rfl)
theorem dX0_partner_82 : decode cX0_partner 82 = .ok (.iconst (-1), 1) := dk_2 (dk_at dksX0_partner_3 11 rfl rfl)
theorem dX0_partner_83 : decode cX0_partner 83 = .ok (.goto 10, 3) := dk_167 0 10 (dk_at dksX0_partner_3 12 rfl rfl)
theorem dX0_partner_86 : decode cX0_partner 86 = .ok (.aload_n 0, 1) := dk_42 (dk_at dksX0_partner_3 15 rfl rfl)
theorem dX0_partner_87 : decode cX0_partner 87 = .ok (.getfield 75, 3) := dk_180 0 75 (dk_at dksX0_partner_3 16 rfl rfl)
theorem dX0_partner_90 : decode cX0_partner 90 = .ok (.iload 4, 2) := dk_21 4 (dk_at dksX0_partner_3 19 rfl rfl)
theorem dX0_partner_92 : decode cX0_partner 92 = .ok (.iaload, 1) := dk_46 (dk_at dksX0_partner_3 21 rfl rfl)
theorem dX0_partner_93 : decode cX0_partner 93 = .ok (.ireturn, 1) := dk_172 (dk_at dksX0_partner_3 22 rfl rfl)
theorem dX0_partner_94 : decode cX0_partner 94 = .ok (.aload_n 0, 1) := dk_42 (dk_at dksX0_partner_3 23 rfl rfl)
theorem dX0_partner_95 : decode cX0_partner 95 = .ok (.iload 4, 2) := dk_21 4 (dk_at dksX0_partner_4 0 rfl rfl)
theorem dX0_partner_97 : decode cX0_partner 97 = .ok (.iload_n 3, 1) := dk_29 (dk_at dksX0_partner_4 2 rfl rfl)
theorem dX0_partner_98 : decode cX0_partner 98 = .ok (.invokevirtual 493, 3) := dk_182 1 237 (dk_at dksX0_partner_4 3 rfl rfl)
theorem dX0_partner_101 : decode cX0_partner 101 = .ok (.ireturn, 1) := dk_172 (dk_at dksX0_partner_4 6 rfl rfl)
abbrev cX0_inRing : ByteArray := prog_1_method_69_code
def yX0_inRing : MethodName := ⟨RX0, "inRing", "(II)I"⟩
def dkwX0_inRing_4 : List UInt8 := [21, 5, 100, 21, 4, 184, 1, 243, 46, 54, 7, 21, 7, 27, 160, 0, 7, 2, 167, 0, 5, 21, 7, 172]
abbrev dktX0_inRing_4 : List UInt8 := dkwX0_inRing_4 ++ []
def dkwX0_inRing_3 : List UInt8 := [46, 54, 6, 21, 6, 29, 160, 255, 222, 42, 180, 0, 81, 28, 4, 160, 0, 7, 3, 167, 0, 4, 4]
abbrev dktX0_inRing_3 : List UInt8 := dkwX0_inRing_3 ++ dktX0_inRing_4
def dkwX0_inRing_2 : List UInt8 := [21, 4, 21, 6, 79, 21, 6, 27, 160, 0, 7, 21, 4, 54, 5, 132, 4, 1, 42, 180, 0, 75, 21, 6]
abbrev dktX0_inRing_2 : List UInt8 := dkwX0_inRing_2 ++ dktX0_inRing_3
def dkwX0_inRing_1 : List UInt8 := [180, 0, 75, 21, 4, 46, 54, 4, 167, 255, 234, 3, 54, 4, 3, 54, 5, 29, 54, 6, 42, 180, 0, 81]
abbrev dktX0_inRing_1 : List UInt8 := dkwX0_inRing_1 ++ dktX0_inRing_2
def dkwX0_inRing_0 : List UInt8 := [27, 62, 42, 180, 0, 75, 27, 46, 54, 4, 21, 4, 27, 159, 0, 22, 29, 21, 4, 184, 1, 240, 62, 42]
abbrev dktX0_inRing_0 : List UInt8 := dkwX0_inRing_0 ++ dktX0_inRing_1
theorem dksX0_inRing_0 : cX0_inRing.data.toList.drop 0 = dktX0_inRing_0 := by decide +kernel
theorem dksX0_inRing_1 : cX0_inRing.data.toList.drop 24 = dktX0_inRing_1 := dk_seg dksX0_inRing_0 24 rfl rfl
theorem dksX0_inRing_2 : cX0_inRing.data.toList.drop 48 = dktX0_inRing_2 := dk_seg dksX0_inRing_1 24 rfl rfl
theorem dksX0_inRing_3 : cX0_inRing.data.toList.drop 72 = dktX0_inRing_3 := dk_seg dksX0_inRing_2 24 rfl rfl
theorem dksX0_inRing_4 : cX0_inRing.data.toList.drop 95 = dktX0_inRing_4 := dk_seg dksX0_inRing_3 23 rfl rfl
theorem dX0_inRing_0 : decode cX0_inRing 0 = .ok (.iload_n 1, 1) := dk_27 (dk_at dksX0_inRing_0 0 rfl rfl)
theorem dX0_inRing_1 : decode cX0_inRing 1 = .ok (.istore_n 3, 1) := dk_62 (dk_at dksX0_inRing_0 1 rfl rfl)
theorem dX0_inRing_2 : decode cX0_inRing 2 = .ok (.aload_n 0, 1) := dk_42 (dk_at dksX0_inRing_0 2 rfl rfl)
theorem dX0_inRing_3 : decode cX0_inRing 3 = .ok (.getfield 75, 3) := dk_180 0 75 (dk_at dksX0_inRing_0 3 rfl rfl)
theorem dX0_inRing_6 : decode cX0_inRing 6 = .ok (.iload_n 1, 1) := dk_27 (dk_at dksX0_inRing_0 6 rfl rfl)
theorem dX0_inRing_7 : decode cX0_inRing 7 = .ok (.iaload, 1) := dk_46 (dk_at dksX0_inRing_0 7 rfl rfl)
theorem dX0_inRing_8 : decode cX0_inRing 8 = .ok (.istore 4, 2) := dk_54 4 (dk_at dksX0_inRing_0 8 rfl rfl)
theorem dX0_inRing_10 : decode cX0_inRing 10 = .ok (.iload 4, 2) := dk_21 4 (dk_at dksX0_inRing_0 10 rfl rfl)
theorem dX0_inRing_12 : decode cX0_inRing 12 = .ok (.iload_n 1, 1) := dk_27 (dk_at dksX0_inRing_0 12 rfl rfl)
theorem dX0_inRing_13 : decode cX0_inRing 13 = .ok (.if_icmp .eq 22, 3) := dk_159 0 22 (dk_at dksX0_inRing_0 13 rfl rfl)
theorem dX0_inRing_16 : decode cX0_inRing 16 = .ok (.iload_n 3, 1) := dk_29 (dk_at dksX0_inRing_0 16 rfl rfl)
theorem dX0_inRing_17 : decode cX0_inRing 17 = .ok (.iload 4, 2) := dk_21 4 (dk_at dksX0_inRing_0 17 rfl rfl)
theorem dX0_inRing_19 : decode cX0_inRing 19 = .ok (.invokestatic 496, 3) := dk_184 1 240 (dk_at dksX0_inRing_0 19 rfl rfl)
theorem dX0_inRing_22 : decode cX0_inRing 22 = .ok (.istore_n 3, 1) := dk_62 (dk_at dksX0_inRing_0 22 rfl rfl)
theorem dX0_inRing_23 : decode cX0_inRing 23 = .ok (.aload_n 0, 1) := dk_42 (dk_at dksX0_inRing_0 23 rfl rfl)
theorem dX0_inRing_24 : decode cX0_inRing 24 = .ok (.getfield 75, 3) := dk_180 0 75 (dk_at dksX0_inRing_1 0 rfl rfl)
theorem dX0_inRing_27 : decode cX0_inRing 27 = .ok (.iload 4, 2) := dk_21 4 (dk_at dksX0_inRing_1 3 rfl rfl)
theorem dX0_inRing_29 : decode cX0_inRing 29 = .ok (.iaload, 1) := dk_46 (dk_at dksX0_inRing_1 5 rfl rfl)
theorem dX0_inRing_30 : decode cX0_inRing 30 = .ok (.istore 4, 2) := dk_54 4 (dk_at dksX0_inRing_1 6 rfl rfl)
theorem dX0_inRing_32 : decode cX0_inRing 32 = .ok (.goto (-22), 3) := dk_167 255 234 (dk_at dksX0_inRing_1 8 rfl rfl)
theorem dX0_inRing_35 : decode cX0_inRing 35 = .ok (.iconst 0, 1) := dk_3 (dk_at dksX0_inRing_1 11 rfl rfl)
theorem dX0_inRing_36 : decode cX0_inRing 36 = .ok (.istore 4, 2) := dk_54 4 (dk_at dksX0_inRing_1 12 rfl rfl)
theorem dX0_inRing_38 : decode cX0_inRing 38 = .ok (.iconst 0, 1) := dk_3 (dk_at dksX0_inRing_1 14 rfl rfl)
theorem dX0_inRing_39 : decode cX0_inRing 39 = .ok (.istore 5, 2) := dk_54 5 (dk_at dksX0_inRing_1 15 rfl rfl)
theorem dX0_inRing_41 : decode cX0_inRing 41 = .ok (.iload_n 3, 1) := dk_29 (dk_at dksX0_inRing_1 17 rfl rfl)
theorem dX0_inRing_42 : decode cX0_inRing 42 = .ok (.istore 6, 2) := dk_54 6 (dk_at dksX0_inRing_1 18 rfl rfl)
theorem dX0_inRing_44 : decode cX0_inRing 44 = .ok (.aload_n 0, 1) := dk_42 (dk_at dksX0_inRing_1 20 rfl rfl)
theorem dX0_inRing_45 : decode cX0_inRing 45 = .ok (.getfield 81, 3) := dk_180 0 81 (dk_at dksX0_inRing_1 21 rfl rfl)
theorem dX0_inRing_48 : decode cX0_inRing 48 = .ok (.iload 4, 2) := dk_21 4 (dk_at dksX0_inRing_2 0 rfl rfl)
theorem dX0_inRing_50 : decode cX0_inRing 50 = .ok (.iload 6, 2) := dk_21 6 (dk_at dksX0_inRing_2 2 rfl rfl)
theorem dX0_inRing_52 : decode cX0_inRing 52 = .ok (.iastore, 1) := dk_79 (dk_at dksX0_inRing_2 4 rfl rfl)
theorem dX0_inRing_53 : decode cX0_inRing 53 = .ok (.iload 6, 2) := dk_21 6 (dk_at dksX0_inRing_2 5 rfl rfl)
theorem dX0_inRing_55 : decode cX0_inRing 55 = .ok (.iload_n 1, 1) := dk_27 (dk_at dksX0_inRing_2 7 rfl rfl)
theorem dX0_inRing_56 : decode cX0_inRing 56 = .ok (.if_icmp .ne 7, 3) := dk_160 0 7 (dk_at dksX0_inRing_2 8 rfl rfl)
theorem dX0_inRing_59 : decode cX0_inRing 59 = .ok (.iload 4, 2) := dk_21 4 (dk_at dksX0_inRing_2 11 rfl rfl)
theorem dX0_inRing_61 : decode cX0_inRing 61 = .ok (.istore 5, 2) := dk_54 5 (dk_at dksX0_inRing_2 13 rfl rfl)
theorem dX0_inRing_63 : decode cX0_inRing 63 = .ok (.iinc 4 1, 3) := dk_132 4 1 (dk_at dksX0_inRing_2 15 rfl rfl)
theorem dX0_inRing_66 : decode cX0_inRing 66 = .ok (.aload_n 0, 1) := dk_42 (dk_at dksX0_inRing_2 18 rfl rfl)
theorem dX0_inRing_67 : decode cX0_inRing 67 = .ok (.getfield 75, 3) := dk_180 0 75 (dk_at dksX0_inRing_2 19 rfl rfl)
theorem dX0_inRing_70 : decode cX0_inRing 70 = .ok (.iload 6, 2) := dk_21 6 (dk_at dksX0_inRing_2 22 rfl rfl)
theorem dX0_inRing_72 : decode cX0_inRing 72 = .ok (.iaload, 1) := dk_46 (dk_at dksX0_inRing_3 0 rfl rfl)
theorem dX0_inRing_73 : decode cX0_inRing 73 = .ok (.istore 6, 2) := dk_54 6 (dk_at dksX0_inRing_3 1 rfl rfl)
theorem dX0_inRing_75 : decode cX0_inRing 75 = .ok (.iload 6, 2) := dk_21 6 (dk_at dksX0_inRing_3 3 rfl rfl)
theorem dX0_inRing_77 : decode cX0_inRing 77 = .ok (.iload_n 3, 1) := dk_29 (dk_at dksX0_inRing_3 5 rfl rfl)
theorem dX0_inRing_78 : decode cX0_inRing 78 = .ok (.if_icmp .ne (-34), 3) := dk_160 255 222 (dk_at dksX0_inRing_3 6 rfl rfl)
theorem dX0_inRing_81 : decode cX0_inRing 81 = .ok (.aload_n 0, 1) := dk_42 (dk_at dksX0_inRing_3 9 rfl rfl)
theorem dX0_inRing_82 : decode cX0_inRing 82 = .ok (.getfield 81, 3) := dk_180 0 81 (dk_at dksX0_inRing_3 10 rfl rfl)
theorem dX0_inRing_85 : decode cX0_inRing 85 = .ok (.iload_n 2, 1) := dk_28 (dk_at dksX0_inRing_3 13 rfl rfl)
theorem dX0_inRing_86 : decode cX0_inRing 86 = .ok (.iconst 1, 1) := dk_4 (dk_at dksX0_inRing_3 14 rfl rfl)
theorem dX0_inRing_87 : decode cX0_inRing 87 = .ok (.if_icmp .ne 7, 3) := dk_160 0 7 (dk_at dksX0_inRing_3 15 rfl rfl)
theorem dX0_inRing_90 : decode cX0_inRing 90 = .ok (.iconst 0, 1) := dk_3 (dk_at dksX0_inRing_3 18 rfl rfl)
theorem dX0_inRing_91 : decode cX0_inRing 91 = .ok (.goto 4, 3) := dk_167 0 4 (dk_at dksX0_inRing_3 19 rfl rfl)
theorem dX0_inRing_94 : decode cX0_inRing 94 = .ok (.iconst 1, 1) := dk_4 (dk_at dksX0_inRing_3 22 rfl rfl)
theorem dX0_inRing_95 : decode cX0_inRing 95 = .ok (.iload 5, 2) := dk_21 5 (dk_at dksX0_inRing_4 0 rfl rfl)
theorem dX0_inRing_97 : decode cX0_inRing 97 = .ok (.isub, 1) := dk_100 (dk_at dksX0_inRing_4 2 rfl rfl)
theorem dX0_inRing_98 : decode cX0_inRing 98 = .ok (.iload 4, 2) := dk_21 4 (dk_at dksX0_inRing_4 3 rfl rfl)
theorem dX0_inRing_100 : decode cX0_inRing 100 = .ok (.invokestatic 499, 3) := dk_184 1 243 (dk_at dksX0_inRing_4 5 rfl rfl)
theorem dX0_inRing_103 : decode cX0_inRing 103 = .ok (.iaload, 1) := dk_46 (dk_at dksX0_inRing_4 8 rfl rfl)
theorem dX0_inRing_104 : decode cX0_inRing 104 = .ok (.istore 7, 2) := dk_54 7 (dk_at dksX0_inRing_4 9 rfl rfl)
theorem dX0_inRing_106 : decode cX0_inRing 106 = .ok (.iload 7, 2) := dk_21 7 (dk_at dksX0_inRing_4 11 rfl rfl)
theorem dX0_inRing_108 : decode cX0_inRing 108 = .ok (.iload_n 1, 1) := dk_27 (dk_at dksX0_inRing_4 13 rfl rfl)
theorem dX0_inRing_109 : decode cX0_inRing 109 = .ok (.if_icmp .ne 7, 3) := dk_160 0 7 (dk_at dksX0_inRing_4 14 rfl rfl)
theorem dX0_inRing_112 : decode cX0_inRing 112 = .ok (.iconst (-1), 1) := dk_2 (dk_at dksX0_inRing_4 17 rfl rfl)
theorem dX0_inRing_113 : decode cX0_inRing 113 = .ok (.goto 5, 3) := dk_167 0 5 (dk_at dksX0_inRing_4 18 rfl rfl)
theorem dX0_inRing_116 : decode cX0_inRing 116 = .ok (.iload 7, 2) := dk_21 7 (dk_at dksX0_inRing_4 21 rfl rfl)
theorem dX0_inRing_118 : decode cX0_inRing 118 = .ok (.ireturn, 1) := dk_172 (dk_at dksX0_inRing_4 23 rfl rfl)
abbrev cX0_threshold : ByteArray := prog_1_method_70_code
def yX0_threshold : MethodName := ⟨RX0, "threshold", "(II)I"⟩
def dkwX0_threshold_5 : List UInt8 := [184, 1, 249, 172]
abbrev dktX0_threshold_5 : List UInt8 := dkwX0_threshold_5 ++ []
def dkwX0_threshold_4 : List UInt8 := [21, 5, 96, 182, 1, 12, 160, 0, 5, 2, 172, 21, 6, 21, 5, 96, 54, 6, 167, 255, 212, 28, 29, 100]
abbrev dktX0_threshold_4 : List UInt8 := dkwX0_threshold_4 ++ dktX0_threshold_5
def dkwX0_threshold_3 : List UInt8 := [159, 0, 44, 25, 4, 180, 0, 208, 21, 6, 21, 5, 96, 46, 42, 180, 0, 10, 180, 0, 91, 21, 6]
abbrev dktX0_threshold_3 : List UInt8 := dkwX0_threshold_3 ++ dktX0_threshold_4
def dkwX0_threshold_2 : List UInt8 := [108, 62, 42, 182, 0, 195, 58, 4, 28, 29, 100, 184, 1, 246, 54, 5, 29, 54, 6, 21, 6, 28]
abbrev dktX0_threshold_2 : List UInt8 := dkwX0_threshold_2 ++ dktX0_threshold_3
def dkwX0_threshold_1 : List UInt8 := [4, 100, 133, 184, 0, 106, 154, 0, 6, 16, 254, 172, 42, 180, 0, 10, 180, 0, 147, 27, 184, 0, 162, 6]
abbrev dktX0_threshold_1 : List UInt8 := dkwX0_threshold_1 ++ dktX0_threshold_2
def dkwX0_threshold_0 : List UInt8 := [42, 27, 182, 0, 184, 153, 0, 28, 28, 133, 9, 42, 180, 0, 10, 180, 0, 91, 180, 0, 201, 182, 0, 133]
abbrev dktX0_threshold_0 : List UInt8 := dkwX0_threshold_0 ++ dktX0_threshold_1
theorem dksX0_threshold_0 : cX0_threshold.data.toList.drop 0 = dktX0_threshold_0 := by decide +kernel
theorem dksX0_threshold_1 : cX0_threshold.data.toList.drop 24 = dktX0_threshold_1 := dk_seg dksX0_threshold_0 24 rfl rfl
theorem dksX0_threshold_2 : cX0_threshold.data.toList.drop 48 = dktX0_threshold_2 := dk_seg dksX0_threshold_1 24 rfl rfl
theorem dksX0_threshold_3 : cX0_threshold.data.toList.drop 70 = dktX0_threshold_3 := dk_seg dksX0_threshold_2 22 rfl rfl
theorem dksX0_threshold_4 : cX0_threshold.data.toList.drop 93 = dktX0_threshold_4 := dk_seg dksX0_threshold_3 23 rfl rfl
theorem dksX0_threshold_5 : cX0_threshold.data.toList.drop 117 = dktX0_threshold_5 := dk_seg dksX0_threshold_4 24 rfl rfl
theorem dX0_threshold_0 : decode cX0_threshold 0 = .ok (.aload_n 0, 1) := dk_42 (dk_at dksX0_threshold_0 0 rfl rfl)
theorem dX0_threshold_1 : decode cX0_threshold 1 = .ok (.iload_n 1, 1) := dk_27 (dk_at dksX0_threshold_0 1 rfl rfl)
theorem dX0_threshold_2 : decode cX0_threshold 2 = .ok (.invokevirtual 184, 3) := dk_182 0 184 (dk_at dksX0_threshold_0 2 rfl rfl)
theorem dX0_threshold_5 : decode cX0_threshold 5 = .ok (.ifCond .eq 28, 3) := dk_153 0 28 (dk_at dksX0_threshold_0 5 rfl rfl)
theorem dX0_threshold_8 : decode cX0_threshold 8 = .ok (.iload_n 2, 1) := dk_28 (dk_at dksX0_threshold_0 8 rfl rfl)
theorem dX0_threshold_9 : decode cX0_threshold 9 = .ok (.i2l, 1) := dk_133 (dk_at dksX0_threshold_0 9 rfl rfl)
theorem dX0_threshold_10 : decode cX0_threshold 10 = .ok (.lconst 0, 1) := dk_9 (dk_at dksX0_threshold_0 10 rfl rfl)
theorem dX0_threshold_11 : decode cX0_threshold 11 = .ok (.aload_n 0, 1) := dk_42 (dk_at dksX0_threshold_0 11 rfl rfl)
theorem dX0_threshold_12 : decode cX0_threshold 12 = .ok (.getfield 10, 3) := dk_180 0 10 (dk_at dksX0_threshold_0 12 rfl rfl)
theorem dX0_threshold_15 : decode cX0_threshold 15 = .ok (.getfield 91, 3) := dk_180 0 91 (dk_at dksX0_threshold_0 15 rfl rfl)
theorem dX0_threshold_18 : decode cX0_threshold 18 = .ok (.getfield 201, 3) := dk_180 0 201 (dk_at dksX0_threshold_0 18 rfl rfl)
theorem dX0_threshold_21 : decode cX0_threshold 21 = .ok (.invokevirtual 133, 3) := dk_182 0 133 (dk_at dksX0_threshold_0 21 rfl rfl)
theorem dX0_threshold_24 : decode cX0_threshold 24 = .ok (.iconst 1, 1) := dk_4 (dk_at dksX0_threshold_1 0 rfl rfl)
theorem dX0_threshold_25 : decode cX0_threshold 25 = .ok (.isub, 1) := dk_100 (dk_at dksX0_threshold_1 1 rfl rfl)
theorem dX0_threshold_26 : decode cX0_threshold 26 = .ok (.i2l, 1) := dk_133 (dk_at dksX0_threshold_1 2 rfl rfl)
theorem dX0_threshold_27 : decode cX0_threshold 27 = .ok (.invokestatic 106, 3) := dk_184 0 106 (dk_at dksX0_threshold_1 3 rfl rfl)
theorem dX0_threshold_30 : decode cX0_threshold 30 = .ok (.ifCond .ne 6, 3) := dk_154 0 6 (dk_at dksX0_threshold_1 6 rfl rfl)
theorem dX0_threshold_33 : decode cX0_threshold 33 = .ok (.bipush (-2), 2) := dk_16 254 (dk_at dksX0_threshold_1 9 rfl rfl)
theorem dX0_threshold_35 : decode cX0_threshold 35 = .ok (.ireturn, 1) := dk_172 (dk_at dksX0_threshold_1 11 rfl rfl)
theorem dX0_threshold_36 : decode cX0_threshold 36 = .ok (.aload_n 0, 1) := dk_42 (dk_at dksX0_threshold_1 12 rfl rfl)
theorem dX0_threshold_37 : decode cX0_threshold 37 = .ok (.getfield 10, 3) := dk_180 0 10 (dk_at dksX0_threshold_1 13 rfl rfl)
theorem dX0_threshold_40 : decode cX0_threshold 40 = .ok (.getfield 147, 3) := dk_180 0 147 (dk_at dksX0_threshold_1 16 rfl rfl)
theorem dX0_threshold_43 : decode cX0_threshold 43 = .ok (.iload_n 1, 1) := dk_27 (dk_at dksX0_threshold_1 19 rfl rfl)
theorem dX0_threshold_44 : decode cX0_threshold 44 = .ok (.invokestatic 162, 3) := dk_184 0 162 (dk_at dksX0_threshold_1 20 rfl rfl)
theorem dX0_threshold_47 : decode cX0_threshold 47 = .ok (.iconst 3, 1) := dk_6 (dk_at dksX0_threshold_1 23 rfl rfl)
theorem dX0_threshold_48 : decode cX0_threshold 48 = .ok (.idiv, 1) := dk_108 (dk_at dksX0_threshold_2 0 rfl rfl)
theorem dX0_threshold_49 : decode cX0_threshold 49 = .ok (.istore_n 3, 1) := dk_62 (dk_at dksX0_threshold_2 1 rfl rfl)
theorem dX0_threshold_50 : decode cX0_threshold 50 = .ok (.aload_n 0, 1) := dk_42 (dk_at dksX0_threshold_2 2 rfl rfl)
theorem dX0_threshold_51 : decode cX0_threshold 51 = .ok (.invokevirtual 195, 3) := dk_182 0 195 (dk_at dksX0_threshold_2 3 rfl rfl)
theorem dX0_threshold_54 : decode cX0_threshold 54 = .ok (.astore 4, 2) := dk_58 4 (dk_at dksX0_threshold_2 6 rfl rfl)
theorem dX0_threshold_56 : decode cX0_threshold 56 = .ok (.iload_n 2, 1) := dk_28 (dk_at dksX0_threshold_2 8 rfl rfl)
theorem dX0_threshold_57 : decode cX0_threshold 57 = .ok (.iload_n 3, 1) := dk_29 (dk_at dksX0_threshold_2 9 rfl rfl)
theorem dX0_threshold_58 : decode cX0_threshold 58 = .ok (.isub, 1) := dk_100 (dk_at dksX0_threshold_2 10 rfl rfl)
theorem dX0_threshold_59 : decode cX0_threshold 59 = .ok (.invokestatic 502, 3) := dk_184 1 246 (dk_at dksX0_threshold_2 11 rfl rfl)
theorem dX0_threshold_62 : decode cX0_threshold 62 = .ok (.istore 5, 2) := dk_54 5 (dk_at dksX0_threshold_2 14 rfl rfl)
theorem dX0_threshold_64 : decode cX0_threshold 64 = .ok (.iload_n 3, 1) := dk_29 (dk_at dksX0_threshold_2 16 rfl rfl)
theorem dX0_threshold_65 : decode cX0_threshold 65 = .ok (.istore 6, 2) := dk_54 6 (dk_at dksX0_threshold_2 17 rfl rfl)
theorem dX0_threshold_67 : decode cX0_threshold 67 = .ok (.iload 6, 2) := dk_21 6 (dk_at dksX0_threshold_2 19 rfl rfl)
theorem dX0_threshold_69 : decode cX0_threshold 69 = .ok (.iload_n 2, 1) := dk_28 (dk_at dksX0_threshold_2 21 rfl rfl)
theorem dX0_threshold_70 : decode cX0_threshold 70 = .ok (.if_icmp .eq 44, 3) := dk_159 0 44 (dk_at dksX0_threshold_3 0 rfl rfl)
theorem dX0_threshold_73 : decode cX0_threshold 73 = .ok (.aload 4, 2) := dk_25 4 (dk_at dksX0_threshold_3 3 rfl rfl)
theorem dX0_threshold_75 : decode cX0_threshold 75 = .ok (.getfield 208, 3) := dk_180 0 208 (dk_at dksX0_threshold_3 5 rfl rfl)
theorem dX0_threshold_78 : decode cX0_threshold 78 = .ok (.iload 6, 2) := dk_21 6 (dk_at dksX0_threshold_3 8 rfl rfl)
theorem dX0_threshold_80 : decode cX0_threshold 80 = .ok (.iload 5, 2) := dk_21 5 (dk_at dksX0_threshold_3 10 rfl rfl)
theorem dX0_threshold_82 : decode cX0_threshold 82 = .ok (.iadd, 1) := dk_96 (dk_at dksX0_threshold_3 12 rfl rfl)
theorem dX0_threshold_83 : decode cX0_threshold 83 = .ok (.iaload, 1) := dk_46 (dk_at dksX0_threshold_3 13 rfl rfl)
theorem dX0_threshold_84 : decode cX0_threshold 84 = .ok (.aload_n 0, 1) := dk_42 (dk_at dksX0_threshold_3 14 rfl rfl)
theorem dX0_threshold_85 : decode cX0_threshold 85 = .ok (.getfield 10, 3) := dk_180 0 10 (dk_at dksX0_threshold_3 15 rfl rfl)
theorem dX0_threshold_88 : decode cX0_threshold 88 = .ok (.getfield 91, 3) := dk_180 0 91 (dk_at dksX0_threshold_3 18 rfl rfl)
theorem dX0_threshold_91 : decode cX0_threshold 91 = .ok (.iload 6, 2) := dk_21 6 (dk_at dksX0_threshold_3 21 rfl rfl)
theorem dX0_threshold_93 : decode cX0_threshold 93 = .ok (.iload 5, 2) := dk_21 5 (dk_at dksX0_threshold_4 0 rfl rfl)
theorem dX0_threshold_95 : decode cX0_threshold 95 = .ok (.iadd, 1) := dk_96 (dk_at dksX0_threshold_4 2 rfl rfl)
theorem dX0_threshold_96 : decode cX0_threshold 96 = .ok (.invokevirtual 268, 3) := dk_182 1 12 (dk_at dksX0_threshold_4 3 rfl rfl)
theorem dX0_threshold_99 : decode cX0_threshold 99 = .ok (.if_icmp .ne 5, 3) := dk_160 0 5 (dk_at dksX0_threshold_4 6 rfl rfl)
theorem dX0_threshold_102 : decode cX0_threshold 102 = .ok (.iconst (-1), 1) := dk_2 (dk_at dksX0_threshold_4 9 rfl rfl)
theorem dX0_threshold_103 : decode cX0_threshold 103 = .ok (.ireturn, 1) := dk_172 (dk_at dksX0_threshold_4 10 rfl rfl)
theorem dX0_threshold_104 : decode cX0_threshold 104 = .ok (.iload 6, 2) := dk_21 6 (dk_at dksX0_threshold_4 11 rfl rfl)
theorem dX0_threshold_106 : decode cX0_threshold 106 = .ok (.iload 5, 2) := dk_21 5 (dk_at dksX0_threshold_4 13 rfl rfl)
theorem dX0_threshold_108 : decode cX0_threshold 108 = .ok (.iadd, 1) := dk_96 (dk_at dksX0_threshold_4 15 rfl rfl)
theorem dX0_threshold_109 : decode cX0_threshold 109 = .ok (.istore 6, 2) := dk_54 6 (dk_at dksX0_threshold_4 16 rfl rfl)
theorem dX0_threshold_111 : decode cX0_threshold 111 = .ok (.goto (-44), 3) := dk_167 255 212 (dk_at dksX0_threshold_4 18 rfl rfl)
theorem dX0_threshold_114 : decode cX0_threshold 114 = .ok (.iload_n 2, 1) := dk_28 (dk_at dksX0_threshold_4 21 rfl rfl)
theorem dX0_threshold_115 : decode cX0_threshold 115 = .ok (.iload_n 3, 1) := dk_29 (dk_at dksX0_threshold_4 22 rfl rfl)
theorem dX0_threshold_116 : decode cX0_threshold 116 = .ok (.isub, 1) := dk_100 (dk_at dksX0_threshold_4 23 rfl rfl)
theorem dX0_threshold_117 : decode cX0_threshold 117 = .ok (.invokestatic 505, 3) := dk_184 1 249 (dk_at dksX0_threshold_5 0 rfl rfl)
theorem dX0_threshold_120 : decode cX0_threshold 120 = .ok (.ireturn, 1) := dk_172 (dk_at dksX0_threshold_5 3 rfl rfl)
abbrev cX0_numbers : ByteArray := prog_1_method_72_code
def yX0_numbers : MethodName := ⟨RX0, "numbers", "(III)I"⟩
def dkwX0_numbers_2 : List UInt8 := [167, 0, 5, 16, 253, 172]
abbrev dktX0_numbers_2 : List UInt8 := dkwX0_numbers_2 ++ []
def dkwX0_numbers_1 : List UInt8 := [16, 40, 164, 0, 6, 16, 253, 172, 42, 180, 0, 87, 27, 50, 28, 29, 182, 1, 252, 153, 0, 7, 3]
abbrev dktX0_numbers_1 : List UInt8 := dkwX0_numbers_1 ++ dktX0_numbers_2
def dkwX0_numbers_0 : List UInt8 := [27, 184, 1, 49, 153, 0, 15, 28, 133, 9, 20, 1, 52, 184, 0, 106, 154, 0, 6, 16, 254, 172, 29]
abbrev dktX0_numbers_0 : List UInt8 := dkwX0_numbers_0 ++ dktX0_numbers_1
theorem dksX0_numbers_0 : cX0_numbers.data.toList.drop 0 = dktX0_numbers_0 := by decide +kernel
theorem dksX0_numbers_1 : cX0_numbers.data.toList.drop 23 = dktX0_numbers_1 := dk_seg dksX0_numbers_0 23 rfl rfl
theorem dksX0_numbers_2 : cX0_numbers.data.toList.drop 46 = dktX0_numbers_2 := dk_seg dksX0_numbers_1 23 rfl rfl
theorem dX0_numbers_0 : decode cX0_numbers 0 = .ok (.iload_n 1, 1) := dk_27 (dk_at dksX0_numbers_0 0 rfl rfl)
theorem dX0_numbers_1 : decode cX0_numbers 1 = .ok (.invokestatic 305, 3) := dk_184 1 49 (dk_at dksX0_numbers_0 1 rfl rfl)
theorem dX0_numbers_4 : decode cX0_numbers 4 = .ok (.ifCond .eq 15, 3) := dk_153 0 15 (dk_at dksX0_numbers_0 4 rfl rfl)
theorem dX0_numbers_7 : decode cX0_numbers 7 = .ok (.iload_n 2, 1) := dk_28 (dk_at dksX0_numbers_0 7 rfl rfl)
theorem dX0_numbers_8 : decode cX0_numbers 8 = .ok (.i2l, 1) := dk_133 (dk_at dksX0_numbers_0 8 rfl rfl)
theorem dX0_numbers_9 : decode cX0_numbers 9 = .ok (.lconst 0, 1) := dk_9 (dk_at dksX0_numbers_0 9 rfl rfl)
theorem dX0_numbers_10 : decode cX0_numbers 10 = .ok (.ldc2_w 308, 3) := dk_20 1 52 (dk_at dksX0_numbers_0 10 rfl rfl)
theorem dX0_numbers_13 : decode cX0_numbers 13 = .ok (.invokestatic 106, 3) := dk_184 0 106 (dk_at dksX0_numbers_0 13 rfl rfl)
theorem dX0_numbers_16 : decode cX0_numbers 16 = .ok (.ifCond .ne 6, 3) := dk_154 0 6 (dk_at dksX0_numbers_0 16 rfl rfl)
theorem dX0_numbers_19 : decode cX0_numbers 19 = .ok (.bipush (-2), 2) := dk_16 254 (dk_at dksX0_numbers_0 19 rfl rfl)
theorem dX0_numbers_21 : decode cX0_numbers 21 = .ok (.ireturn, 1) := dk_172 (dk_at dksX0_numbers_0 21 rfl rfl)
theorem dX0_numbers_22 : decode cX0_numbers 22 = .ok (.iload_n 3, 1) := dk_29 (dk_at dksX0_numbers_0 22 rfl rfl)
theorem dX0_numbers_23 : decode cX0_numbers 23 = .ok (.bipush 40, 2) := dk_16 40 (dk_at dksX0_numbers_1 0 rfl rfl)
theorem dX0_numbers_25 : decode cX0_numbers 25 = .ok (.if_icmp .le 6, 3) := dk_164 0 6 (dk_at dksX0_numbers_1 2 rfl rfl)
theorem dX0_numbers_28 : decode cX0_numbers 28 = .ok (.bipush (-3), 2) := dk_16 253 (dk_at dksX0_numbers_1 5 rfl rfl)
theorem dX0_numbers_30 : decode cX0_numbers 30 = .ok (.ireturn, 1) := dk_172 (dk_at dksX0_numbers_1 7 rfl rfl)
theorem dX0_numbers_31 : decode cX0_numbers 31 = .ok (.aload_n 0, 1) := dk_42 (dk_at dksX0_numbers_1 8 rfl rfl)
theorem dX0_numbers_32 : decode cX0_numbers 32 = .ok (.getfield 87, 3) := dk_180 0 87 (dk_at dksX0_numbers_1 9 rfl rfl)
theorem dX0_numbers_35 : decode cX0_numbers 35 = .ok (.iload_n 1, 1) := dk_27 (dk_at dksX0_numbers_1 12 rfl rfl)
theorem dX0_numbers_36 : decode cX0_numbers 36 = .ok (.aaload, 1) := dk_50 (dk_at dksX0_numbers_1 13 rfl rfl)
theorem dX0_numbers_37 : decode cX0_numbers 37 = .ok (.iload_n 2, 1) := dk_28 (dk_at dksX0_numbers_1 14 rfl rfl)
theorem dX0_numbers_38 : decode cX0_numbers 38 = .ok (.iload_n 3, 1) := dk_29 (dk_at dksX0_numbers_1 15 rfl rfl)
theorem dX0_numbers_39 : decode cX0_numbers 39 = .ok (.invokevirtual 508, 3) := dk_182 1 252 (dk_at dksX0_numbers_1 16 rfl rfl)
theorem dX0_numbers_42 : decode cX0_numbers 42 = .ok (.ifCond .eq 7, 3) := dk_153 0 7 (dk_at dksX0_numbers_1 19 rfl rfl)
theorem dX0_numbers_45 : decode cX0_numbers 45 = .ok (.iconst 0, 1) := dk_3 (dk_at dksX0_numbers_1 22 rfl rfl)
theorem dX0_numbers_46 : decode cX0_numbers 46 = .ok (.goto 5, 3) := dk_167 0 5 (dk_at dksX0_numbers_2 0 rfl rfl)
theorem dX0_numbers_49 : decode cX0_numbers 49 = .ok (.bipush (-3), 2) := dk_16 253 (dk_at dksX0_numbers_2 3 rfl rfl)
theorem dX0_numbers_51 : decode cX0_numbers 51 = .ok (.ireturn, 1) := dk_172 (dk_at dksX0_numbers_2 5 rfl rfl)
abbrev cX0_write : ByteArray := prog_1_method_73_code
def yX0_write : MethodName := ⟨RX0, "write", "(IIJ)J"⟩
def dkwX0_write_1 : List UInt8 := [180, 0, 87, 27, 50, 28, 182, 1, 60, 173, 58, 5, 20, 2, 6, 173, 58, 5, 20, 2, 10, 173]
abbrev dktX0_write_1 : List UInt8 := dkwX0_write_1 ++ []
def dkwX0_write_0 : List UInt8 := [27, 184, 1, 49, 154, 0, 7, 20, 1, 254, 173, 42, 180, 0, 87, 27, 50, 28, 33, 182, 2, 0, 42]
abbrev dktX0_write_0 : List UInt8 := dkwX0_write_0 ++ dktX0_write_1
theorem dksX0_write_0 : cX0_write.data.toList.drop 0 = dktX0_write_0 := by decide +kernel
theorem dksX0_write_1 : cX0_write.data.toList.drop 23 = dktX0_write_1 := dk_seg dksX0_write_0 23 rfl rfl
theorem dX0_write_0 : decode cX0_write 0 = .ok (.iload_n 1, 1) := dk_27 (dk_at dksX0_write_0 0 rfl rfl)
theorem dX0_write_1 : decode cX0_write 1 = .ok (.invokestatic 305, 3) := dk_184 1 49 (dk_at dksX0_write_0 1 rfl rfl)
theorem dX0_write_4 : decode cX0_write 4 = .ok (.ifCond .ne 7, 3) := dk_154 0 7 (dk_at dksX0_write_0 4 rfl rfl)
theorem dX0_write_7 : decode cX0_write 7 = .ok (.ldc2_w 510, 3) := dk_20 1 254 (dk_at dksX0_write_0 7 rfl rfl)
theorem dX0_write_10 : decode cX0_write 10 = .ok (.lreturn, 1) := dk_173 (dk_at dksX0_write_0 10 rfl rfl)
theorem dX0_write_11 : decode cX0_write 11 = .ok (.aload_n 0, 1) := dk_42 (dk_at dksX0_write_0 11 rfl rfl)
theorem dX0_write_12 : decode cX0_write 12 = .ok (.getfield 87, 3) := dk_180 0 87 (dk_at dksX0_write_0 12 rfl rfl)
theorem dX0_write_15 : decode cX0_write 15 = .ok (.iload_n 1, 1) := dk_27 (dk_at dksX0_write_0 15 rfl rfl)
theorem dX0_write_16 : decode cX0_write 16 = .ok (.aaload, 1) := dk_50 (dk_at dksX0_write_0 16 rfl rfl)
theorem dX0_write_17 : decode cX0_write 17 = .ok (.iload_n 2, 1) := dk_28 (dk_at dksX0_write_0 17 rfl rfl)
theorem dX0_write_18 : decode cX0_write 18 = .ok (.lload_n 3, 1) := dk_33 (dk_at dksX0_write_0 18 rfl rfl)
theorem dX0_write_19 : decode cX0_write 19 = .ok (.invokevirtual 512, 3) := dk_182 2 0 (dk_at dksX0_write_0 19 rfl rfl)
theorem dX0_write_22 : decode cX0_write 22 = .ok (.aload_n 0, 1) := dk_42 (dk_at dksX0_write_0 22 rfl rfl)
theorem dX0_write_23 : decode cX0_write 23 = .ok (.getfield 87, 3) := dk_180 0 87 (dk_at dksX0_write_1 0 rfl rfl)
theorem dX0_write_26 : decode cX0_write 26 = .ok (.iload_n 1, 1) := dk_27 (dk_at dksX0_write_1 3 rfl rfl)
theorem dX0_write_27 : decode cX0_write 27 = .ok (.aaload, 1) := dk_50 (dk_at dksX0_write_1 4 rfl rfl)
theorem dX0_write_28 : decode cX0_write 28 = .ok (.iload_n 2, 1) := dk_28 (dk_at dksX0_write_1 5 rfl rfl)
theorem dX0_write_29 : decode cX0_write 29 = .ok (.invokevirtual 316, 3) := dk_182 1 60 (dk_at dksX0_write_1 6 rfl rfl)
theorem dX0_write_32 : decode cX0_write 32 = .ok (.lreturn, 1) := dk_173 (dk_at dksX0_write_1 9 rfl rfl)
theorem dX0_write_33 : decode cX0_write 33 = .ok (.astore 5, 2) := dk_58 5 (dk_at dksX0_write_1 10 rfl rfl)
theorem dX0_write_35 : decode cX0_write 35 = .ok (.ldc2_w 518, 3) := dk_20 2 6 (dk_at dksX0_write_1 12 rfl rfl)
theorem dX0_write_38 : decode cX0_write 38 = .ok (.lreturn, 1) := dk_173 (dk_at dksX0_write_1 15 rfl rfl)
theorem dX0_write_39 : decode cX0_write 39 = .ok (.astore 5, 2) := dk_58 5 (dk_at dksX0_write_1 16 rfl rfl)
theorem dX0_write_41 : decode cX0_write 41 = .ok (.ldc2_w 522, 3) := dk_20 2 10 (dk_at dksX0_write_1 18 rfl rfl)
theorem dX0_write_44 : decode cX0_write 44 = .ok (.lreturn, 1) := dk_173 (dk_at dksX0_write_1 21 rfl rfl)
abbrev cX0_image : ByteArray := prog_1_method_74_code
def yX0_image : MethodName := ⟨RX0, "image", "(I)I"⟩
def dkwX0_image_1 : List UInt8 := [182, 2, 12, 83, 3, 172]
abbrev dktX0_image_1 : List UInt8 := dkwX0_image_1 ++ []
def dkwX0_image_0 : List UInt8 := [27, 133, 9, 10, 184, 0, 106, 154, 0, 6, 16, 254, 172, 42, 180, 0, 16, 27, 42, 180, 0, 10]
abbrev dktX0_image_0 : List UInt8 := dkwX0_image_0 ++ dktX0_image_1
theorem dksX0_image_0 : cX0_image.data.toList.drop 0 = dktX0_image_0 := by decide +kernel
theorem dksX0_image_1 : cX0_image.data.toList.drop 22 = dktX0_image_1 := dk_seg dksX0_image_0 22 rfl rfl
theorem dX0_image_0 : decode cX0_image 0 = .ok (.iload_n 1, 1) := dk_27 (dk_at dksX0_image_0 0 rfl rfl)
theorem dX0_image_1 : decode cX0_image 1 = .ok (.i2l, 1) := dk_133 (dk_at dksX0_image_0 1 rfl rfl)
theorem dX0_image_2 : decode cX0_image 2 = .ok (.lconst 0, 1) := dk_9 (dk_at dksX0_image_0 2 rfl rfl)
theorem dX0_image_3 : decode cX0_image 3 = .ok (.lconst 1, 1) := dk_10 (dk_at dksX0_image_0 3 rfl rfl)
theorem dX0_image_4 : decode cX0_image 4 = .ok (.invokestatic 106, 3) := dk_184 0 106 (dk_at dksX0_image_0 4 rfl rfl)
theorem dX0_image_7 : decode cX0_image 7 = .ok (.ifCond .ne 6, 3) := dk_154 0 6 (dk_at dksX0_image_0 7 rfl rfl)
theorem dX0_image_10 : decode cX0_image 10 = .ok (.bipush (-2), 2) := dk_16 254 (dk_at dksX0_image_0 10 rfl rfl)
theorem dX0_image_12 : decode cX0_image 12 = .ok (.ireturn, 1) := dk_172 (dk_at dksX0_image_0 12 rfl rfl)
theorem dX0_image_13 : decode cX0_image 13 = .ok (.aload_n 0, 1) := dk_42 (dk_at dksX0_image_0 13 rfl rfl)
theorem dX0_image_14 : decode cX0_image 14 = .ok (.getfield 16, 3) := dk_180 0 16 (dk_at dksX0_image_0 14 rfl rfl)
theorem dX0_image_17 : decode cX0_image 17 = .ok (.iload_n 1, 1) := dk_27 (dk_at dksX0_image_0 17 rfl rfl)
theorem dX0_image_18 : decode cX0_image 18 = .ok (.aload_n 0, 1) := dk_42 (dk_at dksX0_image_0 18 rfl rfl)
theorem dX0_image_19 : decode cX0_image 19 = .ok (.getfield 10, 3) := dk_180 0 10 (dk_at dksX0_image_0 19 rfl rfl)
theorem dX0_image_22 : decode cX0_image 22 = .ok (.invokevirtual 524, 3) := dk_182 2 12 (dk_at dksX0_image_1 0 rfl rfl)
theorem dX0_image_25 : decode cX0_image 25 = .ok (.aastore, 1) := dk_83 (dk_at dksX0_image_1 3 rfl rfl)
theorem dX0_image_26 : decode cX0_image 26 = .ok (.iconst 0, 1) := dk_3 (dk_at dksX0_image_1 4 rfl rfl)
theorem dX0_image_27 : decode cX0_image 27 = .ok (.ireturn, 1) := dk_172 (dk_at dksX0_image_1 5 rfl rfl)
abbrev cX0_restore : ByteArray := prog_1_method_75_code
def yX0_restore : MethodName := ⟨RX0, "restore", "(I)I"⟩
def dkwX0_restore_1 : List UInt8 := [172, 42, 42, 180, 0, 16, 27, 50, 182, 2, 12, 181, 0, 10, 3, 172]
abbrev dktX0_restore_1 : List UInt8 := dkwX0_restore_1 ++ []
def dkwX0_restore_0 : List UInt8 := [27, 133, 9, 10, 184, 0, 106, 154, 0, 6, 16, 254, 172, 42, 180, 0, 16, 27, 50, 199, 0, 6, 16, 251]
abbrev dktX0_restore_0 : List UInt8 := dkwX0_restore_0 ++ dktX0_restore_1
theorem dksX0_restore_0 : cX0_restore.data.toList.drop 0 = dktX0_restore_0 := by decide +kernel
theorem dksX0_restore_1 : cX0_restore.data.toList.drop 24 = dktX0_restore_1 := dk_seg dksX0_restore_0 24 rfl rfl
theorem dX0_restore_0 : decode cX0_restore 0 = .ok (.iload_n 1, 1) := dk_27 (dk_at dksX0_restore_0 0 rfl rfl)
theorem dX0_restore_1 : decode cX0_restore 1 = .ok (.i2l, 1) := dk_133 (dk_at dksX0_restore_0 1 rfl rfl)
theorem dX0_restore_2 : decode cX0_restore 2 = .ok (.lconst 0, 1) := dk_9 (dk_at dksX0_restore_0 2 rfl rfl)
theorem dX0_restore_3 : decode cX0_restore 3 = .ok (.lconst 1, 1) := dk_10 (dk_at dksX0_restore_0 3 rfl rfl)
theorem dX0_restore_4 : decode cX0_restore 4 = .ok (.invokestatic 106, 3) := dk_184 0 106 (dk_at dksX0_restore_0 4 rfl rfl)
theorem dX0_restore_7 : decode cX0_restore 7 = .ok (.ifCond .ne 6, 3) := dk_154 0 6 (dk_at dksX0_restore_0 7 rfl rfl)
theorem dX0_restore_10 : decode cX0_restore 10 = .ok (.bipush (-2), 2) := dk_16 254 (dk_at dksX0_restore_0 10 rfl rfl)
theorem dX0_restore_12 : decode cX0_restore 12 = .ok (.ireturn, 1) := dk_172 (dk_at dksX0_restore_0 12 rfl rfl)
theorem dX0_restore_13 : decode cX0_restore 13 = .ok (.aload_n 0, 1) := dk_42 (dk_at dksX0_restore_0 13 rfl rfl)
theorem dX0_restore_14 : decode cX0_restore 14 = .ok (.getfield 16, 3) := dk_180 0 16 (dk_at dksX0_restore_0 14 rfl rfl)
theorem dX0_restore_17 : decode cX0_restore 17 = .ok (.iload_n 1, 1) := dk_27 (dk_at dksX0_restore_0 17 rfl rfl)
theorem dX0_restore_18 : decode cX0_restore 18 = .ok (.aaload, 1) := dk_50 (dk_at dksX0_restore_0 18 rfl rfl)
theorem dX0_restore_19 : decode cX0_restore 19 = .ok (.ifnonnull 6, 3) := dk_199 0 6 (dk_at dksX0_restore_0 19 rfl rfl)
theorem dX0_restore_22 : decode cX0_restore 22 = .ok (.bipush (-5), 2) := dk_16 251 (dk_at dksX0_restore_0 22 rfl rfl)
theorem dX0_restore_24 : decode cX0_restore 24 = .ok (.ireturn, 1) := dk_172 (dk_at dksX0_restore_1 0 rfl rfl)
theorem dX0_restore_25 : decode cX0_restore 25 = .ok (.aload_n 0, 1) := dk_42 (dk_at dksX0_restore_1 1 rfl rfl)
theorem dX0_restore_26 : decode cX0_restore 26 = .ok (.aload_n 0, 1) := dk_42 (dk_at dksX0_restore_1 2 rfl rfl)
theorem dX0_restore_27 : decode cX0_restore 27 = .ok (.getfield 16, 3) := dk_180 0 16 (dk_at dksX0_restore_1 3 rfl rfl)
theorem dX0_restore_30 : decode cX0_restore 30 = .ok (.iload_n 1, 1) := dk_27 (dk_at dksX0_restore_1 6 rfl rfl)
theorem dX0_restore_31 : decode cX0_restore 31 = .ok (.aaload, 1) := dk_50 (dk_at dksX0_restore_1 7 rfl rfl)
theorem dX0_restore_32 : decode cX0_restore 32 = .ok (.invokevirtual 524, 3) := dk_182 2 12 (dk_at dksX0_restore_1 8 rfl rfl)
theorem dX0_restore_35 : decode cX0_restore 35 = .ok (.putfield 10, 3) := dk_181 0 10 (dk_at dksX0_restore_1 11 rfl rfl)
theorem dX0_restore_38 : decode cX0_restore 38 = .ok (.iconst 0, 1) := dk_3 (dk_at dksX0_restore_1 14 rfl rfl)
theorem dX0_restore_39 : decode cX0_restore 39 = .ok (.ireturn, 1) := dk_172 (dk_at dksX0_restore_1 15 rfl rfl)
abbrev cX0_count : ByteArray := prog_1_method_76_code
def yX0_count : MethodName := ⟨RX0, "count", "(I)I"⟩
def dkwX0_count_8 : List UInt8 := [180, 0, 10, 180, 0, 91, 180, 0, 140, 172, 2, 172]
abbrev dktX0_count_8 : List UInt8 := dkwX0_count_8 ++ []
def dkwX0_count_7 : List UInt8 := [180, 0, 10, 180, 0, 91, 180, 1, 19, 153, 0, 7, 4, 167, 0, 4, 3, 172, 42, 180, 0, 99, 172, 42]
abbrev dktX0_count_7 : List UInt8 := dkwX0_count_7 ++ dktX0_count_8
def dkwX0_count_6 : List UInt8 := [180, 1, 210, 172, 42, 180, 0, 10, 180, 0, 91, 180, 1, 213, 153, 0, 7, 4, 167, 0, 4, 3, 172, 42]
abbrev dktX0_count_6 : List UInt8 := dkwX0_count_6 ++ dktX0_count_7
def dkwX0_count_5 : List UInt8 := [123, 136, 184, 1, 105, 172, 42, 180, 0, 10, 180, 0, 91, 180, 1, 207, 172, 42, 180, 0, 10, 180, 0, 91]
abbrev dktX0_count_5 : List UInt8 := dkwX0_count_5 ++ dktX0_count_6
def dkwX0_count_4 : List UInt8 := [180, 0, 132, 182, 0, 133, 172, 42, 180, 0, 10, 180, 0, 233, 172, 42, 180, 0, 10, 180, 0, 147, 16, 32]
abbrev dktX0_count_4 : List UInt8 := dkwX0_count_4 ++ dktX0_count_5
def dkwX0_count_3 : List UInt8 := [182, 0, 133, 172, 42, 180, 0, 10, 180, 0, 91, 180, 1, 169, 182, 0, 133, 172, 42, 180, 0, 10]
abbrev dktX0_count_3 : List UInt8 := dkwX0_count_3 ++ dktX0_count_4
def dkwX0_count_2 : List UInt8 := [42, 180, 0, 10, 180, 0, 91, 180, 0, 201, 182, 0, 133, 172, 42, 180, 0, 10, 180, 0, 91, 180, 0, 155]
abbrev dktX0_count_2 : List UInt8 := dkwX0_count_2 ++ dktX0_count_3
def dkwX0_count_1 : List UInt8 := [170, 0, 0, 0, 0, 0, 215, 0, 0, 0, 0, 0, 0, 0, 11, 0, 0, 0, 63, 0, 0, 0, 77, 0, 0, 0, 91, 0, 0, 0, 105, 0, 0, 0, 116, 0, 0, 0, 124, 0, 0, 0, 139, 0, 0, 0, 150, 0, 0, 0, 161, 0, 0, 0, 180, 0, 0, 0, 199, 0, 0, 0, 204]
abbrev dktX0_count_1 : List UInt8 := dkwX0_count_1 ++ dktX0_count_2
def dkwX0_count_0 : List UInt8 := [27]
abbrev dktX0_count_0 : List UInt8 := dkwX0_count_0 ++ dktX0_count_1
theorem dksX0_count_0 : cX0_count.data.toList.drop 0 = dktX0_count_0 := by decide +kernel
theorem dksX0_count_1 : cX0_count.data.toList.drop 1 = dktX0_count_1 := dk_seg dksX0_count_0 1 rfl rfl
theorem dksX0_count_2 : cX0_count.data.toList.drop 64 = dktX0_count_2 := dk_seg dksX0_count_1 63 rfl rfl
theorem dksX0_count_3 : cX0_count.data.toList.drop 88 = dktX0_count_3 := dk_seg dksX0_count_2 24 rfl rfl
theorem dksX0_count_4 : cX0_count.data.toList.drop 110 = dktX0_count_4 := dk_seg dksX0_count_3 22 rfl rfl
theorem dksX0_count_5 : cX0_count.data.toList.drop 134 = dktX0_count_5 := dk_seg dksX0_count_4 24 rfl rfl
theorem dksX0_count_6 : cX0_count.data.toList.drop 158 = dktX0_count_6 := dk_seg dksX0_count_5 24 rfl rfl
theorem dksX0_count_7 : cX0_count.data.toList.drop 182 = dktX0_count_7 := dk_seg dksX0_count_6 24 rfl rfl
theorem dksX0_count_8 : cX0_count.data.toList.drop 206 = dktX0_count_8 := dk_seg dksX0_count_7 24 rfl rfl
theorem dX0_count_0 : decode cX0_count 0 = .ok (.iload_n 1, 1) := dk_27 (dk_at dksX0_count_0 0 rfl rfl)
theorem dX0_count_1 : decode cX0_count 1 = .ok (.tableswitch 215 0 11 #[63, 77, 91, 105, 116, 124, 139, 150, 161, 180, 199, 204], 63) := by decide +kernel
theorem dX0_count_64 : decode cX0_count 64 = .ok (.aload_n 0, 1) := dk_42 (dk_at dksX0_count_2 0 rfl rfl)
theorem dX0_count_65 : decode cX0_count 65 = .ok (.getfield 10, 3) := dk_180 0 10 (dk_at dksX0_count_2 1 rfl rfl)
theorem dX0_count_68 : decode cX0_count 68 = .ok (.getfield 91, 3) := dk_180 0 91 (dk_at dksX0_count_2 4 rfl rfl)
theorem dX0_count_71 : decode cX0_count 71 = .ok (.getfield 201, 3) := dk_180 0 201 (dk_at dksX0_count_2 7 rfl rfl)
theorem dX0_count_74 : decode cX0_count 74 = .ok (.invokevirtual 133, 3) := dk_182 0 133 (dk_at dksX0_count_2 10 rfl rfl)
theorem dX0_count_77 : decode cX0_count 77 = .ok (.ireturn, 1) := dk_172 (dk_at dksX0_count_2 13 rfl rfl)
theorem dX0_count_78 : decode cX0_count 78 = .ok (.aload_n 0, 1) := dk_42 (dk_at dksX0_count_2 14 rfl rfl)
theorem dX0_count_79 : decode cX0_count 79 = .ok (.getfield 10, 3) := dk_180 0 10 (dk_at dksX0_count_2 15 rfl rfl)
theorem dX0_count_82 : decode cX0_count 82 = .ok (.getfield 91, 3) := dk_180 0 91 (dk_at dksX0_count_2 18 rfl rfl)
theorem dX0_count_85 : decode cX0_count 85 = .ok (.getfield 155, 3) := dk_180 0 155 (dk_at dksX0_count_2 21 rfl rfl)
theorem dX0_count_88 : decode cX0_count 88 = .ok (.invokevirtual 133, 3) := dk_182 0 133 (dk_at dksX0_count_3 0 rfl rfl)
theorem dX0_count_91 : decode cX0_count 91 = .ok (.ireturn, 1) := dk_172 (dk_at dksX0_count_3 3 rfl rfl)
theorem dX0_count_92 : decode cX0_count 92 = .ok (.aload_n 0, 1) := dk_42 (dk_at dksX0_count_3 4 rfl rfl)
theorem dX0_count_93 : decode cX0_count 93 = .ok (.getfield 10, 3) := dk_180 0 10 (dk_at dksX0_count_3 5 rfl rfl)
theorem dX0_count_96 : decode cX0_count 96 = .ok (.getfield 91, 3) := dk_180 0 91 (dk_at dksX0_count_3 8 rfl rfl)
theorem dX0_count_99 : decode cX0_count 99 = .ok (.getfield 425, 3) := dk_180 1 169 (dk_at dksX0_count_3 11 rfl rfl)
theorem dX0_count_102 : decode cX0_count 102 = .ok (.invokevirtual 133, 3) := dk_182 0 133 (dk_at dksX0_count_3 14 rfl rfl)
theorem dX0_count_105 : decode cX0_count 105 = .ok (.ireturn, 1) := dk_172 (dk_at dksX0_count_3 17 rfl rfl)
theorem dX0_count_106 : decode cX0_count 106 = .ok (.aload_n 0, 1) := dk_42 (dk_at dksX0_count_3 18 rfl rfl)
theorem dX0_count_107 : decode cX0_count 107 = .ok (.getfield 10, 3) := dk_180 0 10 (dk_at dksX0_count_3 19 rfl rfl)
theorem dX0_count_110 : decode cX0_count 110 = .ok (.getfield 132, 3) := dk_180 0 132 (dk_at dksX0_count_4 0 rfl rfl)
theorem dX0_count_113 : decode cX0_count 113 = .ok (.invokevirtual 133, 3) := dk_182 0 133 (dk_at dksX0_count_4 3 rfl rfl)
theorem dX0_count_116 : decode cX0_count 116 = .ok (.ireturn, 1) := dk_172 (dk_at dksX0_count_4 6 rfl rfl)
theorem dX0_count_117 : decode cX0_count 117 = .ok (.aload_n 0, 1) := dk_42 (dk_at dksX0_count_4 7 rfl rfl)
theorem dX0_count_118 : decode cX0_count 118 = .ok (.getfield 10, 3) := dk_180 0 10 (dk_at dksX0_count_4 8 rfl rfl)
theorem dX0_count_121 : decode cX0_count 121 = .ok (.getfield 233, 3) := dk_180 0 233 (dk_at dksX0_count_4 11 rfl rfl)
theorem dX0_count_124 : decode cX0_count 124 = .ok (.ireturn, 1) := dk_172 (dk_at dksX0_count_4 14 rfl rfl)
theorem dX0_count_125 : decode cX0_count 125 = .ok (.aload_n 0, 1) := dk_42 (dk_at dksX0_count_4 15 rfl rfl)
theorem dX0_count_126 : decode cX0_count 126 = .ok (.getfield 10, 3) := dk_180 0 10 (dk_at dksX0_count_4 16 rfl rfl)
theorem dX0_count_129 : decode cX0_count 129 = .ok (.getfield 147, 3) := dk_180 0 147 (dk_at dksX0_count_4 19 rfl rfl)
theorem dX0_count_132 : decode cX0_count 132 = .ok (.bipush 32, 2) := dk_16 32 (dk_at dksX0_count_4 22 rfl rfl)
theorem dX0_count_134 : decode cX0_count 134 = .ok (.lshr, 1) := dk_123 (dk_at dksX0_count_5 0 rfl rfl)
theorem dX0_count_135 : decode cX0_count 135 = .ok (.l2i, 1) := dk_136 (dk_at dksX0_count_5 1 rfl rfl)
theorem dX0_count_136 : decode cX0_count 136 = .ok (.invokestatic 361, 3) := dk_184 1 105 (dk_at dksX0_count_5 2 rfl rfl)
theorem dX0_count_139 : decode cX0_count 139 = .ok (.ireturn, 1) := dk_172 (dk_at dksX0_count_5 5 rfl rfl)
theorem dX0_count_140 : decode cX0_count 140 = .ok (.aload_n 0, 1) := dk_42 (dk_at dksX0_count_5 6 rfl rfl)
theorem dX0_count_141 : decode cX0_count 141 = .ok (.getfield 10, 3) := dk_180 0 10 (dk_at dksX0_count_5 7 rfl rfl)
theorem dX0_count_144 : decode cX0_count 144 = .ok (.getfield 91, 3) := dk_180 0 91 (dk_at dksX0_count_5 10 rfl rfl)
theorem dX0_count_147 : decode cX0_count 147 = .ok (.getfield 463, 3) := dk_180 1 207 (dk_at dksX0_count_5 13 rfl rfl)
theorem dX0_count_150 : decode cX0_count 150 = .ok (.ireturn, 1) := dk_172 (dk_at dksX0_count_5 16 rfl rfl)
theorem dX0_count_151 : decode cX0_count 151 = .ok (.aload_n 0, 1) := dk_42 (dk_at dksX0_count_5 17 rfl rfl)
theorem dX0_count_152 : decode cX0_count 152 = .ok (.getfield 10, 3) := dk_180 0 10 (dk_at dksX0_count_5 18 rfl rfl)
theorem dX0_count_155 : decode cX0_count 155 = .ok (.getfield 91, 3) := dk_180 0 91 (dk_at dksX0_count_5 21 rfl rfl)
theorem dX0_count_158 : decode cX0_count 158 = .ok (.getfield 466, 3) := dk_180 1 210 (dk_at dksX0_count_6 0 rfl rfl)
theorem dX0_count_161 : decode cX0_count 161 = .ok (.ireturn, 1) := dk_172 (dk_at dksX0_count_6 3 rfl rfl)
theorem dX0_count_162 : decode cX0_count 162 = .ok (.aload_n 0, 1) := dk_42 (dk_at dksX0_count_6 4 rfl rfl)
theorem dX0_count_163 : decode cX0_count 163 = .ok (.getfield 10, 3) := dk_180 0 10 (dk_at dksX0_count_6 5 rfl rfl)
theorem dX0_count_166 : decode cX0_count 166 = .ok (.getfield 91, 3) := dk_180 0 91 (dk_at dksX0_count_6 8 rfl rfl)
theorem dX0_count_169 : decode cX0_count 169 = .ok (.getfield 469, 3) := dk_180 1 213 (dk_at dksX0_count_6 11 rfl rfl)
theorem dX0_count_172 : decode cX0_count 172 = .ok (.ifCond .eq 7, 3) := dk_153 0 7 (dk_at dksX0_count_6 14 rfl rfl)
theorem dX0_count_175 : decode cX0_count 175 = .ok (.iconst 1, 1) := dk_4 (dk_at dksX0_count_6 17 rfl rfl)
theorem dX0_count_176 : decode cX0_count 176 = .ok (.goto 4, 3) := dk_167 0 4 (dk_at dksX0_count_6 18 rfl rfl)
theorem dX0_count_179 : decode cX0_count 179 = .ok (.iconst 0, 1) := dk_3 (dk_at dksX0_count_6 21 rfl rfl)
theorem dX0_count_180 : decode cX0_count 180 = .ok (.ireturn, 1) := dk_172 (dk_at dksX0_count_6 22 rfl rfl)
theorem dX0_count_181 : decode cX0_count 181 = .ok (.aload_n 0, 1) := dk_42 (dk_at dksX0_count_6 23 rfl rfl)
theorem dX0_count_182 : decode cX0_count 182 = .ok (.getfield 10, 3) := dk_180 0 10 (dk_at dksX0_count_7 0 rfl rfl)
theorem dX0_count_185 : decode cX0_count 185 = .ok (.getfield 91, 3) := dk_180 0 91 (dk_at dksX0_count_7 3 rfl rfl)
theorem dX0_count_188 : decode cX0_count 188 = .ok (.getfield 275, 3) := dk_180 1 19 (dk_at dksX0_count_7 6 rfl rfl)
theorem dX0_count_191 : decode cX0_count 191 = .ok (.ifCond .eq 7, 3) := dk_153 0 7 (dk_at dksX0_count_7 9 rfl rfl)
theorem dX0_count_194 : decode cX0_count 194 = .ok (.iconst 1, 1) := dk_4 (dk_at dksX0_count_7 12 rfl rfl)
theorem dX0_count_195 : decode cX0_count 195 = .ok (.goto 4, 3) := dk_167 0 4 (dk_at dksX0_count_7 13 rfl rfl)
theorem dX0_count_198 : decode cX0_count 198 = .ok (.iconst 0, 1) := dk_3 (dk_at dksX0_count_7 16 rfl rfl)
theorem dX0_count_199 : decode cX0_count 199 = .ok (.ireturn, 1) := dk_172 (dk_at dksX0_count_7 17 rfl rfl)
theorem dX0_count_200 : decode cX0_count 200 = .ok (.aload_n 0, 1) := dk_42 (dk_at dksX0_count_7 18 rfl rfl)
theorem dX0_count_201 : decode cX0_count 201 = .ok (.getfield 99, 3) := dk_180 0 99 (dk_at dksX0_count_7 19 rfl rfl)
theorem dX0_count_204 : decode cX0_count 204 = .ok (.ireturn, 1) := dk_172 (dk_at dksX0_count_7 22 rfl rfl)
theorem dX0_count_205 : decode cX0_count 205 = .ok (.aload_n 0, 1) := dk_42 (dk_at dksX0_count_7 23 rfl rfl)
theorem dX0_count_206 : decode cX0_count 206 = .ok (.getfield 10, 3) := dk_180 0 10 (dk_at dksX0_count_8 0 rfl rfl)
theorem dX0_count_209 : decode cX0_count 209 = .ok (.getfield 91, 3) := dk_180 0 91 (dk_at dksX0_count_8 3 rfl rfl)
theorem dX0_count_212 : decode cX0_count 212 = .ok (.getfield 140, 3) := dk_180 0 140 (dk_at dksX0_count_8 6 rfl rfl)
theorem dX0_count_215 : decode cX0_count 215 = .ok (.ireturn, 1) := dk_172 (dk_at dksX0_count_8 9 rfl rfl)
theorem dX0_count_216 : decode cX0_count 216 = .ok (.iconst (-1), 1) := dk_2 (dk_at dksX0_count_8 10 rfl rfl)
theorem dX0_count_217 : decode cX0_count 217 = .ok (.ireturn, 1) := dk_172 (dk_at dksX0_count_8 11 rfl rfl)
theorem q129 : (Jvm.Cond.initialized "StoneYear") ∈ lw_all := lw_g (lw_at lw_m1 1 rfl) rfl
theorem q169 : (Jvm.Cond.instantiable "StoneYear" (23 : Nat)) ∈ lw_all := lw_g (lw_at lw_m1 41 rfl) rfl
theorem q171 : (Jvm.Cond.instanceMethod ({ cls := "StoneYear", name := "<init>", desc := "()V" } : Jvm.MethodName)) ∈ lw_all := lw_g (lw_at lw_m1 43 rfl) rfl
theorem q172 : (Jvm.Cond.code ({ cls := "StoneYear", name := "<init>", desc := "()V" } : Jvm.MethodName) prog_1_method_3_code (1 : Nat) (Option.none : Option Jvm.ClassFile.FieldType)) ∈ lw_all := lw_g (lw_at lw_m1 44 rfl) rfl
theorem q173 : (Jvm.Cond.methodLink "StoneYear" (1 : Nat) ({ cls := "java/lang/Object", name := "<init>", desc := "()V" } : Jvm.MethodName)) ∈ lw_all := lw_g (lw_at lw_m1 45 rfl) rfl
theorem q176 : (Jvm.Cond.classLink "StoneYear" (7 : Nat) "StoneYear$State") ∈ lw_all := lw_g (lw_at lw_m1 48 rfl) rfl
theorem q178 : (Jvm.Cond.methodLinkNest "StoneYear" (9 : Nat) ({ cls := "StoneYear$State", name := "<init>", desc := "()V" } : Jvm.MethodName) "StoneYear") ∈ lw_tbl := lw_at lw_m1 50 rfl
theorem q218 : (Jvm.Cond.fieldLinkNest "StoneYear" (201 : Nat) "StoneYear$Town" "rows" "Ljava/util/ArrayList;" "StoneYear") ∈ lw_tbl := lw_at lw_m1 90 rfl
theorem q224 : (Jvm.Cond.fieldLinkNest "StoneYear" (155 : Nat) "StoneYear$Town" "stones" "Ljava/util/ArrayList;" "StoneYear") ∈ lw_tbl := lw_at lw_m1 96 rfl
theorem q229 : (Jvm.Cond.fieldLinkNest "StoneYear" (425 : Nat) "StoneYear$Town" "musts" "Ljava/util/ArrayList;" "StoneYear") ∈ lw_tbl := lw_at lw_m1 101 rfl
theorem q233 : (Jvm.Cond.fieldLinkNest "StoneYear" (463 : Nat) "StoneYear$Town" "over" "I" "StoneYear") ∈ lw_tbl := lw_at lw_m1 105 rfl
theorem q237 : (Jvm.Cond.fieldLinkNest "StoneYear" (466 : Nat) "StoneYear$Town" "most" "I" "StoneYear") ∈ lw_tbl := lw_at lw_m1 109 rfl
theorem q238 : (Jvm.Cond.fieldLinkNest "StoneYear" (140 : Nat) "StoneYear$Town" "lines" "I" "StoneYear") ∈ lw_tbl := lw_at lw_m1 110 rfl
theorem q242 : (Jvm.Cond.fieldLinkNest "StoneYear" (469 : Nat) "StoneYear$Town" "rings" "Z" "StoneYear") ∈ lw_tbl := lw_at lw_m1 114 rfl
theorem q244 : (Jvm.Cond.fieldLinkNest "StoneYear" (275 : Nat) "StoneYear$Town" "floods" "Z" "StoneYear") ∈ lw_tbl := lw_at lw_m1 116 rfl
theorem q266 : (Jvm.Cond.fieldLinkNest "StoneYear" (91 : Nat) "StoneYear$State" "town" "LStoneYear$Town;" "StoneYear") ∈ lw_tbl := lw_at lw_m1 138 rfl
theorem q268 : (Jvm.Cond.fieldLinkNest "StoneYear" (132 : Nat) "StoneYear$State" "bars" "Ljava/util/ArrayList;" "StoneYear") ∈ lw_tbl := lw_at lw_m1 140 rfl
theorem q272 : (Jvm.Cond.fieldLinkNest "StoneYear" (147 : Nat) "StoneYear$State" "lies" "J" "StoneYear") ∈ lw_tbl := lw_at lw_m1 144 rfl
theorem q274 : (Jvm.Cond.fieldLinkNest "StoneYear" (233 : Nat) "StoneYear$State" "year" "I" "StoneYear") ∈ lw_tbl := lw_at lw_m1 146 rfl
theorem q276 : (Jvm.Cond.fieldLinkNest "StoneYear" (187 : Nat) "StoneYear$State" "carried" "[I" "StoneYear") ∈ lw_tbl := lw_at lw_m1 148 rfl
theorem q278 : (Jvm.Cond.fieldLinkNest "StoneYear" (190 : Nat) "StoneYear$State" "latest" "[I" "StoneYear") ∈ lw_tbl := lw_at lw_m1 150 rfl
theorem q294 : (Jvm.Cond.classLink "StoneYear" (28 : Nat) "StoneYear$Going") ∈ lw_all := lw_g (lw_at lw_m1 166 rfl) rfl
theorem q296 : (Jvm.Cond.methodLinkNest "StoneYear" (30 : Nat) ({ cls := "StoneYear$Going", name := "<init>", desc := "()V" } : Jvm.MethodName) "StoneYear") ∈ lw_tbl := lw_at lw_m1 168 rfl
theorem q326 : (Jvm.Cond.classLink "StoneYear" (35 : Nat) "StoneYear$Stacks") ∈ lw_all := lw_g (lw_at lw_m1 198 rfl) rfl
theorem q328 : (Jvm.Cond.methodLinkNest "StoneYear" (37 : Nat) ({ cls := "StoneYear$Stacks", name := "<init>", desc := "(LStoneYear;)V" } : Jvm.MethodName) "StoneYear") ∈ lw_tbl := lw_at lw_m1 200 rfl
theorem q333 : (Jvm.Cond.fieldLinkNest "StoneYear" (198 : Nat) "StoneYear$Stacks" "at" "[I" "StoneYear") ∈ lw_tbl := lw_at lw_m1 205 rfl
theorem q335 : (Jvm.Cond.fieldLinkNest "StoneYear" (208 : Nat) "StoneYear$Stacks" "many" "[I" "StoneYear") ∈ lw_tbl := lw_at lw_m1 207 rfl
theorem q337 : (Jvm.Cond.fieldLinkNest "StoneYear" (324 : Nat) "StoneYear$Stacks" "moved" "I" "StoneYear") ∈ lw_tbl := lw_at lw_m1 209 rfl
theorem q339 : (Jvm.Cond.fieldLinkNest "StoneYear" (358 : Nat) "StoneYear$Stacks" "without" "I" "StoneYear") ∈ lw_tbl := lw_at lw_m1 211 rfl
theorem q355 : (Jvm.Cond.classLink "StoneYear" (47 : Nat) "StoneYear$Match") ∈ lw_all := lw_g (lw_at lw_m1 227 rfl) rfl
theorem q357 : (Jvm.Cond.methodLinkNest "StoneYear" (49 : Nat) ({ cls := "StoneYear$Match", name := "<init>", desc := "(LStoneYear;)V" } : Jvm.MethodName) "StoneYear") ∈ lw_tbl := lw_at lw_m1 229 rfl
theorem q365 : (Jvm.Cond.fieldLinkNest "StoneYear" (342 : Nat) "StoneYear$Match" "to" "[I" "StoneYear") ∈ lw_tbl := lw_at lw_m1 237 rfl
theorem q368 : (Jvm.Cond.fieldLinkNest "StoneYear" (339 : Nat) "StoneYear$Match" "elsewhere" "I" "StoneYear") ∈ lw_tbl := lw_at lw_m2 0 rfl
theorem q383 : (Jvm.Cond.classLink "StoneYear" (62 : Nat) "StoneYear$Table") ∈ lw_all := lw_g (lw_at lw_m2 15 rfl) rfl
theorem q385 : (Jvm.Cond.methodLinkNest "StoneYear" (64 : Nat) ({ cls := "StoneYear$Table", name := "<init>", desc := "()V" } : Jvm.MethodName) "StoneYear") ∈ lw_tbl := lw_at lw_m2 17 rfl
theorem q391 : (Jvm.Cond.fieldLinkNest "StoneYear" (380 : Nat) "StoneYear$Table" "row" "[J" "StoneYear") ∈ lw_tbl := lw_at lw_m2 23 rfl
theorem q394 : (Jvm.Cond.fieldLinkNest "StoneYear" (378 : Nat) "StoneYear$Table" "many" "I" "StoneYear") ∈ lw_tbl := lw_at lw_m2 26 rfl
theorem q406 : (Jvm.Cond.classLink "StoneYear" (84 : Nat) "StoneYear$Numbers") ∈ lw_all := lw_g (lw_at lw_m2 38 rfl) rfl
theorem q409 : (Jvm.Cond.methodLinkNest "StoneYear" (86 : Nat) ({ cls := "StoneYear$Numbers", name := "<init>", desc := "()V" } : Jvm.MethodName) "StoneYear") ∈ lw_tbl := lw_at lw_m2 41 rfl
theorem q414 : (Jvm.Cond.fieldLinkNest "StoneYear" (310 : Nat) "StoneYear$Numbers" "held" "Ljava/lang/Object;" "StoneYear") ∈ lw_tbl := lw_at lw_m2 46 rfl
theorem q418 : (Jvm.Cond.methodLink "StoneYear" (95 : Nat) ({ cls := "StoneYear$State", name := "begins", desc := "(LStoneYear$Town;)V" } : Jvm.MethodName)) ∈ lw_all := lw_g (lw_at lw_m2 50 rfl) rfl
theorem q441 : (Jvm.Cond.fieldLink "StoneYear" (10 : Nat) "StoneYear" "s" "LStoneYear$State;") ∈ lw_all := lw_g (lw_at lw_m2 73 rfl) rfl
theorem q444 : (Jvm.Cond.fieldLink "StoneYear" (16 : Nat) "StoneYear" "images" "[LStoneYear$State;") ∈ lw_all := lw_g (lw_at lw_m2 76 rfl) rfl
theorem q446 : (Jvm.Cond.fieldLink "StoneYear" (20 : Nat) "StoneYear" "tape" "[B") ∈ lw_all := lw_g (lw_at lw_m2 78 rfl) rfl
theorem q447 : (Jvm.Cond.fieldLink "StoneYear" (99 : Nat) "StoneYear" "taped" "I") ∈ lw_all := lw_g (lw_at lw_m2 79 rfl) rfl
theorem q448 : (Jvm.Cond.fieldLink "StoneYear" (123 : Nat) "StoneYear" "faultKind" "I") ∈ lw_all := lw_g (lw_at lw_m2 80 rfl) rfl
theorem q449 : (Jvm.Cond.fieldLink "StoneYear" (24 : Nat) "StoneYear" "faultPlace" "I") ∈ lw_all := lw_g (lw_at lw_m2 81 rfl) rfl
theorem q450 : (Jvm.Cond.fieldLink "StoneYear" (31 : Nat) "StoneYear" "going" "LStoneYear$Going;") ∈ lw_all := lw_g (lw_at lw_m2 82 rfl) rfl
theorem q452 : (Jvm.Cond.fieldLink "StoneYear" (40 : Nat) "StoneYear" "here" "LStoneYear$Stacks;") ∈ lw_all := lw_g (lw_at lw_m2 84 rfl) rfl
theorem q453 : (Jvm.Cond.fieldLink "StoneYear" (44 : Nat) "StoneYear" "trial" "LStoneYear$Stacks;") ∈ lw_all := lw_g (lw_at lw_m2 85 rfl) rfl
theorem q454 : (Jvm.Cond.fieldLink "StoneYear" (259 : Nat) "StoneYear" "x" "I") ∈ lw_all := lw_g (lw_at lw_m2 86 rfl) rfl
theorem q455 : (Jvm.Cond.fieldLink "StoneYear" (50 : Nat) "StoneYear" "match" "LStoneYear$Match;") ∈ lw_all := lw_g (lw_at lw_m2 87 rfl) rfl
theorem q456 : (Jvm.Cond.fieldLink "StoneYear" (54 : Nat) "StoneYear" "order" "[I") ∈ lw_all := lw_g (lw_at lw_m2 88 rfl) rfl
theorem q457 : (Jvm.Cond.fieldLink "StoneYear" (58 : Nat) "StoneYear" "fails" "[Z") ∈ lw_all := lw_g (lw_at lw_m2 89 rfl) rfl
theorem q458 : (Jvm.Cond.fieldLink "StoneYear" (366 : Nat) "StoneYear" "ordered" "I") ∈ lw_all := lw_g (lw_at lw_m2 90 rfl) rfl
theorem q459 : (Jvm.Cond.fieldLink "StoneYear" (65 : Nat) "StoneYear" "states" "LStoneYear$Table;") ∈ lw_all := lw_g (lw_at lw_m2 91 rfl) rfl
theorem q460 : (Jvm.Cond.fieldLink "StoneYear" (69 : Nat) "StoneYear" "begun" "LStoneYear$Table;") ∈ lw_all := lw_g (lw_at lw_m2 92 rfl) rfl
theorem q461 : (Jvm.Cond.fieldLink "StoneYear" (400 : Nat) "StoneYear" "sought" "I") ∈ lw_all := lw_g (lw_at lw_m2 93 rfl) rfl
theorem q462 : (Jvm.Cond.fieldLink "StoneYear" (422 : Nat) "StoneYear" "lastSought" "I") ∈ lw_all := lw_g (lw_at lw_m2 94 rfl) rfl
theorem q463 : (Jvm.Cond.fieldLink "StoneYear" (72 : Nat) "StoneYear" "easy" "[I") ∈ lw_all := lw_g (lw_at lw_m2 95 rfl) rfl
theorem q464 : (Jvm.Cond.fieldLink "StoneYear" (75 : Nat) "StoneYear" "wants" "[I") ∈ lw_all := lw_g (lw_at lw_m2 96 rfl) rfl
theorem q465 : (Jvm.Cond.fieldLink "StoneYear" (78 : Nat) "StoneYear" "wantedBy" "[I") ∈ lw_all := lw_g (lw_at lw_m2 97 rfl) rfl
theorem q466 : (Jvm.Cond.fieldLink "StoneYear" (81 : Nat) "StoneYear" "ring" "[I") ∈ lw_all := lw_g (lw_at lw_m2 98 rfl) rfl
theorem q467 : (Jvm.Cond.fieldLink "StoneYear" (87 : Nat) "StoneYear" "rows" "[LStoneYear$Numbers;") ∈ lw_all := lw_g (lw_at lw_m2 99 rfl) rfl
theorem q468 : (Jvm.Cond.lays "StoneYear" "StoneYear" "s" "LStoneYear$State;") ∈ lw_all := lw_g (lw_at lw_m2 100 rfl) rfl
theorem q469 : (Jvm.Cond.soleField "StoneYear" "s") ∈ lw_all := lw_g (lw_at lw_m2 101 rfl) rfl
theorem q470 : (Jvm.Cond.laysFinal "StoneYear" "StoneYear" "images" "[LStoneYear$State;") ∈ lw_all := lw_g (lw_at lw_m2 102 rfl) rfl
theorem q471 : (Jvm.Cond.soleField "StoneYear" "images") ∈ lw_all := lw_g (lw_at lw_m2 103 rfl) rfl
theorem q472 : (Jvm.Cond.laysFinal "StoneYear" "StoneYear" "tape" "[B") ∈ lw_all := lw_g (lw_at lw_m2 104 rfl) rfl
theorem q473 : (Jvm.Cond.soleField "StoneYear" "tape") ∈ lw_all := lw_g (lw_at lw_m2 105 rfl) rfl
theorem q474 : (Jvm.Cond.lays "StoneYear" "StoneYear" "taped" "I") ∈ lw_all := lw_g (lw_at lw_m2 106 rfl) rfl
theorem q475 : (Jvm.Cond.soleField "StoneYear" "taped") ∈ lw_all := lw_g (lw_at lw_m2 107 rfl) rfl
theorem q476 : (Jvm.Cond.lays "StoneYear" "StoneYear" "faultKind" "I") ∈ lw_all := lw_g (lw_at lw_m2 108 rfl) rfl
theorem q477 : (Jvm.Cond.soleField "StoneYear" "faultKind") ∈ lw_all := lw_g (lw_at lw_m2 109 rfl) rfl
theorem q478 : (Jvm.Cond.lays "StoneYear" "StoneYear" "faultPlace" "I") ∈ lw_all := lw_g (lw_at lw_m2 110 rfl) rfl
theorem q479 : (Jvm.Cond.soleField "StoneYear" "faultPlace") ∈ lw_all := lw_g (lw_at lw_m2 111 rfl) rfl
theorem q480 : (Jvm.Cond.laysFinal "StoneYear" "StoneYear" "going" "LStoneYear$Going;") ∈ lw_all := lw_g (lw_at lw_m2 112 rfl) rfl
theorem q481 : (Jvm.Cond.soleField "StoneYear" "going") ∈ lw_all := lw_g (lw_at lw_m2 113 rfl) rfl
theorem q482 : (Jvm.Cond.laysFinal "StoneYear" "StoneYear" "here" "LStoneYear$Stacks;") ∈ lw_all := lw_g (lw_at lw_m2 114 rfl) rfl
theorem q483 : (Jvm.Cond.soleField "StoneYear" "here") ∈ lw_all := lw_g (lw_at lw_m2 115 rfl) rfl
theorem q484 : (Jvm.Cond.laysFinal "StoneYear" "StoneYear" "trial" "LStoneYear$Stacks;") ∈ lw_all := lw_g (lw_at lw_m2 116 rfl) rfl
theorem q485 : (Jvm.Cond.soleField "StoneYear" "trial") ∈ lw_all := lw_g (lw_at lw_m2 117 rfl) rfl
theorem q486 : (Jvm.Cond.lays "StoneYear" "StoneYear" "x" "I") ∈ lw_all := lw_g (lw_at lw_m2 118 rfl) rfl
theorem q487 : (Jvm.Cond.soleField "StoneYear" "x") ∈ lw_all := lw_g (lw_at lw_m2 119 rfl) rfl
theorem q488 : (Jvm.Cond.laysFinal "StoneYear" "StoneYear" "match" "LStoneYear$Match;") ∈ lw_all := lw_g (lw_at lw_m2 120 rfl) rfl
theorem q489 : (Jvm.Cond.soleField "StoneYear" "match") ∈ lw_all := lw_g (lw_at lw_m2 121 rfl) rfl
theorem q490 : (Jvm.Cond.laysFinal "StoneYear" "StoneYear" "order" "[I") ∈ lw_all := lw_g (lw_at lw_m2 122 rfl) rfl
theorem q491 : (Jvm.Cond.soleField "StoneYear" "order") ∈ lw_all := lw_g (lw_at lw_m2 123 rfl) rfl
theorem q492 : (Jvm.Cond.laysFinal "StoneYear" "StoneYear" "fails" "[Z") ∈ lw_all := lw_g (lw_at lw_m2 124 rfl) rfl
theorem q493 : (Jvm.Cond.soleField "StoneYear" "fails") ∈ lw_all := lw_g (lw_at lw_m2 125 rfl) rfl
theorem q494 : (Jvm.Cond.lays "StoneYear" "StoneYear" "ordered" "I") ∈ lw_all := lw_g (lw_at lw_m2 126 rfl) rfl
theorem q495 : (Jvm.Cond.soleField "StoneYear" "ordered") ∈ lw_all := lw_g (lw_at lw_m2 127 rfl) rfl
theorem q496 : (Jvm.Cond.laysFinal "StoneYear" "StoneYear" "states" "LStoneYear$Table;") ∈ lw_all := lw_g (lw_at lw_m2 128 rfl) rfl
theorem q497 : (Jvm.Cond.soleField "StoneYear" "states") ∈ lw_all := lw_g (lw_at lw_m2 129 rfl) rfl
theorem q498 : (Jvm.Cond.laysFinal "StoneYear" "StoneYear" "begun" "LStoneYear$Table;") ∈ lw_all := lw_g (lw_at lw_m2 130 rfl) rfl
theorem q499 : (Jvm.Cond.soleField "StoneYear" "begun") ∈ lw_all := lw_g (lw_at lw_m2 131 rfl) rfl
theorem q500 : (Jvm.Cond.lays "StoneYear" "StoneYear" "sought" "I") ∈ lw_all := lw_g (lw_at lw_m2 132 rfl) rfl
theorem q501 : (Jvm.Cond.soleField "StoneYear" "sought") ∈ lw_all := lw_g (lw_at lw_m2 133 rfl) rfl
theorem q502 : (Jvm.Cond.lays "StoneYear" "StoneYear" "lastSought" "I") ∈ lw_all := lw_g (lw_at lw_m2 134 rfl) rfl
theorem q503 : (Jvm.Cond.soleField "StoneYear" "lastSought") ∈ lw_all := lw_g (lw_at lw_m2 135 rfl) rfl
theorem q504 : (Jvm.Cond.laysFinal "StoneYear" "StoneYear" "easy" "[I") ∈ lw_all := lw_g (lw_at lw_m2 136 rfl) rfl
theorem q505 : (Jvm.Cond.soleField "StoneYear" "easy") ∈ lw_all := lw_g (lw_at lw_m2 137 rfl) rfl
theorem q506 : (Jvm.Cond.laysFinal "StoneYear" "StoneYear" "wants" "[I") ∈ lw_all := lw_g (lw_at lw_m2 138 rfl) rfl
theorem q507 : (Jvm.Cond.soleField "StoneYear" "wants") ∈ lw_all := lw_g (lw_at lw_m2 139 rfl) rfl
theorem q508 : (Jvm.Cond.laysFinal "StoneYear" "StoneYear" "wantedBy" "[I") ∈ lw_all := lw_g (lw_at lw_m2 140 rfl) rfl
theorem q509 : (Jvm.Cond.soleField "StoneYear" "wantedBy") ∈ lw_all := lw_g (lw_at lw_m2 141 rfl) rfl
theorem q510 : (Jvm.Cond.laysFinal "StoneYear" "StoneYear" "ring" "[I") ∈ lw_all := lw_g (lw_at lw_m2 142 rfl) rfl
theorem q511 : (Jvm.Cond.soleField "StoneYear" "ring") ∈ lw_all := lw_g (lw_at lw_m2 143 rfl) rfl
theorem q512 : (Jvm.Cond.laysFinal "StoneYear" "StoneYear" "rows" "[LStoneYear$Numbers;") ∈ lw_all := lw_g (lw_at lw_m2 144 rfl) rfl
theorem q513 : (Jvm.Cond.soleField "StoneYear" "rows") ∈ lw_all := lw_g (lw_at lw_m2 145 rfl) rfl
theorem q514 : (Jvm.Cond.superclass "StoneYear" "java/lang/Object") ∈ lw_all := lw_g (lw_at lw_m2 146 rfl) rfl
theorem q516 : (Jvm.Cond.instanceMethod ({ cls := "StoneYear", name := "feed", desc := "(IIIII)I" } : Jvm.MethodName)) ∈ lw_all := lw_g (lw_at lw_m2 148 rfl) rfl
theorem q517 : (Jvm.Cond.selects "StoneYear" ({ cls := "StoneYear", name := "feed", desc := "(IIIII)I" } : Jvm.MethodName) ({ cls := "StoneYear", name := "feed", desc := "(IIIII)I" } : Jvm.MethodName)) ∈ lw_all := lw_g (lw_at lw_m2 149 rfl) rfl
theorem q518 : (Jvm.Cond.code ({ cls := "StoneYear", name := "feed", desc := "(IIIII)I" } : Jvm.MethodName) prog_1_method_4_code (6 : Nat) (Option.some Jvm.ClassFile.FieldType.int)) ∈ lw_all := lw_g (lw_at lw_m2 150 rfl) rfl
theorem q519 : (Jvm.Cond.methodLink "StoneYear" (102 : Nat) ({ cls := "StoneYear", name := "bytes", desc := "(I)V" } : Jvm.MethodName)) ∈ lw_all := lw_g (lw_at lw_m2 151 rfl) rfl
theorem q520 : (Jvm.Cond.privateMethod ({ cls := "StoneYear", name := "bytes", desc := "(I)V" } : Jvm.MethodName)) ∈ lw_tbl := lw_at lw_m2 152 rfl
theorem q521 : (Jvm.Cond.instanceMethod ({ cls := "StoneYear", name := "bytes", desc := "(I)V" } : Jvm.MethodName)) ∈ lw_all := lw_g (lw_at lw_m2 153 rfl) rfl
theorem q522 : (Jvm.Cond.code ({ cls := "StoneYear", name := "bytes", desc := "(I)V" } : Jvm.MethodName) prog_1_method_5_code (3 : Nat) (Option.none : Option Jvm.ClassFile.FieldType)) ∈ lw_all := lw_g (lw_at lw_m2 154 rfl) rfl
theorem q524 : (Jvm.Cond.instanceMethod ({ cls := "StoneYear", name := "text", desc := "(II)I" } : Jvm.MethodName)) ∈ lw_all := lw_g (lw_at lw_m2 156 rfl) rfl
theorem q525 : (Jvm.Cond.selects "StoneYear" ({ cls := "StoneYear", name := "text", desc := "(II)I" } : Jvm.MethodName) ({ cls := "StoneYear", name := "text", desc := "(II)I" } : Jvm.MethodName)) ∈ lw_all := lw_g (lw_at lw_m2 157 rfl) rfl
theorem q526 : (Jvm.Cond.code ({ cls := "StoneYear", name := "text", desc := "(II)I" } : Jvm.MethodName) prog_1_method_6_code (4 : Nat) (Option.some Jvm.ClassFile.FieldType.int)) ∈ lw_all := lw_g (lw_at lw_m2 158 rfl) rfl
theorem q527 : (Jvm.Cond.methodLink "StoneYear" (106 : Nat) ({ cls := "StoneYear", name := "in", desc := "(JJJ)Z" } : Jvm.MethodName)) ∈ lw_all := lw_g (lw_at lw_m2 159 rfl) rfl
theorem q528 : (Jvm.Cond.static ({ cls := "StoneYear", name := "in", desc := "(JJJ)Z" } : Jvm.MethodName)) ∈ lw_all := lw_g (lw_at lw_m2 160 rfl) rfl
theorem q529 : (Jvm.Cond.code ({ cls := "StoneYear", name := "in", desc := "(JJJ)Z" } : Jvm.MethodName) prog_1_method_1_code (6 : Nat) (Option.some Jvm.ClassFile.FieldType.boolean)) ∈ lw_all := lw_g (lw_at lw_m2 161 rfl) rfl
theorem q530 : (Jvm.Cond.classLink "StoneYear" (110 : Nat) "StoneYear$Reader") ∈ lw_all := lw_g (lw_at lw_m2 162 rfl) rfl
theorem q532 : (Jvm.Cond.methodLink "StoneYear" (112 : Nat) ({ cls := "StoneYear$Reader", name := "<init>", desc := "(LStoneYear;I)V" } : Jvm.MethodName)) ∈ lw_all := lw_g (lw_at lw_m2 164 rfl) rfl
theorem q542 : (Jvm.Cond.fieldLinkNest "StoneYear" (139 : Nat) "StoneYear$Reader" "town" "LStoneYear$Town;" "StoneYear") ∈ lw_tbl := lw_at lw_m2 174 rfl
theorem q544 : (Jvm.Cond.fieldLinkNest "StoneYear" (129 : Nat) "StoneYear$Reader" "bars" "Ljava/util/ArrayList;" "StoneYear") ∈ lw_tbl := lw_at lw_m2 176 rfl
theorem q551 : (Jvm.Cond.fieldLinkNest "StoneYear" (120 : Nat) "StoneYear$Reader" "fault" "I" "StoneYear") ∈ lw_tbl := lw_at lw_m2 183 rfl
theorem q553 : (Jvm.Cond.fieldLinkNest "StoneYear" (126 : Nat) "StoneYear$Reader" "place" "I" "StoneYear") ∈ lw_tbl := lw_at lw_m2 185 rfl
theorem q578 : (Jvm.Cond.methodLink "StoneYear" (115 : Nat) ({ cls := "StoneYear$Reader", name := "town", desc := "()V" } : Jvm.MethodName)) ∈ lw_all := lw_g (lw_at lw_m2 210 rfl) rfl
theorem q687 : (Jvm.Cond.fieldLinkNest "StoneYear" (205 : Nat) "StoneYear$Row" "high" "I" "StoneYear") ∈ lw_tbl := lw_at lw_m3 79 rfl
theorem q691 : (Jvm.Cond.fieldLinkNest "StoneYear" (217 : Nat) "StoneYear$Row" "wish" "[I" "StoneYear") ∈ lw_tbl := lw_at lw_m3 83 rfl
theorem q696 : (Jvm.Cond.fieldLinkNest "StoneYear" (211 : Nat) "StoneYear$Row" "wished" "I" "StoneYear") ∈ lw_tbl := lw_at lw_m3 88 rfl
theorem q700 : (Jvm.Cond.fieldLinkNest "StoneYear" (214 : Nat) "StoneYear$Row" "whose" "I" "StoneYear") ∈ lw_tbl := lw_at lw_m3 92 rfl
theorem q748 : (Jvm.Cond.selects "StoneYear" ({ cls := "java/lang/Object", name := "getClass", desc := "()Ljava/lang/Class;" } : Jvm.MethodName) ({ cls := "java/lang/Object", name := "getClass", desc := "()Ljava/lang/Class;" } : Jvm.MethodName)) ∈ lw_all := lw_g (lw_at lw_m3 140 rfl) rfl
theorem q808 : (Jvm.Cond.fieldLinkNest "StoneYear" (176 : Nat) "StoneYear$Stone" "sort" "I" "StoneYear") ∈ lw_tbl := lw_at lw_m3 200 rfl
theorem q811 : (Jvm.Cond.fieldLinkNest "StoneYear" (179 : Nat) "StoneYear$Stone" "size" "I" "StoneYear") ∈ lw_tbl := lw_at lw_m3 203 rfl
theorem q816 : (Jvm.Cond.fieldLinkNest "StoneYear" (181 : Nat) "StoneYear$Stone" "bears" "I" "StoneYear") ∈ lw_tbl := lw_at lw_m3 208 rfl
theorem q850 : (Jvm.Cond.fieldLink "StoneYear" (440 : Nat) "StoneYear$Must" "row" "I") ∈ lw_all := lw_g (lw_at lw_m4 2 rfl) rfl
theorem q882 : (Jvm.Cond.methodLink "StoneYear" (117 : Nat) ({ cls := "StoneYear$Reader", name := "bars", desc := "()V" } : Jvm.MethodName)) ∈ lw_all := lw_g (lw_at lw_m4 34 rfl) rfl
theorem q954 : (Jvm.Cond.methodLink "StoneYear" (133 : Nat) ({ cls := "java/util/ArrayList", name := "size", desc := "()I" } : Jvm.MethodName)) ∈ lw_all := lw_g (lw_at lw_m4 106 rfl) rfl
theorem q956 : (Jvm.Cond.instanceMethod ({ cls := "StoneYear", name := "fault", desc := "(I)I" } : Jvm.MethodName)) ∈ lw_all := lw_g (lw_at lw_m4 108 rfl) rfl
theorem q957 : (Jvm.Cond.selects "StoneYear" ({ cls := "StoneYear", name := "fault", desc := "(I)I" } : Jvm.MethodName) ({ cls := "StoneYear", name := "fault", desc := "(I)I" } : Jvm.MethodName)) ∈ lw_all := lw_g (lw_at lw_m4 109 rfl) rfl
theorem q958 : (Jvm.Cond.code ({ cls := "StoneYear", name := "fault", desc := "(I)I" } : Jvm.MethodName) prog_1_method_7_code (2 : Nat) (Option.some Jvm.ClassFile.FieldType.int)) ∈ lw_all := lw_g (lw_at lw_m4 110 rfl) rfl
theorem q960 : (Jvm.Cond.instanceMethod ({ cls := "StoneYear", name := "stone", desc := "(II)I" } : Jvm.MethodName)) ∈ lw_all := lw_g (lw_at lw_m4 112 rfl) rfl
theorem q961 : (Jvm.Cond.selects "StoneYear" ({ cls := "StoneYear", name := "stone", desc := "(II)I" } : Jvm.MethodName) ({ cls := "StoneYear", name := "stone", desc := "(II)I" } : Jvm.MethodName)) ∈ lw_all := lw_g (lw_at lw_m4 113 rfl) rfl
theorem q962 : (Jvm.Cond.code ({ cls := "StoneYear", name := "stone", desc := "(II)I" } : Jvm.MethodName) prog_1_method_13_code (4 : Nat) (Option.some Jvm.ClassFile.FieldType.int)) ∈ lw_all := lw_g (lw_at lw_m4 114 rfl) rfl
theorem q963 : (Jvm.Cond.methodLink "StoneYear" (158 : Nat) ({ cls := "StoneYear", name := "isStone", desc := "(I)Z" } : Jvm.MethodName)) ∈ lw_all := lw_g (lw_at lw_m4 115 rfl) rfl
theorem q964 : (Jvm.Cond.privateMethod ({ cls := "StoneYear", name := "isStone", desc := "(I)Z" } : Jvm.MethodName)) ∈ lw_tbl := lw_at lw_m4 116 rfl
theorem q965 : (Jvm.Cond.instanceMethod ({ cls := "StoneYear", name := "isStone", desc := "(I)Z" } : Jvm.MethodName)) ∈ lw_all := lw_g (lw_at lw_m4 117 rfl) rfl
theorem q966 : (Jvm.Cond.code ({ cls := "StoneYear", name := "isStone", desc := "(I)Z" } : Jvm.MethodName) prog_1_method_10_code (2 : Nat) (Option.some Jvm.ClassFile.FieldType.boolean)) ∈ lw_all := lw_g (lw_at lw_m4 118 rfl) rfl
theorem q967 : (Jvm.Cond.constantLong "StoneYear" (168 : Nat) (6 : Int64)) ∈ lw_all := lw_g (lw_at lw_m4 119 rfl) rfl
theorem q968 : (Jvm.Cond.methodLink "StoneYear" (170 : Nat) ({ cls := "java/util/ArrayList", name := "get", desc := "(I)Ljava/lang/Object;" } : Jvm.MethodName)) ∈ lw_all := lw_g (lw_at lw_m4 120 rfl) rfl
theorem q969 : (Jvm.Cond.classLink "StoneYear" (174 : Nat) "StoneYear$Stone") ∈ lw_all := lw_g (lw_at lw_m4 121 rfl) rfl
theorem q970 : (Jvm.Cond.methodLink "StoneYear" (184 : Nat) ({ cls := "StoneYear", name := "isThere", desc := "(I)Z" } : Jvm.MethodName)) ∈ lw_all := lw_g (lw_at lw_m4 122 rfl) rfl
theorem q971 : (Jvm.Cond.privateMethod ({ cls := "StoneYear", name := "isThere", desc := "(I)Z" } : Jvm.MethodName)) ∈ lw_tbl := lw_at lw_m4 123 rfl
theorem q972 : (Jvm.Cond.instanceMethod ({ cls := "StoneYear", name := "isThere", desc := "(I)Z" } : Jvm.MethodName)) ∈ lw_all := lw_g (lw_at lw_m4 124 rfl) rfl
theorem q973 : (Jvm.Cond.code ({ cls := "StoneYear", name := "isThere", desc := "(I)Z" } : Jvm.MethodName) prog_1_method_11_code (2 : Nat) (Option.some Jvm.ClassFile.FieldType.boolean)) ∈ lw_all := lw_g (lw_at lw_m4 125 rfl) rfl
theorem q974 : (Jvm.Cond.methodLink "StoneYear" (162 : Nat) ({ cls := "StoneYear", name := "placeIn", desc := "(JI)I" } : Jvm.MethodName)) ∈ lw_all := lw_g (lw_at lw_m4 126 rfl) rfl
theorem q975 : (Jvm.Cond.static ({ cls := "StoneYear", name := "placeIn", desc := "(JI)I" } : Jvm.MethodName)) ∈ lw_all := lw_g (lw_at lw_m4 127 rfl) rfl
theorem q976 : (Jvm.Cond.code ({ cls := "StoneYear", name := "placeIn", desc := "(JI)I" } : Jvm.MethodName) prog_1_method_8_code (3 : Nat) (Option.some Jvm.ClassFile.FieldType.int)) ∈ lw_all := lw_g (lw_at lw_m4 128 rfl) rfl
theorem q977 : (Jvm.Cond.constantLong "StoneYear" (145 : Nat) (15 : Int64)) ∈ lw_all := lw_g (lw_at lw_m4 129 rfl) rfl
theorem q979 : (Jvm.Cond.instanceMethod ({ cls := "StoneYear", name := "lies", desc := "(I)I" } : Jvm.MethodName)) ∈ lw_all := lw_g (lw_at lw_m4 131 rfl) rfl
theorem q980 : (Jvm.Cond.selects "StoneYear" ({ cls := "StoneYear", name := "lies", desc := "(I)I" } : Jvm.MethodName) ({ cls := "StoneYear", name := "lies", desc := "(I)I" } : Jvm.MethodName)) ∈ lw_all := lw_g (lw_at lw_m4 132 rfl) rfl
theorem q981 : (Jvm.Cond.code ({ cls := "StoneYear", name := "lies", desc := "(I)I" } : Jvm.MethodName) prog_1_method_14_code (2 : Nat) (Option.some Jvm.ClassFile.FieldType.int)) ∈ lw_all := lw_g (lw_at lw_m4 133 rfl) rfl
theorem q982 : (Jvm.Cond.constantLong "StoneYear" (193 : Nat) (14 : Int64)) ∈ lw_all := lw_g (lw_at lw_m4 134 rfl) rfl
theorem q983 : (Jvm.Cond.methodLink "StoneYear" (195 : Nat) ({ cls := "StoneYear", name := "here", desc := "()LStoneYear$Stacks;" } : Jvm.MethodName)) ∈ lw_all := lw_g (lw_at lw_m4 135 rfl) rfl
theorem q984 : (Jvm.Cond.privateMethod ({ cls := "StoneYear", name := "here", desc := "()LStoneYear$Stacks;" } : Jvm.MethodName)) ∈ lw_tbl := lw_at lw_m4 136 rfl
theorem q985 : (Jvm.Cond.instanceMethod ({ cls := "StoneYear", name := "here", desc := "()LStoneYear$Stacks;" } : Jvm.MethodName)) ∈ lw_all := lw_g (lw_at lw_m4 137 rfl) rfl
theorem q986 : (Jvm.Cond.code ({ cls := "StoneYear", name := "here", desc := "()LStoneYear$Stacks;" } : Jvm.MethodName) prog_1_method_9_code (1 : Nat) (Option.some (Jvm.ClassFile.FieldType.object "StoneYear$Stacks"))) ∈ lw_all := lw_g (lw_at lw_m4 138 rfl) rfl
theorem q987 : (Jvm.Cond.methodLink "StoneYear" (151 : Nat) ({ cls := "StoneYear$Stacks", name := "lays", desc := "(LStoneYear$Town;J)LStoneYear$Stacks;" } : Jvm.MethodName)) ∈ lw_all := lw_g (lw_at lw_m4 139 rfl) rfl
theorem q994 : (Jvm.Cond.instanceMethod ({ cls := "StoneYear", name := "row", desc := "(II)I" } : Jvm.MethodName)) ∈ lw_all := lw_g (lw_at lw_m4 146 rfl) rfl
theorem q995 : (Jvm.Cond.selects "StoneYear" ({ cls := "StoneYear", name := "row", desc := "(II)I" } : Jvm.MethodName) ({ cls := "StoneYear", name := "row", desc := "(II)I" } : Jvm.MethodName)) ∈ lw_all := lw_g (lw_at lw_m4 147 rfl) rfl
theorem q996 : (Jvm.Cond.code ({ cls := "StoneYear", name := "row", desc := "(II)I" } : Jvm.MethodName) prog_1_method_15_code (4 : Nat) (Option.some Jvm.ClassFile.FieldType.int)) ∈ lw_all := lw_g (lw_at lw_m4 148 rfl) rfl
theorem q997 : (Jvm.Cond.classLink "StoneYear" (203 : Nat) "StoneYear$Row") ∈ lw_all := lw_g (lw_at lw_m4 149 rfl) rfl
theorem q999 : (Jvm.Cond.instanceMethod ({ cls := "StoneYear", name := "rests", desc := "(I)I" } : Jvm.MethodName)) ∈ lw_all := lw_g (lw_at lw_m4 151 rfl) rfl
theorem q1000 : (Jvm.Cond.selects "StoneYear" ({ cls := "StoneYear", name := "rests", desc := "(I)I" } : Jvm.MethodName) ({ cls := "StoneYear", name := "rests", desc := "(I)I" } : Jvm.MethodName)) ∈ lw_all := lw_g (lw_at lw_m4 152 rfl) rfl
theorem q1001 : (Jvm.Cond.code ({ cls := "StoneYear", name := "rests", desc := "(I)I" } : Jvm.MethodName) prog_1_method_17_code (2 : Nat) (Option.some Jvm.ClassFile.FieldType.int)) ∈ lw_all := lw_g (lw_at lw_m4 153 rfl) rfl
theorem q1002 : (Jvm.Cond.methodLink "StoneYear" (220 : Nat) ({ cls := "StoneYear", name := "tooMuch", desc := "()I" } : Jvm.MethodName)) ∈ lw_all := lw_g (lw_at lw_m4 154 rfl) rfl
theorem q1003 : (Jvm.Cond.privateMethod ({ cls := "StoneYear", name := "tooMuch", desc := "()I" } : Jvm.MethodName)) ∈ lw_tbl := lw_at lw_m4 155 rfl
theorem q1004 : (Jvm.Cond.instanceMethod ({ cls := "StoneYear", name := "tooMuch", desc := "()I" } : Jvm.MethodName)) ∈ lw_all := lw_g (lw_at lw_m4 156 rfl) rfl
theorem q1005 : (Jvm.Cond.code ({ cls := "StoneYear", name := "tooMuch", desc := "()I" } : Jvm.MethodName) prog_1_method_16_code (7 : Nat) (Option.some Jvm.ClassFile.FieldType.int)) ∈ lw_all := lw_g (lw_at lw_m4 157 rfl) rfl
theorem q1006 : (Jvm.Cond.methodLinkNest "StoneYear" (223 : Nat) ({ cls := "StoneYear$Stacks", name := "broken", desc := "(II)I" } : Jvm.MethodName) "StoneYear") ∈ lw_tbl := lw_at lw_m4 158 rfl
theorem q1022 : (Jvm.Cond.instanceMethod ({ cls := "StoneYear", name := "may", desc := "(II)I" } : Jvm.MethodName)) ∈ lw_all := lw_g (lw_at lw_m4 174 rfl) rfl
theorem q1023 : (Jvm.Cond.selects "StoneYear" ({ cls := "StoneYear", name := "may", desc := "(II)I" } : Jvm.MethodName) ({ cls := "StoneYear", name := "may", desc := "(II)I" } : Jvm.MethodName)) ∈ lw_all := lw_g (lw_at lw_m4 175 rfl) rfl
theorem q1024 : (Jvm.Cond.code ({ cls := "StoneYear", name := "may", desc := "(II)I" } : Jvm.MethodName) prog_1_method_18_code (3 : Nat) (Option.some Jvm.ClassFile.FieldType.int)) ∈ lw_all := lw_g (lw_at lw_m4 176 rfl) rfl
theorem q1025 : (Jvm.Cond.methodLink "StoneYear" (227 : Nat) ({ cls := "StoneYear$Stacks", name := "may", desc := "(II)I" } : Jvm.MethodName)) ∈ lw_all := lw_g (lw_at lw_m4 177 rfl) rfl
theorem q1039 : (Jvm.Cond.static ({ cls := "StoneYear", name := "has", desc := "(II)Z" } : Jvm.MethodName)) ∈ lw_all := lw_g (lw_at lw_m4 191 rfl) rfl
theorem q1040 : (Jvm.Cond.code ({ cls := "StoneYear", name := "has", desc := "(II)Z" } : Jvm.MethodName) prog_1_method_2_code (2 : Nat) (Option.some Jvm.ClassFile.FieldType.boolean)) ∈ lw_all := lw_g (lw_at lw_m4 192 rfl) rfl
theorem q1089 : (Jvm.Cond.instanceMethod ({ cls := "StoneYear", name := "mayExchange", desc := "(II)I" } : Jvm.MethodName)) ∈ lw_all := lw_g (lw_at lw_m5 1 rfl) rfl
theorem q1090 : (Jvm.Cond.selects "StoneYear" ({ cls := "StoneYear", name := "mayExchange", desc := "(II)I" } : Jvm.MethodName) ({ cls := "StoneYear", name := "mayExchange", desc := "(II)I" } : Jvm.MethodName)) ∈ lw_all := lw_g (lw_at lw_m5 2 rfl) rfl
theorem q1091 : (Jvm.Cond.code ({ cls := "StoneYear", name := "mayExchange", desc := "(II)I" } : Jvm.MethodName) prog_1_method_19_code (3 : Nat) (Option.some Jvm.ClassFile.FieldType.int)) ∈ lw_all := lw_g (lw_at lw_m5 3 rfl) rfl
theorem q1092 : (Jvm.Cond.methodLink "StoneYear" (230 : Nat) ({ cls := "StoneYear$Stacks", name := "mayExchange", desc := "(II)I" } : Jvm.MethodName)) ∈ lw_all := lw_g (lw_at lw_m5 4 rfl) rfl
theorem q1097 : (Jvm.Cond.instanceMethod ({ cls := "StoneYear", name := "carry", desc := "(II)I" } : Jvm.MethodName)) ∈ lw_all := lw_g (lw_at lw_m5 9 rfl) rfl
theorem q1098 : (Jvm.Cond.selects "StoneYear" ({ cls := "StoneYear", name := "carry", desc := "(II)I" } : Jvm.MethodName) ({ cls := "StoneYear", name := "carry", desc := "(II)I" } : Jvm.MethodName)) ∈ lw_all := lw_g (lw_at lw_m5 10 rfl) rfl
theorem q1099 : (Jvm.Cond.code ({ cls := "StoneYear", name := "carry", desc := "(II)I" } : Jvm.MethodName) prog_1_method_21_code (5 : Nat) (Option.some Jvm.ClassFile.FieldType.int)) ∈ lw_all := lw_g (lw_at lw_m5 11 rfl) rfl
theorem q1100 : (Jvm.Cond.methodLink "StoneYear" (236 : Nat) ({ cls := "StoneYear$Stacks", name := "carries", desc := "(IIZ)I" } : Jvm.MethodName)) ∈ lw_all := lw_g (lw_at lw_m5 12 rfl) rfl
theorem q1104 : (Jvm.Cond.methodLink "StoneYear" (240 : Nat) ({ cls := "StoneYear", name := "counts", desc := "(I)V" } : Jvm.MethodName)) ∈ lw_all := lw_g (lw_at lw_m5 16 rfl) rfl
theorem q1105 : (Jvm.Cond.privateMethod ({ cls := "StoneYear", name := "counts", desc := "(I)V" } : Jvm.MethodName)) ∈ lw_tbl := lw_at lw_m5 17 rfl
theorem q1106 : (Jvm.Cond.instanceMethod ({ cls := "StoneYear", name := "counts", desc := "(I)V" } : Jvm.MethodName)) ∈ lw_all := lw_g (lw_at lw_m5 18 rfl) rfl
theorem q1107 : (Jvm.Cond.code ({ cls := "StoneYear", name := "counts", desc := "(I)V" } : Jvm.MethodName) prog_1_method_20_code (2 : Nat) (Option.none : Option Jvm.ClassFile.FieldType)) ∈ lw_all := lw_g (lw_at lw_m5 19 rfl) rfl
theorem q1108 : (Jvm.Cond.methodLink "StoneYear" (243 : Nat) ({ cls := "StoneYear$Stacks", name := "lies", desc := "(J)J" } : Jvm.MethodName)) ∈ lw_all := lw_g (lw_at lw_m5 20 rfl) rfl
theorem q1113 : (Jvm.Cond.instanceMethod ({ cls := "StoneYear", name := "exchange", desc := "(II)I" } : Jvm.MethodName)) ∈ lw_all := lw_g (lw_at lw_m5 25 rfl) rfl
theorem q1114 : (Jvm.Cond.selects "StoneYear" ({ cls := "StoneYear", name := "exchange", desc := "(II)I" } : Jvm.MethodName) ({ cls := "StoneYear", name := "exchange", desc := "(II)I" } : Jvm.MethodName)) ∈ lw_all := lw_g (lw_at lw_m5 26 rfl) rfl
theorem q1115 : (Jvm.Cond.code ({ cls := "StoneYear", name := "exchange", desc := "(II)I" } : Jvm.MethodName) prog_1_method_22_code (5 : Nat) (Option.some Jvm.ClassFile.FieldType.int)) ∈ lw_all := lw_g (lw_at lw_m5 27 rfl) rfl
theorem q1116 : (Jvm.Cond.methodLink "StoneYear" (246 : Nat) ({ cls := "StoneYear$Stacks", name := "exchanges", desc := "(II)I" } : Jvm.MethodName)) ∈ lw_all := lw_g (lw_at lw_m5 28 rfl) rfl
theorem q1120 : (Jvm.Cond.methodLink "StoneYear" (249 : Nat) ({ cls := "StoneYear$Stacks", name := "top", desc := "(I)I" } : Jvm.MethodName)) ∈ lw_all := lw_g (lw_at lw_m5 32 rfl) rfl
theorem q1122 : (Jvm.Cond.instanceMethod ({ cls := "StoneYear", name := "year", desc := "()I" } : Jvm.MethodName)) ∈ lw_all := lw_g (lw_at lw_m5 34 rfl) rfl
theorem q1123 : (Jvm.Cond.selects "StoneYear" ({ cls := "StoneYear", name := "year", desc := "()I" } : Jvm.MethodName) ({ cls := "StoneYear", name := "year", desc := "()I" } : Jvm.MethodName)) ∈ lw_all := lw_g (lw_at lw_m5 35 rfl) rfl
theorem q1124 : (Jvm.Cond.code ({ cls := "StoneYear", name := "year", desc := "()I" } : Jvm.MethodName) prog_1_method_24_code (1 : Nat) (Option.some Jvm.ClassFile.FieldType.int)) ∈ lw_all := lw_g (lw_at lw_m5 36 rfl) rfl
theorem q1125 : (Jvm.Cond.methodLink "StoneYear" (255 : Nat) ({ cls := "StoneYear", name := "resting", desc := "(J)J" } : Jvm.MethodName)) ∈ lw_all := lw_g (lw_at lw_m5 37 rfl) rfl
theorem q1126 : (Jvm.Cond.static ({ cls := "StoneYear", name := "resting", desc := "(J)J" } : Jvm.MethodName)) ∈ lw_all := lw_g (lw_at lw_m5 38 rfl) rfl
theorem q1127 : (Jvm.Cond.code ({ cls := "StoneYear", name := "resting", desc := "(J)J" } : Jvm.MethodName) prog_1_method_23_code (2 : Nat) (Option.some Jvm.ClassFile.FieldType.long)) ∈ lw_all := lw_g (lw_at lw_m5 39 rfl) rfl
theorem q1128 : (Jvm.Cond.constantLong "StoneYear" (253 : Nat) (4294967295 : Int64)) ∈ lw_all := lw_g (lw_at lw_m5 40 rfl) rfl
theorem q1130 : (Jvm.Cond.instanceMethod ({ cls := "StoneYear", name := "flood", desc := "(I)I" } : Jvm.MethodName)) ∈ lw_all := lw_g (lw_at lw_m5 42 rfl) rfl
theorem q1131 : (Jvm.Cond.selects "StoneYear" ({ cls := "StoneYear", name := "flood", desc := "(I)I" } : Jvm.MethodName) ({ cls := "StoneYear", name := "flood", desc := "(I)I" } : Jvm.MethodName)) ∈ lw_all := lw_g (lw_at lw_m5 43 rfl) rfl
theorem q1132 : (Jvm.Cond.code ({ cls := "StoneYear", name := "flood", desc := "(I)I" } : Jvm.MethodName) prog_1_method_26_code (7 : Nat) (Option.some Jvm.ClassFile.FieldType.int)) ∈ lw_all := lw_g (lw_at lw_m5 44 rfl) rfl
theorem q1133 : (Jvm.Cond.methodLink "StoneYear" (262 : Nat) ({ cls := "StoneYear", name := "draw", desc := "(I)I" } : Jvm.MethodName)) ∈ lw_all := lw_g (lw_at lw_m5 45 rfl) rfl
theorem q1134 : (Jvm.Cond.privateMethod ({ cls := "StoneYear", name := "draw", desc := "(I)I" } : Jvm.MethodName)) ∈ lw_tbl := lw_at lw_m5 46 rfl
theorem q1135 : (Jvm.Cond.instanceMethod ({ cls := "StoneYear", name := "draw", desc := "(I)I" } : Jvm.MethodName)) ∈ lw_all := lw_g (lw_at lw_m5 47 rfl) rfl
theorem q1136 : (Jvm.Cond.code ({ cls := "StoneYear", name := "draw", desc := "(I)I" } : Jvm.MethodName) prog_1_method_25_code (2 : Nat) (Option.some Jvm.ClassFile.FieldType.int)) ∈ lw_all := lw_g (lw_at lw_m5 48 rfl) rfl
theorem q1137 : (Jvm.Cond.constant "StoneYear" (258 : Nat) (1103515245 : Int32)) ∈ lw_all := lw_g (lw_at lw_m5 49 rfl) rfl
theorem q1138 : (Jvm.Cond.methodLink "StoneYear" (265 : Nat) ({ cls := "StoneYear$Stacks", name := "isRow", desc := "(I)Z" } : Jvm.MethodName)) ∈ lw_all := lw_g (lw_at lw_m5 50 rfl) rfl
theorem q1139 : (Jvm.Cond.methodLink "StoneYear" (268 : Nat) ({ cls := "StoneYear$Town", name := "high", desc := "(I)I" } : Jvm.MethodName)) ∈ lw_all := lw_g (lw_at lw_m5 51 rfl) rfl
theorem q1140 : (Jvm.Cond.methodLinkNest "StoneYear" (270 : Nat) ({ cls := "StoneYear$Stacks", name := "size", desc := "(I)I" } : Jvm.MethodName) "StoneYear") ∈ lw_tbl := lw_at lw_m5 52 rfl
theorem q1141 : (Jvm.Cond.methodLinkNest "StoneYear" (272 : Nat) ({ cls := "StoneYear$Stacks", name := "bears", desc := "(III)Z" } : Jvm.MethodName) "StoneYear") ∈ lw_tbl := lw_at lw_m5 53 rfl
theorem q1143 : (Jvm.Cond.instanceMethod ({ cls := "StoneYear", name := "steal", desc := "(I)I" } : Jvm.MethodName)) ∈ lw_all := lw_g (lw_at lw_m5 55 rfl) rfl
theorem q1144 : (Jvm.Cond.selects "StoneYear" ({ cls := "StoneYear", name := "steal", desc := "(I)I" } : Jvm.MethodName) ({ cls := "StoneYear", name := "steal", desc := "(I)I" } : Jvm.MethodName)) ∈ lw_all := lw_g (lw_at lw_m5 56 rfl) rfl
theorem q1145 : (Jvm.Cond.code ({ cls := "StoneYear", name := "steal", desc := "(I)I" } : Jvm.MethodName) prog_1_method_29_code (3 : Nat) (Option.some Jvm.ClassFile.FieldType.int)) ∈ lw_all := lw_g (lw_at lw_m5 57 rfl) rfl
theorem q1146 : (Jvm.Cond.methodLink "StoneYear" (279 : Nat) ({ cls := "StoneYear", name := "isTop", desc := "(I)Z" } : Jvm.MethodName)) ∈ lw_all := lw_g (lw_at lw_m5 58 rfl) rfl
theorem q1147 : (Jvm.Cond.privateMethod ({ cls := "StoneYear", name := "isTop", desc := "(I)Z" } : Jvm.MethodName)) ∈ lw_tbl := lw_at lw_m5 59 rfl
theorem q1148 : (Jvm.Cond.instanceMethod ({ cls := "StoneYear", name := "isTop", desc := "(I)Z" } : Jvm.MethodName)) ∈ lw_all := lw_g (lw_at lw_m5 60 rfl) rfl
theorem q1149 : (Jvm.Cond.code ({ cls := "StoneYear", name := "isTop", desc := "(I)Z" } : Jvm.MethodName) prog_1_method_27_code (3 : Nat) (Option.some Jvm.ClassFile.FieldType.boolean)) ∈ lw_all := lw_g (lw_at lw_m5 61 rfl) rfl
theorem q1150 : (Jvm.Cond.methodLink "StoneYear" (282 : Nat) ({ cls := "StoneYear", name := "robbed", desc := "(JI)J" } : Jvm.MethodName)) ∈ lw_all := lw_g (lw_at lw_m5 62 rfl) rfl
theorem q1151 : (Jvm.Cond.static ({ cls := "StoneYear", name := "robbed", desc := "(JI)J" } : Jvm.MethodName)) ∈ lw_all := lw_g (lw_at lw_m5 63 rfl) rfl
theorem q1152 : (Jvm.Cond.code ({ cls := "StoneYear", name := "robbed", desc := "(JI)J" } : Jvm.MethodName) prog_1_method_28_code (3 : Nat) (Option.some Jvm.ClassFile.FieldType.long)) ∈ lw_all := lw_g (lw_at lw_m5 64 rfl) rfl
theorem q1153 : (Jvm.Cond.constantLong "StoneYear" (166 : Nat) (-1 : Int64)) ∈ lw_all := lw_g (lw_at lw_m5 65 rfl) rfl
theorem q1155 : (Jvm.Cond.instanceMethod ({ cls := "StoneYear", name := "done", desc := "(I)I" } : Jvm.MethodName)) ∈ lw_all := lw_g (lw_at lw_m5 67 rfl) rfl
theorem q1156 : (Jvm.Cond.selects "StoneYear" ({ cls := "StoneYear", name := "done", desc := "(I)I" } : Jvm.MethodName) ({ cls := "StoneYear", name := "done", desc := "(I)I" } : Jvm.MethodName)) ∈ lw_all := lw_g (lw_at lw_m5 68 rfl) rfl
theorem q1157 : (Jvm.Cond.code ({ cls := "StoneYear", name := "done", desc := "(I)I" } : Jvm.MethodName) prog_1_method_30_code (2 : Nat) (Option.some Jvm.ClassFile.FieldType.int)) ∈ lw_all := lw_g (lw_at lw_m5 69 rfl) rfl
theorem q1158 : (Jvm.Cond.methodLink "StoneYear" (286 : Nat) ({ cls := "StoneYear", name := "isWho", desc := "(I)Z" } : Jvm.MethodName)) ∈ lw_all := lw_g (lw_at lw_m5 70 rfl) rfl
theorem q1159 : (Jvm.Cond.static ({ cls := "StoneYear", name := "isWho", desc := "(I)Z" } : Jvm.MethodName)) ∈ lw_all := lw_g (lw_at lw_m5 71 rfl) rfl
theorem q1160 : (Jvm.Cond.code ({ cls := "StoneYear", name := "isWho", desc := "(I)Z" } : Jvm.MethodName) prog_1_method_12_code (1 : Nat) (Option.some Jvm.ClassFile.FieldType.boolean)) ∈ lw_all := lw_g (lw_at lw_m5 72 rfl) rfl
theorem q1161 : (Jvm.Cond.methodLink "StoneYear" (289 : Nat) ({ cls := "StoneYear$Stacks", name := "isDone", desc := "(I)Z" } : Jvm.MethodName)) ∈ lw_all := lw_g (lw_at lw_m5 73 rfl) rfl
theorem q1171 : (Jvm.Cond.instanceMethod ({ cls := "StoneYear", name := "right", desc := "(I)I" } : Jvm.MethodName)) ∈ lw_all := lw_g (lw_at lw_m5 83 rfl) rfl
theorem q1172 : (Jvm.Cond.selects "StoneYear" ({ cls := "StoneYear", name := "right", desc := "(I)I" } : Jvm.MethodName) ({ cls := "StoneYear", name := "right", desc := "(I)I" } : Jvm.MethodName)) ∈ lw_all := lw_g (lw_at lw_m5 84 rfl) rfl
theorem q1173 : (Jvm.Cond.code ({ cls := "StoneYear", name := "right", desc := "(I)I" } : Jvm.MethodName) prog_1_method_31_code (2 : Nat) (Option.some Jvm.ClassFile.FieldType.int)) ∈ lw_all := lw_g (lw_at lw_m5 85 rfl) rfl
theorem q1174 : (Jvm.Cond.methodLink "StoneYear" (292 : Nat) ({ cls := "StoneYear$Stacks", name := "right", desc := "(I)I" } : Jvm.MethodName)) ∈ lw_all := lw_g (lw_at lw_m5 86 rfl) rfl
theorem q1185 : (Jvm.Cond.instanceMethod ({ cls := "StoneYear", name := "judge", desc := "(II)I" } : Jvm.MethodName)) ∈ lw_all := lw_g (lw_at lw_m5 97 rfl) rfl
theorem q1186 : (Jvm.Cond.selects "StoneYear" ({ cls := "StoneYear", name := "judge", desc := "(II)I" } : Jvm.MethodName) ({ cls := "StoneYear", name := "judge", desc := "(II)I" } : Jvm.MethodName)) ∈ lw_all := lw_g (lw_at lw_m5 98 rfl) rfl
theorem q1187 : (Jvm.Cond.code ({ cls := "StoneYear", name := "judge", desc := "(II)I" } : Jvm.MethodName) prog_1_method_34_code (11 : Nat) (Option.some Jvm.ClassFile.FieldType.int)) ∈ lw_all := lw_g (lw_at lw_m5 99 rfl) rfl
theorem q1188 : (Jvm.Cond.methodLink "StoneYear" (305 : Nat) ({ cls := "StoneYear", name := "isNumbers", desc := "(I)Z" } : Jvm.MethodName)) ∈ lw_all := lw_g (lw_at lw_m5 100 rfl) rfl
theorem q1189 : (Jvm.Cond.static ({ cls := "StoneYear", name := "isNumbers", desc := "(I)Z" } : Jvm.MethodName)) ∈ lw_all := lw_g (lw_at lw_m5 101 rfl) rfl
theorem q1190 : (Jvm.Cond.code ({ cls := "StoneYear", name := "isNumbers", desc := "(I)Z" } : Jvm.MethodName) prog_1_method_71_code (1 : Nat) (Option.some Jvm.ClassFile.FieldType.boolean)) ∈ lw_all := lw_g (lw_at lw_m5 102 rfl) rfl
theorem q1191 : (Jvm.Cond.constantLong "StoneYear" (308 : Nat) (3 : Int64)) ∈ lw_all := lw_g (lw_at lw_m5 103 rfl) rfl
theorem q1192 : (Jvm.Cond.methodLink "StoneYear" (314 : Nat) ({ cls := "StoneYear$Numbers", name := "many", desc := "()I" } : Jvm.MethodName)) ∈ lw_all := lw_g (lw_at lw_m5 104 rfl) rfl
theorem q1200 : (Jvm.Cond.methodLink "StoneYear" (316 : Nat) ({ cls := "StoneYear$Numbers", name := "number", desc := "(I)J" } : Jvm.MethodName)) ∈ lw_all := lw_g (lw_at lw_m5 112 rfl) rfl
theorem q1204 : (Jvm.Cond.methodLink "StoneYear" (320 : Nat) ({ cls := "StoneYear", name := "whyNot", desc := "(LStoneYear$Stacks;JI)I" } : Jvm.MethodName)) ∈ lw_all := lw_g (lw_at lw_m5 116 rfl) rfl
theorem q1205 : (Jvm.Cond.static ({ cls := "StoneYear", name := "whyNot", desc := "(LStoneYear$Stacks;JI)I" } : Jvm.MethodName)) ∈ lw_all := lw_g (lw_at lw_m5 117 rfl) rfl
theorem q1206 : (Jvm.Cond.code ({ cls := "StoneYear", name := "whyNot", desc := "(LStoneYear$Stacks;JI)I" } : Jvm.MethodName) prog_1_method_33_code (7 : Nat) (Option.some Jvm.ClassFile.FieldType.int)) ∈ lw_all := lw_g (lw_at lw_m5 118 rfl) rfl
theorem q1207 : (Jvm.Cond.methodLink "StoneYear" (301 : Nat) ({ cls := "StoneYear", name := "kindOf", desc := "(J)I" } : Jvm.MethodName)) ∈ lw_all := lw_g (lw_at lw_m5 119 rfl) rfl
theorem q1208 : (Jvm.Cond.static ({ cls := "StoneYear", name := "kindOf", desc := "(J)I" } : Jvm.MethodName)) ∈ lw_all := lw_g (lw_at lw_m5 120 rfl) rfl
theorem q1209 : (Jvm.Cond.code ({ cls := "StoneYear", name := "kindOf", desc := "(J)I" } : Jvm.MethodName) prog_1_method_32_code (2 : Nat) (Option.some Jvm.ClassFile.FieldType.int)) ∈ lw_all := lw_g (lw_at lw_m5 121 rfl) rfl
theorem q1210 : (Jvm.Cond.constantLong "StoneYear" (295 : Nat) (99 : Int64)) ∈ lw_all := lw_g (lw_at lw_m5 122 rfl) rfl
theorem q1211 : (Jvm.Cond.constantLong "StoneYear" (297 : Nat) (100 : Int64)) ∈ lw_all := lw_g (lw_at lw_m5 123 rfl) rfl
theorem q1212 : (Jvm.Cond.constantLong "StoneYear" (299 : Nat) (199 : Int64)) ∈ lw_all := lw_g (lw_at lw_m5 124 rfl) rfl
theorem q1214 : (Jvm.Cond.instanceMethod ({ cls := "StoneYear", name := "perform", desc := "(I)I" } : Jvm.MethodName)) ∈ lw_all := lw_g (lw_at lw_m5 126 rfl) rfl
theorem q1215 : (Jvm.Cond.selects "StoneYear" ({ cls := "StoneYear", name := "perform", desc := "(I)I" } : Jvm.MethodName) ({ cls := "StoneYear", name := "perform", desc := "(I)I" } : Jvm.MethodName)) ∈ lw_all := lw_g (lw_at lw_m5 127 rfl) rfl
theorem q1216 : (Jvm.Cond.code ({ cls := "StoneYear", name := "perform", desc := "(I)I" } : Jvm.MethodName) prog_1_method_35_code (8 : Nat) (Option.some Jvm.ClassFile.FieldType.int)) ∈ lw_all := lw_g (lw_at lw_m5 128 rfl) rfl
theorem q1217 : (Jvm.Cond.methodLink "StoneYear" (327 : Nat) ({ cls := "StoneYear", name := "year", desc := "()I" } : Jvm.MethodName)) ∈ lw_all := lw_g (lw_at lw_m5 129 rfl) rfl
theorem q1218 : (Jvm.Cond.methodLink "StoneYear" (329 : Nat) ({ cls := "StoneYear", name := "carry", desc := "(II)I" } : Jvm.MethodName)) ∈ lw_all := lw_g (lw_at lw_m5 130 rfl) rfl
theorem q1219 : (Jvm.Cond.methodLink "StoneYear" (332 : Nat) ({ cls := "StoneYear", name := "exchange", desc := "(II)I" } : Jvm.MethodName)) ∈ lw_all := lw_g (lw_at lw_m5 131 rfl) rfl
theorem q1221 : (Jvm.Cond.instanceMethod ({ cls := "StoneYear", name := "match", desc := "(I)I" } : Jvm.MethodName)) ∈ lw_all := lw_g (lw_at lw_m5 133 rfl) rfl
theorem q1222 : (Jvm.Cond.selects "StoneYear" ({ cls := "StoneYear", name := "match", desc := "(I)I" } : Jvm.MethodName) ({ cls := "StoneYear", name := "match", desc := "(I)I" } : Jvm.MethodName)) ∈ lw_all := lw_g (lw_at lw_m5 134 rfl) rfl
theorem q1223 : (Jvm.Cond.code ({ cls := "StoneYear", name := "match", desc := "(I)I" } : Jvm.MethodName) prog_1_method_36_code (2 : Nat) (Option.some Jvm.ClassFile.FieldType.int)) ∈ lw_all := lw_g (lw_at lw_m5 135 rfl) rfl
theorem q1224 : (Jvm.Cond.methodLink "StoneYear" (335 : Nat) ({ cls := "StoneYear$Match", name := "finds", desc := "()LStoneYear$Match;" } : Jvm.MethodName)) ∈ lw_all := lw_g (lw_at lw_m5 136 rfl) rfl
theorem q1260 : (Jvm.Cond.instanceMethod ({ cls := "StoneYear", name := "once", desc := "(I)I" } : Jvm.MethodName)) ∈ lw_all := lw_g (lw_at lw_m5 172 rfl) rfl
theorem q1261 : (Jvm.Cond.selects "StoneYear" ({ cls := "StoneYear", name := "once", desc := "(I)I" } : Jvm.MethodName) ({ cls := "StoneYear", name := "once", desc := "(I)I" } : Jvm.MethodName)) ∈ lw_all := lw_g (lw_at lw_m5 173 rfl) rfl
theorem q1262 : (Jvm.Cond.code ({ cls := "StoneYear", name := "once", desc := "(I)I" } : Jvm.MethodName) prog_1_method_38_code (4 : Nat) (Option.some Jvm.ClassFile.FieldType.int)) ∈ lw_all := lw_g (lw_at lw_m5 174 rfl) rfl
theorem q1263 : (Jvm.Cond.methodLink "StoneYear" (356 : Nat) ({ cls := "StoneYear$Match", name := "going", desc := "()I" } : Jvm.MethodName)) ∈ lw_all := lw_g (lw_at lw_m5 175 rfl) rfl
theorem q1271 : (Jvm.Cond.methodLink "StoneYear" (361 : Nat) ({ cls := "java/lang/Integer", name := "bitCount", desc := "(I)I" } : Jvm.MethodName)) ∈ lw_all := lw_g (lw_at lw_m5 183 rfl) rfl
theorem q1272 : (Jvm.Cond.methodLink "StoneYear" (349 : Nat) ({ cls := "StoneYear", name := "orders", desc := "(III)Z" } : Jvm.MethodName)) ∈ lw_all := lw_g (lw_at lw_m5 184 rfl) rfl
theorem q1273 : (Jvm.Cond.privateMethod ({ cls := "StoneYear", name := "orders", desc := "(III)Z" } : Jvm.MethodName)) ∈ lw_tbl := lw_at lw_m5 185 rfl
theorem q1274 : (Jvm.Cond.instanceMethod ({ cls := "StoneYear", name := "orders", desc := "(III)Z" } : Jvm.MethodName)) ∈ lw_all := lw_g (lw_at lw_m5 186 rfl) rfl
theorem q1275 : (Jvm.Cond.code ({ cls := "StoneYear", name := "orders", desc := "(III)Z" } : Jvm.MethodName) prog_1_method_37_code (8 : Nat) (Option.some Jvm.ClassFile.FieldType.boolean)) ∈ lw_all := lw_g (lw_at lw_m5 187 rfl) rfl
theorem q1276 : (Jvm.Cond.methodLink "StoneYear" (345 : Nat) ({ cls := "StoneYear", name := "has", desc := "(II)Z" } : Jvm.MethodName)) ∈ lw_all := lw_g (lw_at lw_m5 188 rfl) rfl
theorem q1277 : (Jvm.Cond.methodLink "StoneYear" (352 : Nat) ({ cls := "StoneYear$Stacks", name := "undoes", desc := "(III)V" } : Jvm.MethodName)) ∈ lw_all := lw_g (lw_at lw_m5 189 rfl) rfl
theorem q1283 : (Jvm.Cond.instanceMethod ({ cls := "StoneYear", name := "ahead", desc := "(II)I" } : Jvm.MethodName)) ∈ lw_all := lw_g (lw_at lw_m5 195 rfl) rfl
theorem q1284 : (Jvm.Cond.selects "StoneYear" ({ cls := "StoneYear", name := "ahead", desc := "(II)I" } : Jvm.MethodName) ({ cls := "StoneYear", name := "ahead", desc := "(II)I" } : Jvm.MethodName)) ∈ lw_all := lw_g (lw_at lw_m5 196 rfl) rfl
theorem q1285 : (Jvm.Cond.code ({ cls := "StoneYear", name := "ahead", desc := "(II)I" } : Jvm.MethodName) prog_1_method_40_code (3 : Nat) (Option.some Jvm.ClassFile.FieldType.int)) ∈ lw_all := lw_g (lw_at lw_m5 197 rfl) rfl
theorem q1286 : (Jvm.Cond.methodLink "StoneYear" (372 : Nat) ({ cls := "StoneYear", name := "isAhead", desc := "(II)Z" } : Jvm.MethodName)) ∈ lw_all := lw_g (lw_at lw_m5 198 rfl) rfl
theorem q1287 : (Jvm.Cond.privateMethod ({ cls := "StoneYear", name := "isAhead", desc := "(II)Z" } : Jvm.MethodName)) ∈ lw_tbl := lw_at lw_m5 199 rfl
theorem q1288 : (Jvm.Cond.instanceMethod ({ cls := "StoneYear", name := "isAhead", desc := "(II)Z" } : Jvm.MethodName)) ∈ lw_all := lw_g (lw_at lw_m5 200 rfl) rfl
theorem q1289 : (Jvm.Cond.code ({ cls := "StoneYear", name := "isAhead", desc := "(II)Z" } : Jvm.MethodName) prog_1_method_39_code (7 : Nat) (Option.some Jvm.ClassFile.FieldType.boolean)) ∈ lw_all := lw_g (lw_at lw_m5 201 rfl) rfl
theorem q1290 : (Jvm.Cond.methodLink "StoneYear" (369 : Nat) ({ cls := "StoneYear$Match", name := "goes", desc := "(I)Z" } : Jvm.MethodName)) ∈ lw_all := lw_g (lw_at lw_m5 202 rfl) rfl
theorem q1292 : (Jvm.Cond.instanceMethod ({ cls := "StoneYear", name := "aside", desc := "(I)I" } : Jvm.MethodName)) ∈ lw_all := lw_g (lw_at lw_m5 204 rfl) rfl
theorem q1293 : (Jvm.Cond.selects "StoneYear" ({ cls := "StoneYear", name := "aside", desc := "(I)I" } : Jvm.MethodName) ({ cls := "StoneYear", name := "aside", desc := "(I)I" } : Jvm.MethodName)) ∈ lw_all := lw_g (lw_at lw_m5 205 rfl) rfl
theorem q1294 : (Jvm.Cond.code ({ cls := "StoneYear", name := "aside", desc := "(I)I" } : Jvm.MethodName) prog_1_method_42_code (5 : Nat) (Option.some Jvm.ClassFile.FieldType.int)) ∈ lw_all := lw_g (lw_at lw_m5 206 rfl) rfl
theorem q1295 : (Jvm.Cond.methodLink "StoneYear" (375 : Nat) ({ cls := "StoneYear", name := "isLoose", desc := "(I)Z" } : Jvm.MethodName)) ∈ lw_all := lw_g (lw_at lw_m5 207 rfl) rfl
theorem q1296 : (Jvm.Cond.privateMethod ({ cls := "StoneYear", name := "isLoose", desc := "(I)Z" } : Jvm.MethodName)) ∈ lw_tbl := lw_at lw_m5 208 rfl
theorem q1297 : (Jvm.Cond.instanceMethod ({ cls := "StoneYear", name := "isLoose", desc := "(I)Z" } : Jvm.MethodName)) ∈ lw_all := lw_g (lw_at lw_m5 209 rfl) rfl
theorem q1298 : (Jvm.Cond.code ({ cls := "StoneYear", name := "isLoose", desc := "(I)Z" } : Jvm.MethodName) prog_1_method_41_code (7 : Nat) (Option.some Jvm.ClassFile.FieldType.boolean)) ∈ lw_all := lw_g (lw_at lw_m5 210 rfl) rfl
theorem q1300 : (Jvm.Cond.instanceMethod ({ cls := "StoneYear", name := "years", desc := "(I)I" } : Jvm.MethodName)) ∈ lw_all := lw_g (lw_at lw_m5 212 rfl) rfl
theorem q1301 : (Jvm.Cond.selects "StoneYear" ({ cls := "StoneYear", name := "years", desc := "(I)I" } : Jvm.MethodName) ({ cls := "StoneYear", name := "years", desc := "(I)I" } : Jvm.MethodName)) ∈ lw_all := lw_g (lw_at lw_m5 213 rfl) rfl
theorem q1302 : (Jvm.Cond.code ({ cls := "StoneYear", name := "years", desc := "(I)I" } : Jvm.MethodName) prog_1_method_50_code (3 : Nat) (Option.some Jvm.ClassFile.FieldType.int)) ∈ lw_all := lw_g (lw_at lw_m5 214 rfl) rfl
theorem q1303 : (Jvm.Cond.methodLink "StoneYear" (418 : Nat) ({ cls := "StoneYear", name := "seeks", desc := "(LStoneYear$Town;JII)I" } : Jvm.MethodName)) ∈ lw_all := lw_g (lw_at lw_m5 215 rfl) rfl
theorem q1304 : (Jvm.Cond.privateMethod ({ cls := "StoneYear", name := "seeks", desc := "(LStoneYear$Town;JII)I" } : Jvm.MethodName)) ∈ lw_tbl := lw_at lw_m5 216 rfl
theorem q1305 : (Jvm.Cond.instanceMethod ({ cls := "StoneYear", name := "seeks", desc := "(LStoneYear$Town;JII)I" } : Jvm.MethodName)) ∈ lw_all := lw_g (lw_at lw_m5 217 rfl) rfl
theorem q1306 : (Jvm.Cond.code ({ cls := "StoneYear", name := "seeks", desc := "(LStoneYear$Town;JII)I" } : Jvm.MethodName) prog_1_method_49_code (8 : Nat) (Option.some Jvm.ClassFile.FieldType.int)) ∈ lw_all := lw_g (lw_at lw_m5 218 rfl) rfl
theorem q1307 : (Jvm.Cond.methodLink "StoneYear" (403 : Nat) ({ cls := "StoneYear", name := "opens", desc := "(J)V" } : Jvm.MethodName)) ∈ lw_all := lw_g (lw_at lw_m5 219 rfl) rfl
theorem q1308 : (Jvm.Cond.privateMethod ({ cls := "StoneYear", name := "opens", desc := "(J)V" } : Jvm.MethodName)) ∈ lw_tbl := lw_at lw_m5 220 rfl
theorem q1309 : (Jvm.Cond.instanceMethod ({ cls := "StoneYear", name := "opens", desc := "(J)V" } : Jvm.MethodName)) ∈ lw_all := lw_g (lw_at lw_m5 221 rfl) rfl
theorem q1310 : (Jvm.Cond.code ({ cls := "StoneYear", name := "opens", desc := "(J)V" } : Jvm.MethodName) prog_1_method_48_code (3 : Nat) (Option.none : Option Jvm.ClassFile.FieldType)) ∈ lw_all := lw_g (lw_at lw_m5 222 rfl) rfl
theorem q1311 : (Jvm.Cond.methodLink "StoneYear" (397 : Nat) ({ cls := "StoneYear$Table", name := "clears", desc := "()V" } : Jvm.MethodName)) ∈ lw_all := lw_g (lw_at lw_m5 223 rfl) rfl
theorem q1315 : (Jvm.Cond.methodLink "StoneYear" (391 : Nat) ({ cls := "StoneYear$Table", name := "adds", desc := "(J)Z" } : Jvm.MethodName)) ∈ lw_all := lw_g (lw_at lw_m5 227 rfl) rfl
theorem q1324 : (Jvm.Cond.methodLink "StoneYear" (407 : Nat) ({ cls := "StoneYear", name := "closes", desc := "(LStoneYear$Town;IZ)Z" } : Jvm.MethodName)) ∈ lw_all := lw_g (lw_at lw_m5 236 rfl) rfl
theorem q1325 : (Jvm.Cond.privateMethod ({ cls := "StoneYear", name := "closes", desc := "(LStoneYear$Town;IZ)Z" } : Jvm.MethodName)) ∈ lw_tbl := lw_at lw_m5 237 rfl
theorem q1326 : (Jvm.Cond.instanceMethod ({ cls := "StoneYear", name := "closes", desc := "(LStoneYear$Town;IZ)Z" } : Jvm.MethodName)) ∈ lw_all := lw_g (lw_at lw_m5 238 rfl) rfl
theorem q1327 : (Jvm.Cond.code ({ cls := "StoneYear", name := "closes", desc := "(LStoneYear$Town;IZ)Z" } : Jvm.MethodName) prog_1_method_43_code (9 : Nat) (Option.some Jvm.ClassFile.FieldType.boolean)) ∈ lw_all := lw_g (lw_at lw_m5 239 rfl) rfl
theorem q1328 : (Jvm.Cond.methodLink "StoneYear" (384 : Nat) ({ cls := "StoneYear", name := "to", desc := "(JII)J" } : Jvm.MethodName)) ∈ lw_all := lw_g (lw_at lw_m6 0 rfl) rfl
theorem q1329 : (Jvm.Cond.static ({ cls := "StoneYear", name := "to", desc := "(JII)J" } : Jvm.MethodName)) ∈ lw_all := lw_g (lw_at lw_m6 1 rfl) rfl
theorem q1330 : (Jvm.Cond.code ({ cls := "StoneYear", name := "to", desc := "(JII)J" } : Jvm.MethodName) prog_1_method_44_code (4 : Nat) (Option.some Jvm.ClassFile.FieldType.long)) ∈ lw_all := lw_g (lw_at lw_m6 2 rfl) rfl
theorem q1331 : (Jvm.Cond.methodLink "StoneYear" (387 : Nat) ({ cls := "StoneYear", name := "comes", desc := "(JZ)V" } : Jvm.MethodName)) ∈ lw_all := lw_g (lw_at lw_m6 3 rfl) rfl
theorem q1332 : (Jvm.Cond.privateMethod ({ cls := "StoneYear", name := "comes", desc := "(JZ)V" } : Jvm.MethodName)) ∈ lw_tbl := lw_at lw_m6 4 rfl
theorem q1333 : (Jvm.Cond.instanceMethod ({ cls := "StoneYear", name := "comes", desc := "(JZ)V" } : Jvm.MethodName)) ∈ lw_all := lw_g (lw_at lw_m6 5 rfl) rfl
theorem q1334 : (Jvm.Cond.code ({ cls := "StoneYear", name := "comes", desc := "(JZ)V" } : Jvm.MethodName) prog_1_method_45_code (4 : Nat) (Option.none : Option Jvm.ClassFile.FieldType)) ∈ lw_all := lw_g (lw_at lw_m6 6 rfl) rfl
theorem q1335 : (Jvm.Cond.methodLink "StoneYear" (411 : Nat) ({ cls := "StoneYear", name := "isAnyDone", desc := "(LStoneYear$Town;I)Z" } : Jvm.MethodName)) ∈ lw_all := lw_g (lw_at lw_m6 7 rfl) rfl
theorem q1336 : (Jvm.Cond.privateMethod ({ cls := "StoneYear", name := "isAnyDone", desc := "(LStoneYear$Town;I)Z" } : Jvm.MethodName)) ∈ lw_tbl := lw_at lw_m6 8 rfl
theorem q1337 : (Jvm.Cond.instanceMethod ({ cls := "StoneYear", name := "isAnyDone", desc := "(LStoneYear$Town;I)Z" } : Jvm.MethodName)) ∈ lw_all := lw_g (lw_at lw_m6 9 rfl) rfl
theorem q1338 : (Jvm.Cond.code ({ cls := "StoneYear", name := "isAnyDone", desc := "(LStoneYear$Town;I)Z" } : Jvm.MethodName) prog_1_method_46_code (4 : Nat) (Option.some Jvm.ClassFile.FieldType.boolean)) ∈ lw_all := lw_g (lw_at lw_m6 10 rfl) rfl
theorem q1339 : (Jvm.Cond.methodLink "StoneYear" (415 : Nat) ({ cls := "StoneYear", name := "begins", desc := "()Z" } : Jvm.MethodName)) ∈ lw_all := lw_g (lw_at lw_m6 11 rfl) rfl
theorem q1340 : (Jvm.Cond.privateMethod ({ cls := "StoneYear", name := "begins", desc := "()Z" } : Jvm.MethodName)) ∈ lw_tbl := lw_at lw_m6 12 rfl
theorem q1341 : (Jvm.Cond.instanceMethod ({ cls := "StoneYear", name := "begins", desc := "()Z" } : Jvm.MethodName)) ∈ lw_all := lw_g (lw_at lw_m6 13 rfl) rfl
theorem q1342 : (Jvm.Cond.code ({ cls := "StoneYear", name := "begins", desc := "()Z" } : Jvm.MethodName) prog_1_method_47_code (5 : Nat) (Option.some Jvm.ClassFile.FieldType.boolean)) ∈ lw_all := lw_g (lw_at lw_m6 14 rfl) rfl
theorem q1343 : (Jvm.Cond.methodLink "StoneYear" (395 : Nat) ({ cls := "StoneYear$Table", name := "has", desc := "(J)Z" } : Jvm.MethodName)) ∈ lw_all := lw_g (lw_at lw_m6 15 rfl) rfl
theorem q1348 : (Jvm.Cond.instanceMethod ({ cls := "StoneYear", name := "states", desc := "()I" } : Jvm.MethodName)) ∈ lw_all := lw_g (lw_at lw_m6 20 rfl) rfl
theorem q1349 : (Jvm.Cond.selects "StoneYear" ({ cls := "StoneYear", name := "states", desc := "()I" } : Jvm.MethodName) ({ cls := "StoneYear", name := "states", desc := "()I" } : Jvm.MethodName)) ∈ lw_all := lw_g (lw_at lw_m6 21 rfl) rfl
theorem q1350 : (Jvm.Cond.code ({ cls := "StoneYear", name := "states", desc := "()I" } : Jvm.MethodName) prog_1_method_51_code (1 : Nat) (Option.some Jvm.ClassFile.FieldType.int)) ∈ lw_all := lw_g (lw_at lw_m6 22 rfl) rfl
theorem q1352 : (Jvm.Cond.instanceMethod ({ cls := "StoneYear", name := "after", desc := "(II)I" } : Jvm.MethodName)) ∈ lw_all := lw_g (lw_at lw_m6 24 rfl) rfl
theorem q1353 : (Jvm.Cond.selects "StoneYear" ({ cls := "StoneYear", name := "after", desc := "(II)I" } : Jvm.MethodName) ({ cls := "StoneYear", name := "after", desc := "(II)I" } : Jvm.MethodName)) ∈ lw_all := lw_g (lw_at lw_m6 25 rfl) rfl
theorem q1354 : (Jvm.Cond.code ({ cls := "StoneYear", name := "after", desc := "(II)I" } : Jvm.MethodName) prog_1_method_52_code (3 : Nat) (Option.some Jvm.ClassFile.FieldType.int)) ∈ lw_all := lw_g (lw_at lw_m6 26 rfl) rfl
theorem q1356 : (Jvm.Cond.instanceMethod ({ cls := "StoneYear", name := "without", desc := "(I)I" } : Jvm.MethodName)) ∈ lw_all := lw_g (lw_at lw_m6 28 rfl) rfl
theorem q1357 : (Jvm.Cond.selects "StoneYear" ({ cls := "StoneYear", name := "without", desc := "(I)I" } : Jvm.MethodName) ({ cls := "StoneYear", name := "without", desc := "(I)I" } : Jvm.MethodName)) ∈ lw_all := lw_g (lw_at lw_m6 29 rfl) rfl
theorem q1358 : (Jvm.Cond.code ({ cls := "StoneYear", name := "without", desc := "(I)I" } : Jvm.MethodName) prog_1_method_53_code (2 : Nat) (Option.some Jvm.ClassFile.FieldType.int)) ∈ lw_all := lw_g (lw_at lw_m6 30 rfl) rfl
theorem q1360 : (Jvm.Cond.instanceMethod ({ cls := "StoneYear", name := "missing", desc := "(I)I" } : Jvm.MethodName)) ∈ lw_all := lw_g (lw_at lw_m6 32 rfl) rfl
theorem q1361 : (Jvm.Cond.selects "StoneYear" ({ cls := "StoneYear", name := "missing", desc := "(I)I" } : Jvm.MethodName) ({ cls := "StoneYear", name := "missing", desc := "(I)I" } : Jvm.MethodName)) ∈ lw_all := lw_g (lw_at lw_m6 33 rfl) rfl
theorem q1362 : (Jvm.Cond.code ({ cls := "StoneYear", name := "missing", desc := "(I)I" } : Jvm.MethodName) prog_1_method_54_code (2 : Nat) (Option.some Jvm.ClassFile.FieldType.int)) ∈ lw_all := lw_g (lw_at lw_m6 34 rfl) rfl
theorem q1364 : (Jvm.Cond.instanceMethod ({ cls := "StoneYear", name := "winters", desc := "(I)I" } : Jvm.MethodName)) ∈ lw_all := lw_g (lw_at lw_m6 36 rfl) rfl
theorem q1365 : (Jvm.Cond.selects "StoneYear" ({ cls := "StoneYear", name := "winters", desc := "(I)I" } : Jvm.MethodName) ({ cls := "StoneYear", name := "winters", desc := "(I)I" } : Jvm.MethodName)) ∈ lw_all := lw_g (lw_at lw_m6 37 rfl) rfl
theorem q1366 : (Jvm.Cond.code ({ cls := "StoneYear", name := "winters", desc := "(I)I" } : Jvm.MethodName) prog_1_method_55_code (6 : Nat) (Option.some Jvm.ClassFile.FieldType.int)) ∈ lw_all := lw_g (lw_at lw_m6 38 rfl) rfl
theorem q1367 : (Jvm.Cond.methodLink "StoneYear" (428 : Nat) ({ cls := "java/lang/Math", name := "max", desc := "(II)I" } : Jvm.MethodName)) ∈ lw_all := lw_g (lw_at lw_m6 39 rfl) rfl
theorem q1369 : (Jvm.Cond.instanceMethod ({ cls := "StoneYear", name := "can", desc := "(I)I" } : Jvm.MethodName)) ∈ lw_all := lw_g (lw_at lw_m6 41 rfl) rfl
theorem q1370 : (Jvm.Cond.selects "StoneYear" ({ cls := "StoneYear", name := "can", desc := "(I)I" } : Jvm.MethodName) ({ cls := "StoneYear", name := "can", desc := "(I)I" } : Jvm.MethodName)) ∈ lw_all := lw_g (lw_at lw_m6 42 rfl) rfl
theorem q1371 : (Jvm.Cond.code ({ cls := "StoneYear", name := "can", desc := "(I)I" } : Jvm.MethodName) prog_1_method_57_code (2 : Nat) (Option.some Jvm.ClassFile.FieldType.int)) ∈ lw_all := lw_g (lw_at lw_m6 43 rfl) rfl
theorem q1372 : (Jvm.Cond.methodLink "StoneYear" (433 : Nat) ({ cls := "StoneYear", name := "canBe", desc := "(I)I" } : Jvm.MethodName)) ∈ lw_all := lw_g (lw_at lw_m6 44 rfl) rfl
theorem q1373 : (Jvm.Cond.privateMethod ({ cls := "StoneYear", name := "canBe", desc := "(I)I" } : Jvm.MethodName)) ∈ lw_tbl := lw_at lw_m6 45 rfl
theorem q1374 : (Jvm.Cond.instanceMethod ({ cls := "StoneYear", name := "canBe", desc := "(I)I" } : Jvm.MethodName)) ∈ lw_all := lw_g (lw_at lw_m6 46 rfl) rfl
theorem q1375 : (Jvm.Cond.code ({ cls := "StoneYear", name := "canBe", desc := "(I)I" } : Jvm.MethodName) prog_1_method_56_code (2 : Nat) (Option.some Jvm.ClassFile.FieldType.int)) ∈ lw_all := lw_g (lw_at lw_m6 47 rfl) rfl
theorem q1377 : (Jvm.Cond.instanceMethod ({ cls := "StoneYear", name := "why", desc := "(I)I" } : Jvm.MethodName)) ∈ lw_all := lw_g (lw_at lw_m6 49 rfl) rfl
theorem q1378 : (Jvm.Cond.selects "StoneYear" ({ cls := "StoneYear", name := "why", desc := "(I)I" } : Jvm.MethodName) ({ cls := "StoneYear", name := "why", desc := "(I)I" } : Jvm.MethodName)) ∈ lw_all := lw_g (lw_at lw_m6 50 rfl) rfl
theorem q1379 : (Jvm.Cond.code ({ cls := "StoneYear", name := "why", desc := "(I)I" } : Jvm.MethodName) prog_1_method_60_code (3 : Nat) (Option.some Jvm.ClassFile.FieldType.int)) ∈ lw_all := lw_g (lw_at lw_m6 51 rfl) rfl
theorem q1380 : (Jvm.Cond.methodLink "StoneYear" (448 : Nat) ({ cls := "StoneYear", name := "isLacking", desc := "(I)Z" } : Jvm.MethodName)) ∈ lw_all := lw_g (lw_at lw_m6 52 rfl) rfl
theorem q1381 : (Jvm.Cond.privateMethod ({ cls := "StoneYear", name := "isLacking", desc := "(I)Z" } : Jvm.MethodName)) ∈ lw_tbl := lw_at lw_m6 53 rfl
theorem q1382 : (Jvm.Cond.instanceMethod ({ cls := "StoneYear", name := "isLacking", desc := "(I)Z" } : Jvm.MethodName)) ∈ lw_all := lw_g (lw_at lw_m6 54 rfl) rfl
theorem q1383 : (Jvm.Cond.code ({ cls := "StoneYear", name := "isLacking", desc := "(I)Z" } : Jvm.MethodName) prog_1_method_58_code (5 : Nat) (Option.some Jvm.ClassFile.FieldType.boolean)) ∈ lw_all := lw_g (lw_at lw_m6 55 rfl) rfl
theorem q1384 : (Jvm.Cond.methodLink "StoneYear" (436 : Nat) ({ cls := "StoneYear$Town", name := "wished", desc := "(II)I" } : Jvm.MethodName)) ∈ lw_all := lw_g (lw_at lw_m6 56 rfl) rfl
theorem q1385 : (Jvm.Cond.methodLink "StoneYear" (451 : Nat) ({ cls := "StoneYear", name := "isAgainst", desc := "(I)Z" } : Jvm.MethodName)) ∈ lw_all := lw_g (lw_at lw_m6 57 rfl) rfl
theorem q1386 : (Jvm.Cond.privateMethod ({ cls := "StoneYear", name := "isAgainst", desc := "(I)Z" } : Jvm.MethodName)) ∈ lw_tbl := lw_at lw_m6 58 rfl
theorem q1387 : (Jvm.Cond.instanceMethod ({ cls := "StoneYear", name := "isAgainst", desc := "(I)Z" } : Jvm.MethodName)) ∈ lw_all := lw_g (lw_at lw_m6 59 rfl) rfl
theorem q1388 : (Jvm.Cond.code ({ cls := "StoneYear", name := "isAgainst", desc := "(I)Z" } : Jvm.MethodName) prog_1_method_59_code (5 : Nat) (Option.some Jvm.ClassFile.FieldType.boolean)) ∈ lw_all := lw_g (lw_at lw_m6 60 rfl) rfl
theorem q1389 : (Jvm.Cond.classLink "StoneYear" (438 : Nat) "StoneYear$Must") ∈ lw_all := lw_g (lw_at lw_m6 61 rfl) rfl
theorem q1390 : (Jvm.Cond.methodLink "StoneYear" (442 : Nat) ({ cls := "StoneYear$Row", name := "isAsked", desc := "(I)Z" } : Jvm.MethodName)) ∈ lw_all := lw_g (lw_at lw_m6 62 rfl) rfl
theorem q1391 : (Jvm.Cond.methodLink "StoneYear" (445 : Nat) ({ cls := "StoneYear$Must", name := "isKept", desc := "(I)Z" } : Jvm.MethodName)) ∈ lw_all := lw_g (lw_at lw_m6 63 rfl) rfl
theorem q1393 : (Jvm.Cond.instanceMethod ({ cls := "StoneYear", name := "easier", desc := "(I)I" } : Jvm.MethodName)) ∈ lw_all := lw_g (lw_at lw_m6 65 rfl) rfl
theorem q1394 : (Jvm.Cond.selects "StoneYear" ({ cls := "StoneYear", name := "easier", desc := "(I)I" } : Jvm.MethodName) ({ cls := "StoneYear", name := "easier", desc := "(I)I" } : Jvm.MethodName)) ∈ lw_all := lw_g (lw_at lw_m6 66 rfl) rfl
theorem q1395 : (Jvm.Cond.code ({ cls := "StoneYear", name := "easier", desc := "(I)I" } : Jvm.MethodName) prog_1_method_63_code (5 : Nat) (Option.some Jvm.ClassFile.FieldType.int)) ∈ lw_all := lw_g (lw_at lw_m6 67 rfl) rfl
theorem q1396 : (Jvm.Cond.constantLong "StoneYear" (472 : Nat) (2 : Int64)) ∈ lw_all := lw_g (lw_at lw_m6 68 rfl) rfl
theorem q1397 : (Jvm.Cond.methodLink "StoneYear" (474 : Nat) ({ cls := "StoneYear", name := "isExchange", desc := "(II)Z" } : Jvm.MethodName)) ∈ lw_all := lw_g (lw_at lw_m6 69 rfl) rfl
theorem q1398 : (Jvm.Cond.privateMethod ({ cls := "StoneYear", name := "isExchange", desc := "(II)Z" } : Jvm.MethodName)) ∈ lw_tbl := lw_at lw_m6 70 rfl
theorem q1399 : (Jvm.Cond.instanceMethod ({ cls := "StoneYear", name := "isExchange", desc := "(II)Z" } : Jvm.MethodName)) ∈ lw_all := lw_g (lw_at lw_m6 71 rfl) rfl
theorem q1400 : (Jvm.Cond.code ({ cls := "StoneYear", name := "isExchange", desc := "(II)Z" } : Jvm.MethodName) prog_1_method_62_code (5 : Nat) (Option.some Jvm.ClassFile.FieldType.boolean)) ∈ lw_all := lw_g (lw_at lw_m6 72 rfl) rfl
theorem q1401 : (Jvm.Cond.methodLink "StoneYear" (477 : Nat) ({ cls := "StoneYear", name := "eases", desc := "(II)V" } : Jvm.MethodName)) ∈ lw_all := lw_g (lw_at lw_m6 73 rfl) rfl
theorem q1402 : (Jvm.Cond.privateMethod ({ cls := "StoneYear", name := "eases", desc := "(II)V" } : Jvm.MethodName)) ∈ lw_tbl := lw_at lw_m6 74 rfl
theorem q1403 : (Jvm.Cond.instanceMethod ({ cls := "StoneYear", name := "eases", desc := "(II)V" } : Jvm.MethodName)) ∈ lw_all := lw_g (lw_at lw_m6 75 rfl) rfl
theorem q1404 : (Jvm.Cond.code ({ cls := "StoneYear", name := "eases", desc := "(II)V" } : Jvm.MethodName) prog_1_method_64_code (4 : Nat) (Option.none : Option Jvm.ClassFile.FieldType)) ∈ lw_all := lw_g (lw_at lw_m6 76 rfl) rfl
theorem q1405 : (Jvm.Cond.methodLink "StoneYear" (481 : Nat) ({ cls := "StoneYear", name := "exchanged", desc := "(II)LStoneYear$Town;" } : Jvm.MethodName)) ∈ lw_all := lw_g (lw_at lw_m6 77 rfl) rfl
theorem q1406 : (Jvm.Cond.privateMethod ({ cls := "StoneYear", name := "exchanged", desc := "(II)LStoneYear$Town;" } : Jvm.MethodName)) ∈ lw_tbl := lw_at lw_m6 78 rfl
theorem q1407 : (Jvm.Cond.instanceMethod ({ cls := "StoneYear", name := "exchanged", desc := "(II)LStoneYear$Town;" } : Jvm.MethodName)) ∈ lw_all := lw_g (lw_at lw_m6 79 rfl) rfl
theorem q1408 : (Jvm.Cond.code ({ cls := "StoneYear", name := "exchanged", desc := "(II)LStoneYear$Town;" } : Jvm.MethodName) prog_1_method_61_code (5 : Nat) (Option.some (Jvm.ClassFile.FieldType.object "StoneYear$Town"))) ∈ lw_all := lw_g (lw_at lw_m6 80 rfl) rfl
theorem q1409 : (Jvm.Cond.classLink "StoneYear" (141 : Nat) "StoneYear$Town") ∈ lw_all := lw_g (lw_at lw_m6 81 rfl) rfl
theorem q1410 : (Jvm.Cond.methodLinkNest "StoneYear" (454 : Nat) ({ cls := "StoneYear$Town", name := "<init>", desc := "()V" } : Jvm.MethodName) "StoneYear") ∈ lw_tbl := lw_at lw_m6 82 rfl
theorem q1411 : (Jvm.Cond.methodLink "StoneYear" (455 : Nat) ({ cls := "StoneYear$Row", name := "copy", desc := "()LStoneYear$Row;" } : Jvm.MethodName)) ∈ lw_all := lw_g (lw_at lw_m6 83 rfl) rfl
theorem q1417 : (Jvm.Cond.methodLink "StoneYear" (459 : Nat) ({ cls := "java/util/ArrayList", name := "add", desc := "(Ljava/lang/Object;)Z" } : Jvm.MethodName)) ∈ lw_all := lw_g (lw_at lw_m6 89 rfl) rfl
theorem q1419 : (Jvm.Cond.instanceMethod ({ cls := "StoneYear", name := "wall", desc := "(II)I" } : Jvm.MethodName)) ∈ lw_all := lw_g (lw_at lw_m6 91 rfl) rfl
theorem q1420 : (Jvm.Cond.selects "StoneYear" ({ cls := "StoneYear", name := "wall", desc := "(II)I" } : Jvm.MethodName) ({ cls := "StoneYear", name := "wall", desc := "(II)I" } : Jvm.MethodName)) ∈ lw_all := lw_g (lw_at lw_m6 92 rfl) rfl
theorem q1421 : (Jvm.Cond.code ({ cls := "StoneYear", name := "wall", desc := "(II)I" } : Jvm.MethodName) prog_1_method_67_code (4 : Nat) (Option.some Jvm.ClassFile.FieldType.int)) ∈ lw_all := lw_g (lw_at lw_m6 93 rfl) rfl
theorem q1422 : (Jvm.Cond.methodLink "StoneYear" (487 : Nat) ({ cls := "StoneYear", name := "wallFault", desc := "(II)I" } : Jvm.MethodName)) ∈ lw_all := lw_g (lw_at lw_m6 94 rfl) rfl
theorem q1423 : (Jvm.Cond.privateMethod ({ cls := "StoneYear", name := "wallFault", desc := "(II)I" } : Jvm.MethodName)) ∈ lw_tbl := lw_at lw_m6 95 rfl
theorem q1424 : (Jvm.Cond.instanceMethod ({ cls := "StoneYear", name := "wallFault", desc := "(II)I" } : Jvm.MethodName)) ∈ lw_all := lw_g (lw_at lw_m6 96 rfl) rfl
theorem q1425 : (Jvm.Cond.code ({ cls := "StoneYear", name := "wallFault", desc := "(II)I" } : Jvm.MethodName) prog_1_method_65_code (6 : Nat) (Option.some Jvm.ClassFile.FieldType.int)) ∈ lw_all := lw_g (lw_at lw_m6 97 rfl) rfl
theorem q1426 : (Jvm.Cond.constantLong "StoneYear" (485 : Nat) (40 : Int64)) ∈ lw_all := lw_g (lw_at lw_m6 98 rfl) rfl
theorem q1427 : (Jvm.Cond.methodLink "StoneYear" (490 : Nat) ({ cls := "StoneYear", name := "wallYears", desc := "(I)I" } : Jvm.MethodName)) ∈ lw_all := lw_g (lw_at lw_m6 99 rfl) rfl
theorem q1428 : (Jvm.Cond.privateMethod ({ cls := "StoneYear", name := "wallYears", desc := "(I)I" } : Jvm.MethodName)) ∈ lw_tbl := lw_at lw_m6 100 rfl
theorem q1429 : (Jvm.Cond.instanceMethod ({ cls := "StoneYear", name := "wallYears", desc := "(I)I" } : Jvm.MethodName)) ∈ lw_all := lw_g (lw_at lw_m6 101 rfl) rfl
theorem q1430 : (Jvm.Cond.code ({ cls := "StoneYear", name := "wallYears", desc := "(I)I" } : Jvm.MethodName) prog_1_method_66_code (4 : Nat) (Option.some Jvm.ClassFile.FieldType.int)) ∈ lw_all := lw_g (lw_at lw_m6 102 rfl) rfl
theorem q1432 : (Jvm.Cond.instanceMethod ({ cls := "StoneYear", name := "partner", desc := "(IIII)I" } : Jvm.MethodName)) ∈ lw_all := lw_g (lw_at lw_m6 104 rfl) rfl
theorem q1433 : (Jvm.Cond.selects "StoneYear" ({ cls := "StoneYear", name := "partner", desc := "(IIII)I" } : Jvm.MethodName) ({ cls := "StoneYear", name := "partner", desc := "(IIII)I" } : Jvm.MethodName)) ∈ lw_all := lw_g (lw_at lw_m6 105 rfl) rfl
theorem q1434 : (Jvm.Cond.code ({ cls := "StoneYear", name := "partner", desc := "(IIII)I" } : Jvm.MethodName) prog_1_method_68_code (7 : Nat) (Option.some Jvm.ClassFile.FieldType.int)) ∈ lw_all := lw_g (lw_at lw_m6 106 rfl) rfl
theorem q1435 : (Jvm.Cond.methodLink "StoneYear" (493 : Nat) ({ cls := "StoneYear", name := "inRing", desc := "(II)I" } : Jvm.MethodName)) ∈ lw_all := lw_g (lw_at lw_m6 107 rfl) rfl
theorem q1436 : (Jvm.Cond.privateMethod ({ cls := "StoneYear", name := "inRing", desc := "(II)I" } : Jvm.MethodName)) ∈ lw_tbl := lw_at lw_m6 108 rfl
theorem q1437 : (Jvm.Cond.instanceMethod ({ cls := "StoneYear", name := "inRing", desc := "(II)I" } : Jvm.MethodName)) ∈ lw_all := lw_g (lw_at lw_m6 109 rfl) rfl
theorem q1438 : (Jvm.Cond.code ({ cls := "StoneYear", name := "inRing", desc := "(II)I" } : Jvm.MethodName) prog_1_method_69_code (8 : Nat) (Option.some Jvm.ClassFile.FieldType.int)) ∈ lw_all := lw_g (lw_at lw_m6 110 rfl) rfl
theorem q1439 : (Jvm.Cond.methodLink "StoneYear" (496 : Nat) ({ cls := "java/lang/Math", name := "min", desc := "(II)I" } : Jvm.MethodName)) ∈ lw_all := lw_g (lw_at lw_m6 111 rfl) rfl
theorem q1440 : (Jvm.Cond.methodLink "StoneYear" (499 : Nat) ({ cls := "java/lang/Math", name := "floorMod", desc := "(II)I" } : Jvm.MethodName)) ∈ lw_all := lw_g (lw_at lw_m6 112 rfl) rfl
theorem q1444 : (Jvm.Cond.instanceMethod ({ cls := "StoneYear", name := "threshold", desc := "(II)I" } : Jvm.MethodName)) ∈ lw_all := lw_g (lw_at lw_m6 116 rfl) rfl
theorem q1445 : (Jvm.Cond.selects "StoneYear" ({ cls := "StoneYear", name := "threshold", desc := "(II)I" } : Jvm.MethodName) ({ cls := "StoneYear", name := "threshold", desc := "(II)I" } : Jvm.MethodName)) ∈ lw_all := lw_g (lw_at lw_m6 117 rfl) rfl
theorem q1446 : (Jvm.Cond.code ({ cls := "StoneYear", name := "threshold", desc := "(II)I" } : Jvm.MethodName) prog_1_method_70_code (7 : Nat) (Option.some Jvm.ClassFile.FieldType.int)) ∈ lw_all := lw_g (lw_at lw_m6 118 rfl) rfl
theorem q1447 : (Jvm.Cond.methodLink "StoneYear" (502 : Nat) ({ cls := "java/lang/Integer", name := "signum", desc := "(I)I" } : Jvm.MethodName)) ∈ lw_all := lw_g (lw_at lw_m6 119 rfl) rfl
theorem q1450 : (Jvm.Cond.methodLink "StoneYear" (505 : Nat) ({ cls := "java/lang/Math", name := "abs", desc := "(I)I" } : Jvm.MethodName)) ∈ lw_all := lw_g (lw_at lw_m6 122 rfl) rfl
theorem q1452 : (Jvm.Cond.instanceMethod ({ cls := "StoneYear", name := "numbers", desc := "(III)I" } : Jvm.MethodName)) ∈ lw_all := lw_g (lw_at lw_m6 124 rfl) rfl
theorem q1453 : (Jvm.Cond.selects "StoneYear" ({ cls := "StoneYear", name := "numbers", desc := "(III)I" } : Jvm.MethodName) ({ cls := "StoneYear", name := "numbers", desc := "(III)I" } : Jvm.MethodName)) ∈ lw_all := lw_g (lw_at lw_m6 125 rfl) rfl
theorem q1454 : (Jvm.Cond.code ({ cls := "StoneYear", name := "numbers", desc := "(III)I" } : Jvm.MethodName) prog_1_method_72_code (4 : Nat) (Option.some Jvm.ClassFile.FieldType.int)) ∈ lw_all := lw_g (lw_at lw_m6 126 rfl) rfl
theorem q1455 : (Jvm.Cond.methodLink "StoneYear" (508 : Nat) ({ cls := "StoneYear$Numbers", name := "begins", desc := "(II)Z" } : Jvm.MethodName)) ∈ lw_all := lw_g (lw_at lw_m6 127 rfl) rfl
theorem q1544 : (Jvm.Cond.instanceMethod ({ cls := "StoneYear", name := "write", desc := "(IIJ)J" } : Jvm.MethodName)) ∈ lw_all := lw_g (lw_at lw_m6 216 rfl) rfl
theorem q1545 : (Jvm.Cond.selects "StoneYear" ({ cls := "StoneYear", name := "write", desc := "(IIJ)J" } : Jvm.MethodName) ({ cls := "StoneYear", name := "write", desc := "(IIJ)J" } : Jvm.MethodName)) ∈ lw_all := lw_g (lw_at lw_m6 217 rfl) rfl
theorem q1546 : (Jvm.Cond.codeWith ({ cls := "StoneYear", name := "write", desc := "(IIJ)J" } : Jvm.MethodName) prog_1_method_73_code (6 : Nat) (Option.some Jvm.ClassFile.FieldType.long) [((11 : Nat), (32 : Nat), (33 : Nat), (516 : Nat)), ((11 : Nat), (32 : Nat), (39 : Nat), (520 : Nat))]) ∈ lw_all := lw_g (lw_at lw_m6 218 rfl) rfl
theorem q1547 : (Jvm.Cond.classLink "StoneYear" (516 : Nat) "java/lang/NullPointerException") ∈ lw_all := lw_g (lw_at lw_m6 219 rfl) rfl
theorem q1572 : (Jvm.Cond.classLink "StoneYear" (520 : Nat) "java/lang/ArrayIndexOutOfBoundsException") ∈ lw_all := lw_g (lw_at lw_m7 4 rfl) rfl
theorem q1591 : (Jvm.Cond.constantLong "StoneYear" (510 : Nat) (-2 : Int64)) ∈ lw_all := lw_g (lw_at lw_m7 23 rfl) rfl
theorem q1592 : (Jvm.Cond.methodLink "StoneYear" (512 : Nat) ({ cls := "StoneYear$Numbers", name := "puts", desc := "(IJ)V" } : Jvm.MethodName)) ∈ lw_all := lw_g (lw_at lw_m7 24 rfl) rfl
theorem q1596 : (Jvm.Cond.constantLong "StoneYear" (518 : Nat) (-6 : Int64)) ∈ lw_all := lw_g (lw_at lw_m7 28 rfl) rfl
theorem q1597 : (Jvm.Cond.constantLong "StoneYear" (522 : Nat) (-7 : Int64)) ∈ lw_all := lw_g (lw_at lw_m7 29 rfl) rfl
theorem q1599 : (Jvm.Cond.instanceMethod ({ cls := "StoneYear", name := "image", desc := "(I)I" } : Jvm.MethodName)) ∈ lw_all := lw_g (lw_at lw_m7 31 rfl) rfl
theorem q1600 : (Jvm.Cond.selects "StoneYear" ({ cls := "StoneYear", name := "image", desc := "(I)I" } : Jvm.MethodName) ({ cls := "StoneYear", name := "image", desc := "(I)I" } : Jvm.MethodName)) ∈ lw_all := lw_g (lw_at lw_m7 32 rfl) rfl
theorem q1601 : (Jvm.Cond.code ({ cls := "StoneYear", name := "image", desc := "(I)I" } : Jvm.MethodName) prog_1_method_74_code (2 : Nat) (Option.some Jvm.ClassFile.FieldType.int)) ∈ lw_all := lw_g (lw_at lw_m7 33 rfl) rfl
theorem q1602 : (Jvm.Cond.methodLink "StoneYear" (524 : Nat) ({ cls := "StoneYear$State", name := "copy", desc := "()LStoneYear$State;" } : Jvm.MethodName)) ∈ lw_all := lw_g (lw_at lw_m7 34 rfl) rfl
theorem q1609 : (Jvm.Cond.instanceMethod ({ cls := "StoneYear", name := "restore", desc := "(I)I" } : Jvm.MethodName)) ∈ lw_all := lw_g (lw_at lw_m7 41 rfl) rfl
theorem q1610 : (Jvm.Cond.selects "StoneYear" ({ cls := "StoneYear", name := "restore", desc := "(I)I" } : Jvm.MethodName) ({ cls := "StoneYear", name := "restore", desc := "(I)I" } : Jvm.MethodName)) ∈ lw_all := lw_g (lw_at lw_m7 42 rfl) rfl
theorem q1611 : (Jvm.Cond.code ({ cls := "StoneYear", name := "restore", desc := "(I)I" } : Jvm.MethodName) prog_1_method_75_code (2 : Nat) (Option.some Jvm.ClassFile.FieldType.int)) ∈ lw_all := lw_g (lw_at lw_m7 43 rfl) rfl
theorem q1613 : (Jvm.Cond.instanceMethod ({ cls := "StoneYear", name := "count", desc := "(I)I" } : Jvm.MethodName)) ∈ lw_all := lw_g (lw_at lw_m7 45 rfl) rfl
theorem q1614 : (Jvm.Cond.selects "StoneYear" ({ cls := "StoneYear", name := "count", desc := "(I)I" } : Jvm.MethodName) ({ cls := "StoneYear", name := "count", desc := "(I)I" } : Jvm.MethodName)) ∈ lw_all := lw_g (lw_at lw_m7 46 rfl) rfl
theorem q1615 : (Jvm.Cond.code ({ cls := "StoneYear", name := "count", desc := "(I)I" } : Jvm.MethodName) prog_1_method_76_code (2 : Nat) (Option.some Jvm.ClassFile.FieldType.int)) ∈ lw_all := lw_g (lw_at lw_m7 47 rfl) rfl
theorem q2236 : (Jvm.Cond.castable "StoneYear" "java/lang/Object") ∈ lw_tbl := lw_at lw_m9 188 rfl
theorem in_X0 : ∀ w ∈ wsX00, w ∈ lw_all := lw_in wsX00 [468, 470, 472, 474, 476, 478, 480, 482, 484, 486, 488, 490, 492, 494, 496, 498, 500, 502, 504, 506, 508, 510, 512] (by decide +kernel) (by decide +kernel)
